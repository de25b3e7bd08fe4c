/-! PURE LAYER, 151: letters of strings -/
section
variable {t : Nat → Int} {n : Nat}
theorem lx_str_ch : ∀ (m k j : Nat), k ≤ j → j < lx_str t n m k → j < n ∧ 32 ≤ t j ∧ t j < 127
  | 0, k, j, h1, h2 => by
    have h2 : j < k := h2
    omega
  | m + 1, k, j, h1, h2 => by
    unfold lx_str at h2
    split at h2
    · rename_i c
      by_cases e : j = k
      · subst e
        unfold lx_at at c
        split at c
        · rename_i z; exact ⟨z, c.1, c.2.1⟩
        · omega
      · exact lx_str_ch m (k + 1) j (by omega) h2
    · omega
theorem lx_tok_str {k : Nat} (h : (lx_tok t n k).1 = 4) : ∀ j, j < (lx_tok t n k).2.1.toNat → k + 1 + j < n ∧ 32 ≤ t (k + 1 + j) ∧ t (k + 1 + j) < 127 := by
  intro j hj
  unfold lx_tok at h hj
  by_cases c1 : lx_letter (t k)
  · rw [if_pos c1] at h
    split at h <;> cases h
  · rw [if_neg c1] at h hj
    by_cases c2 : lx_digit (t k)
    · rw [if_pos c2] at h
      split at h <;> cases h
    · rw [if_neg c2] at h hj
      by_cases c3 : t k = 34
      · rw [if_pos c3] at h hj
        by_cases c4 : lx_at t n (lx_str t n 60 (k + 1)) = 34
        · rw [if_pos c4] at hj
          dsimp only at hj
          rw [Int.toNat_natCast] at hj
          exact lx_str_ch 60 (k + 1) (k + 1 + j) (by omega) (by omega)
        · rw [if_neg c4] at h; cases h
      · rw [if_neg c3] at h
        split at h <;> cases h
theorem lx_toks_str {most : Nat} : ∀ (m c k : Nat) (N : List (List Int)) (i : Nat) (q : Int × Int × Int), (lx_toks t n most m c k N).1[i]? = some q → q.1 = 4 → ∀ j, j < q.2.1.toNat → q.2.2.toNat + 1 + j < n ∧ 32 ≤ t (q.2.2.toNat + 1 + j) ∧ t (q.2.2.toNat + 1 + j) < 127
  | 0, c, k, N, i, q, h, h4 => by cases h
  | m + 1, c, k, N, i, q, h, h4 => by
    have one : ∀ (N : List (List Int)) (x : Nat), (lx_res t n N x).1.1 = 4 → ∀ j, j < (lx_res t n N x).1.2.1.toNat → (lx_res t n N x).1.2.2.toNat + 1 + j < n ∧ 32 ≤ t ((lx_res t n N x).1.2.2.toNat + 1 + j) ∧ t ((lx_res t n N x).1.2.2.toNat + 1 + j) < 127 := by
      intro N x hx j hj
      unfold lx_res at hx hj ⊢
      by_cases c2 : (lx_tok t n x).1 = 2
      · rw [if_pos c2] at hx
        dsimp only at hx
        split at hx <;> cases hx
      · rw [if_neg c2] at hx hj ⊢
        dsimp only at hx hj ⊢
        rw [Int.toNat_natCast]
        exact lx_tok_str hx j hj
    unfold lx_toks at h
    split at h
    · cases i with
      | zero => cases h; cases h4
      | succ i => cases h
    · split at h
      · cases i with
        | zero => cases h; cases h4
        | succ i => cases h
      · split at h
        · cases i with
          | zero => cases h; exact one _ _ h4
          | succ i => cases h
        · cases i with
          | zero => cases h; exact one _ _ h4
          | succ i =>
            have h : (lx_toks t n most m (c + 1) (lx_res t n N (lx_skip t n (n + 1) k).2).2.2 (lx_res t n N (lx_skip t n (n + 1) k).2).2.1).1[i]? = some q := h
            exact lx_toks_str m (c + 1) _ _ i q h h4
end
