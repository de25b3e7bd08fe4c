/-! PURE LAYER, 118: what lists of tokens look like -/
/-- values and places of a token -/
def lx_q (n : Nat) (q : Int × Int × Int) : Prop := (q.1 = 3 → 0 ≤ q.2.1 ∧ q.2.1 ≤ 32767) ∧ (q.1 = 4 → 0 ≤ q.2.1 ∧ q.2.1 ≤ 60 ∧ q.2.2 + 1 + q.2.1 ≤ n) ∧ (q.1 = 1 → 0 ≤ q.2.1 ∧ q.2.1 ≤ 20) ∧ (0 ≤ q.2.1) ∧ ((q.1 = 0 ∨ q.1 = 5 ∨ q.1 = 6) → q.2.1 ≤ 255) ∧ (0 ≤ q.2.2 ∧ q.2.2 ≤ n)
section
variable {t : Nat → Int} {n : Nat}
theorem lx_tok_q (ht : ∀ k, k < n → 0 ≤ t k ∧ t k ≤ 255) {k : Nat} (hk : k < n) : (lx_tok t n k).1 ≠ 2 → lx_q n ((lx_tok t n k).1, (lx_tok t n k).2.1, (k : Int)) := by
  intro h2
  have tk := ht k hk
  unfold lx_tok at h2 ⊢
  by_cases c1 : lx_letter (t k)
  · rw [if_pos c1] at h2 ⊢
    by_cases c2 : 16 < lx_word t n n k - k
    · rw [if_pos c2]
      exact ⟨fun z => (by cases z), fun z => (by cases z), fun z => (by cases z), by dsimp only; omega, fun _ => by dsimp only; omega, by dsimp only; omega⟩
    · rw [if_neg c2] at h2; exact absurd rfl h2
  · rw [if_neg c1]
    by_cases c2 : lx_digit (t k)
    · rw [if_pos c2]
      obtain ⟨a, b, f, g⟩ := lx_digs_rg (t := t) (n := n) n k (by omega) (by omega)
      by_cases c3 : lx_digs t n n k - k ≤ 5 ∧ lx_num t (lx_digs t n n k - k) k 0 ≤ 32767 ∧ ¬ lx_part (lx_at t n (lx_digs t n n k))
      · rw [if_pos c3]
        have p := lx_num_rg (t := t) (lx_digs t n n k - k) k 0 (Int.le_refl _) (fun j j1 j2 => f j j1 (by omega))
        exact ⟨fun _ => ⟨p, c3.2.1⟩, fun z => (by cases z), fun z => (by cases z), p, fun z => (by rcases z with z | z | z <;> cases z), by dsimp only; omega⟩
      · rw [if_neg c3]
        exact ⟨fun z => (by cases z), fun z => (by cases z), fun z => (by cases z), by dsimp only; omega, fun _ => by dsimp only; omega, by dsimp only; omega⟩
    · rw [if_neg c2]
      by_cases c3 : t k = 34
      · rw [if_pos c3]
        obtain ⟨a, b, f⟩ := lx_str_rg (t := t) (n := n) 60 (k + 1) (by omega)
        by_cases c4 : lx_at t n (lx_str t n 60 (k + 1)) = 34
        · rw [if_pos c4]
          have hl : lx_str t n 60 (k + 1) < n := by
            apply Classical.byContradiction
            intro z
            unfold lx_at at c4
            rw [if_neg z] at c4
            cases c4
          exact ⟨fun z => (by cases z), fun _ => by dsimp only; omega, fun z => (by cases z), by dsimp only; omega, fun z => (by rcases z with z | z | z <;> cases z), by dsimp only; omega⟩
        · rw [if_neg c4]
          exact ⟨fun z => (by cases z), fun z => (by cases z), fun z => (by cases z), by dsimp only; omega, fun _ => by dsimp only; omega, by dsimp only; omega⟩
      · rw [if_neg c3]
        by_cases c4 : lx_sign (t k)
        · rw [if_pos c4]
          exact ⟨fun z => (by cases z), fun z => (by cases z), fun z => (by cases z), by dsimp only; omega, fun _ => by dsimp only; omega, by dsimp only; omega⟩
        · rw [if_neg c4]
          exact ⟨fun z => (by cases z), fun z => (by cases z), fun z => (by cases z), by dsimp only; omega, fun _ => by dsimp only; omega, by dsimp only; omega⟩
theorem lx_res_q (ht : ∀ k, k < n → 0 ≤ t k ∧ t k ≤ 255) (N : List (List Int)) {k : Nat} (hk : k < n) : lx_q n (lx_res t n N k).1 ∧ (lx_res t n N k).1.2.2 = (k : Int) := by
  unfold lx_res
  by_cases c : (lx_tok t n k).1 = 2
  · rw [if_pos c]
    refine ⟨?_, rfl⟩
    by_cases c2 : N.idxOf (lx_span t k (lx_tok t n k).2.2) < 21
    · rw [if_pos c2]
      exact ⟨fun z => (by cases z), fun z => (by cases z), fun _ => by dsimp only; omega, by dsimp only; omega, fun z => (by rcases z with z | z | z <;> cases z), by dsimp only; omega⟩
    · rw [if_neg c2]
      exact ⟨fun z => (by cases z), fun z => (by cases z), fun z => (by cases z), by dsimp only; omega, fun z => (by rcases z with z | z | z <;> cases z), by dsimp only; omega⟩
  · rw [if_neg c]
    exact ⟨lx_tok_q ht hk c, rfl⟩
/-- the component's list -/
theorem lx_shape (ht : ∀ k, k < n → 0 ≤ t k ∧ t k ≤ 255) {most : Nat} : ∀ (m c k : Nat) (N : List (List Int)), k ≤ n → n < k + m → c ≤ most →
    1 ≤ (lx_toks t n most m c k N).1.length ∧ c + (lx_toks t n most m c k N).1.length ≤ most + 1 ∧ (∀ (i : Nat) (q : Int × Int × Int), (lx_toks t n most m c k N).1[i]? = some q → (k : Int) ≤ q.2.2 ∧ lx_q n q ∧ (0 ≤ q.1 ∧ q.1 ≤ 6) ∧ (i + 1 < (lx_toks t n most m c k N).1.length → 1 ≤ q.1 ∧ q.1 ≤ 5) ∧ (i + 1 = (lx_toks t n most m c k N).1.length → q.1 = 0 ∨ q.1 = 6 ∨ c + i = most)) ∧
    (∀ (i j : Nat) (q r : Int × Int × Int), (lx_toks t n most m c k N).1[i]? = some q → (lx_toks t n most m c k N).1[j]? = some r → i < j → q.2.2 < r.2.2)
  | 0, c, k, N, hk, hm, hc => by omega
  | m + 1, c, k, N, hk, hm, hc => by
    obtain ⟨s1, s2, s3, s4⟩ := lx_skip_rg t n (n + 1) k hk (by omega)
    unfold lx_toks
    have one : ∀ (x : Int × Int × Int), (k : Int) ≤ x.2.2 → lx_q n x → (0 ≤ x.1 ∧ x.1 ≤ 6) → (x.1 = 0 ∨ x.1 = 6 ∨ c = most) → 1 ≤ [x].length ∧ c + [x].length ≤ most + 1 ∧ (∀ (i : Nat) (q : Int × Int × Int), [x][i]? = some q → (k : Int) ≤ q.2.2 ∧ lx_q n q ∧ (0 ≤ q.1 ∧ q.1 ≤ 6) ∧ (i + 1 < [x].length → 1 ≤ q.1 ∧ q.1 ≤ 5) ∧ (i + 1 = [x].length → q.1 = 0 ∨ q.1 = 6 ∨ c + i = most)) ∧ (∀ (i j : Nat) (q r : Int × Int × Int), [x][i]? = some q → [x][j]? = some r → i < j → q.2.2 < r.2.2) := by
      intro x h1 h2 h3 h4
      refine ⟨Nat.le_refl _, by show c + 1 ≤ most + 1; omega, fun i q hq => ?_, fun i j q r hi hj hij => ?_⟩
      · cases i with
        | zero => cases hq; exact ⟨h1, h2, h3, fun z => absurd z (by show ¬ 0 + 1 < 1; omega), fun _ => by rcases h4 with z | z | z; exact Or.inl z; exact Or.inr (Or.inl z); exact Or.inr (Or.inr (by omega))⟩
        | succ i => cases hq
      · cases j with
        | zero => omega
        | succ j => cases hj
    by_cases c1 : (lx_skip t n (n + 1) k).1 = false
    · rw [if_pos c1]
      exact one _ (by dsimp only; omega) ⟨fun z => (by cases z), fun z => (by cases z), fun z => (by cases z), by dsimp only; omega, fun _ => by dsimp only; omega, by dsimp only; omega⟩ (by dsimp only; omega) (Or.inr (Or.inl rfl))
    · rw [if_neg c1]
      by_cases c2 : n ≤ (lx_skip t n (n + 1) k).2
      · rw [if_pos c2]
        exact one _ (by dsimp only; omega) ⟨fun z => (by cases z), fun z => (by cases z), fun z => (by cases z), by dsimp only; omega, fun _ => by dsimp only; omega, by dsimp only; omega⟩ (by dsimp only; omega) (Or.inl rfl)
      · rw [if_neg c2]
        have hlt : (lx_skip t n (n + 1) k).2 < n := by omega
        generalize (lx_skip t n (n + 1) k).2 = p at *
        obtain ⟨rq, rp⟩ := lx_res_q ht N hlt
        have rn := lx_res_num (t := t) (n := n) (N := N) (k := p)
        by_cases c3 : (lx_res t n N p).1.1 = 6 ∨ most < c + 1
        · rw [if_pos c3]
          refine one _ (by rw [rp]; omega) rq (by omega) ?_
          rcases c3 with z | z
          · exact Or.inr (Or.inl z)
          · exact Or.inr (Or.inr (by omega))
        · rw [if_neg c3]
          have c6 : (lx_res t n N p).1.1 ≠ 6 := fun z => c3 (Or.inl z)
          obtain ⟨r1, r2⟩ := lx_res_rg (N := N) hlt c6
          obtain ⟨i1, i2, i3, i4⟩ := lx_shape ht (most := most) m (c + 1) (lx_res t n N p).2.2 (lx_res t n N p).2.1 r2 (by omega) (by omega)
          generalize (lx_toks t n most m (c + 1) (lx_res t n N p).2.2 (lx_res t n N p).2.1).1 = l at *
          dsimp only
          refine ⟨by rw [List.length_cons]; omega, by rw [List.length_cons]; omega, fun i q hq => ?_, fun i j q r hi hj hij => ?_⟩
          · cases i with
            | zero =>
              cases hq
              refine ⟨by rw [rp]; omega, rq, by omega, fun _ => by omega, fun z => ?_⟩
              rw [List.length_cons] at z
              omega
            | succ i =>
              obtain ⟨a1, a2, a3, a4, a5⟩ := i3 i q hq
              refine ⟨by omega, a2, a3, fun z => a4 (by rw [List.length_cons] at z; omega), fun z => ?_⟩
              rcases a5 (by rw [List.length_cons] at z; omega) with w | w | w
              · exact Or.inl w
              · exact Or.inr (Or.inl w)
              · exact Or.inr (Or.inr (by omega))
          · cases j with
            | zero => omega
            | succ j =>
              have aj := (i3 j r hj).1
              cases i with
              | zero => cases hi; rw [rp]; omega
              | succ i => exact i4 i j q r hi hj (by omega)
/-- the model's list: a token too many -/
theorem lx_mshape {ws : List (List Int)} {most : Nat} : ∀ (m c k : Nat), k ≤ n → n < k + m → c ≤ most → ∀ i z, (lx_mods t n ws most m c k)[i]? = some z → (z.1 = 7 ↔ c + i = most ∧ z.1 ≠ 0 ∧ z.1 ≠ 6)
  | 0, c, k, hk, hm, hc, i, z, hz => by omega
  | m + 1, c, k, hk, hm, hc, i, z, hz => by
    obtain ⟨s1, s2, s3, s4⟩ := lx_skip_rg t n (n + 1) k hk (by omega)
    unfold lx_mods at hz
    have one : ∀ x : Int × Int × Int × Int, (x.1 = 0 ∨ x.1 = 6) → [x][i]? = some z → (z.1 = 7 ↔ c + i = most ∧ z.1 ≠ 0 ∧ z.1 ≠ 6) := by
      intro x hx h
      cases i with
      | zero => cases h; omega
      | succ i => cases h
    by_cases c1 : (lx_skip t n (n + 1) k).1 = false
    · rw [if_pos c1] at hz; exact one _ (Or.inr rfl) hz
    · rw [if_neg c1] at hz
      by_cases c2 : n ≤ (lx_skip t n (n + 1) k).2
      · rw [if_pos c2] at hz; exact one _ (Or.inl rfl) hz
      · rw [if_neg c2] at hz
        have hlt : (lx_skip t n (n + 1) k).2 < n := by omega
        generalize (lx_skip t n (n + 1) k).2 = p at *
        by_cases c3 : (lx_tok t n p).1 = 6
        · rw [if_pos c3] at hz; exact one _ (Or.inr rfl) hz
        · rw [if_neg c3] at hz
          by_cases c4 : most < c + 1
          · rw [if_pos c4] at hz
            cases i with
            | zero => cases hz; exact ⟨fun _ => ⟨by omega, by dsimp only; omega, by dsimp only; omega⟩, fun _ => rfl⟩
            | succ i => cases hz
          · rw [if_neg c4] at hz
            cases i with
            | zero =>
              cases hz
              have : (lx_mtok t n ws p).1 ≠ 7 := by
                unfold lx_mtok
                split
                · dsimp only; split <;> decide
                · have hn := lx_res_num (t := t) (n := n) (N := []) (k := p)
                  rename_i c5
                  unfold lx_res at hn
                  rw [if_neg c5] at hn
                  dsimp only at hn ⊢
                  omega
              exact ⟨fun w => absurd w this, fun w => by omega⟩
            | succ i =>
              obtain ⟨b1, b2, b3⟩ := lx_tok_rg hlt c3
              have := lx_mshape (ws := ws) (most := most) m (c + 1) (lx_tok t n p).2.2 b2 (by omega) (by omega) i z hz
              rw [this]
              constructor
              · intro w; exact ⟨by omega, w.2⟩
              · intro w; exact ⟨by omega, w.2⟩
/-- names have numbers of the table -/
theorem lx_nm {most : Nat} : ∀ (m c k : Nat) (N : List (List Int)) (i : Nat) (q : Int × Int × Int), (lx_toks t n most m c k N).1[i]? = some q → q.1 = 2 → q.2.1 < ((lx_toks t n most m c k N).2.length : Int)
  | 0, c, k, N, i, q, h, h2 => by cases h
  | m + 1, c, k, N, i, q, h, h2 => by
    have res : ∀ p, (lx_res t n N p).1.1 = 2 → (lx_res t n N p).1.2.1 < ((lx_res t n N p).2.1.length : Int) := by
      intro p
      unfold lx_res
      by_cases e : (lx_tok t n p).1 = 2
      · rw [if_pos e]
        intro _
        have := List.idxOf_lt_length_iff.mpr (pn_add_mem N (lx_span t p (lx_tok t n p).2.2)).1
        rw [(pn_add_mem N (lx_span t p (lx_tok t n p).2.2)).2] at this
        dsimp only
        omega
      · rw [if_neg e]; intro z; exact absurd z e
    unfold lx_toks at h ⊢
    by_cases c1 : (lx_skip t n (n + 1) k).1 = false
    · rw [if_pos c1] at h ⊢
      cases i with
      | zero => cases h; cases h2
      | succ i => cases h
    · rw [if_neg c1] at h ⊢
      by_cases c2 : n ≤ (lx_skip t n (n + 1) k).2
      · rw [if_pos c2] at h ⊢
        cases i with
        | zero => cases h; cases h2
        | succ i => cases h
      · rw [if_neg c2] at h ⊢
        by_cases c3 : (lx_res t n N (lx_skip t n (n + 1) k).2).1.1 = 6 ∨ most < c + 1
        · rw [if_pos c3] at h ⊢
          cases i with
          | zero => cases h; exact res _ h2
          | succ i => cases h
        · rw [if_neg c3] at h ⊢
          cases i with
          | zero =>
            cases h
            have := res _ h2
            have le := (lx_toks_le (t := t) (n := n) (most := most) m (c + 1) (lx_res t n N (lx_skip t n (n + 1) k).2).2.2 (lx_res t n N (lx_skip t n (n + 1) k).2).2.1).1
            dsimp only
            omega
          | succ i => exact lx_nm m (c + 1) _ _ i q h h2
/-- the model's tokens end within the text -/
theorem lx_mend {ws : List (List Int)} {most : Nat} : ∀ (m c k : Nat) (i : Nat) (z : Int × Int × Int × Int), k ≤ n → (lx_mods t n ws most m c k)[i]? = some z → z.1 ≠ 0 → z.1 ≠ 6 → z.2.1 + z.2.2.1 ≤ n
  | 0, c, k, i, z, hk, hz, h0, h6 => by cases hz
  | m + 1, c, k, i, z, hk, hz, h0, h6 => by
    obtain ⟨s1, s2, s3, s4⟩ := lx_skip_rg t n (n + 1) k hk (by omega)
    unfold lx_mods at hz
    have one : ∀ x : Int × Int × Int × Int, (x.1 = 0 ∨ x.1 = 6) → [x][i]? = some z → z.2.1 + z.2.2.1 ≤ n := by
      intro x hx h
      cases i with
      | zero => cases h; omega
      | succ i => cases h
    by_cases c1 : (lx_skip t n (n + 1) k).1 = false
    · rw [if_pos c1] at hz; exact one _ (Or.inr rfl) hz
    · rw [if_neg c1] at hz
      by_cases c2 : n ≤ (lx_skip t n (n + 1) k).2
      · rw [if_pos c2] at hz; exact one _ (Or.inl rfl) hz
      · rw [if_neg c2] at hz
        have hlt : (lx_skip t n (n + 1) k).2 < n := by omega
        generalize (lx_skip t n (n + 1) k).2 = p at *
        by_cases c3 : (lx_tok t n p).1 = 6
        · rw [if_pos c3] at hz; exact one _ (Or.inr rfl) hz
        · rw [if_neg c3] at hz
          obtain ⟨b1, b2, b3⟩ := lx_tok_rg hlt c3
          have me : (lx_mtok t n ws p).2.1 + (lx_mtok t n ws p).2.2.1 ≤ n := by
            unfold lx_mtok
            split <;> dsimp only <;> omega
          by_cases c4 : most < c + 1
          · rw [if_pos c4] at hz
            cases i with
            | zero => cases hz; exact me
            | succ i => cases hz
          · rw [if_neg c4] at hz
            cases i with
            | zero => cases hz; exact me
            | succ i => exact lx_mend m (c + 1) _ i z b2 hz h0 h6
/-- names have no blanks -/
theorem lx_tok_2 {k : Nat} (hk : k < n) (h2 : (lx_tok t n k).1 = 2) : ∀ j, k ≤ j → j < (lx_tok t n k).2.2 → t j ≠ 32 := by
  unfold lx_tok at h2 ⊢
  by_cases c1 : lx_letter (t k)
  · rw [if_pos c1] at h2 ⊢
    obtain ⟨a, b, f, g⟩ := lx_word_rg (t := t) (n := n) n k (by omega) (by omega)
    by_cases c2 : 16 < lx_word t n n k - k
    · rw [if_pos c2] at h2; cases h2
    · rw [if_neg c2]
      intro j j1 j2 e
      have := f j j1 j2
      rw [e] at this
      unfold lx_part lx_digit lx_letter at this
      omega
  · rw [if_neg c1] at h2
    exfalso
    by_cases c2 : lx_digit (t k)
    · rw [if_pos c2] at h2; split at h2 <;> cases h2
    · rw [if_neg c2] at h2
      by_cases c3 : t k = 34
      · rw [if_pos c3] at h2; split at h2 <;> cases h2
      · rw [if_neg c3] at h2; split at h2 <;> cases h2
theorem lx_mnb {ws : List (List Int)} {most : Nat} : ∀ (m c k : Nat) (i : Nat) (z : Int × Int × Int × Int), k ≤ n → (lx_mods t n ws most m c k)[i]? = some z → z.1 = 1 → ∀ j : Nat, z.2.1 ≤ j → (j : Int) < z.2.1 + z.2.2.1 → t j ≠ 32
  | 0, c, k, i, z, hk, hz, h1 => by cases hz
  | m + 1, c, k, i, z, hk, hz, h1 => by
    obtain ⟨s1, s2, s3, s4⟩ := lx_skip_rg t n (n + 1) k hk (by omega)
    unfold lx_mods at hz
    have one : ∀ x : Int × Int × Int × Int, (x.1 = 0 ∨ x.1 = 6) → [x][i]? = some z → ∀ j : Nat, z.2.1 ≤ j → (j : Int) < z.2.1 + z.2.2.1 → t j ≠ 32 := by
      intro x hx h
      cases i with
      | zero => cases h; omega
      | succ i => cases h
    by_cases c1 : (lx_skip t n (n + 1) k).1 = false
    · rw [if_pos c1] at hz; exact one _ (Or.inr rfl) hz
    · rw [if_neg c1] at hz
      by_cases c2 : n ≤ (lx_skip t n (n + 1) k).2
      · rw [if_pos c2] at hz; exact one _ (Or.inl rfl) hz
      · rw [if_neg c2] at hz
        have hlt : (lx_skip t n (n + 1) k).2 < n := by omega
        generalize (lx_skip t n (n + 1) k).2 = p at *
        by_cases c3 : (lx_tok t n p).1 = 6
        · rw [if_pos c3] at hz; exact one _ (Or.inr rfl) hz
        · rw [if_neg c3] at hz
          obtain ⟨b1, b2, b3⟩ := lx_tok_rg hlt c3
          by_cases c4 : most < c + 1
          · rw [if_pos c4] at hz
            cases i with
            | zero => cases hz; cases h1
            | succ i => cases hz
          · rw [if_neg c4] at hz
            cases i with
            | zero =>
              cases hz
              by_cases e : (lx_tok t n p).1 = 2
              · intro j j1 j2
                unfold lx_mtok at j1 j2
                rw [if_pos e] at j1 j2
                dsimp only at j1 j2
                exact lx_tok_2 hlt e j (by omega) (by omega)
              · exfalso
                unfold lx_mtok at h1
                rw [if_neg e] at h1
                dsimp only at h1
                omega
            | succ i => exact lx_mnb m (c + 1) _ i z b2 hz h1
end
