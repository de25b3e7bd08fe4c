/-! PURE LAYER, 150: variables and calls of a text without notes -/
section
variable {K P V sc ss : Nat → Int} {S : am_H}
theorem m_var_in (sub : Int) (t : Nat) : m_var V S sub t = -1 ∨ ∃ v : Nat, m_var V S sub t = (v : Int) ∧ (v : Int) < S 254 25 ∧ (S 271 v = sub ∨ S 271 v = -1) := by
  have go : ∀ (n : Nat) (o f x : Int) (B : Nat), n ≤ B → (o = -1 ∨ ∃ v : Nat, o = (v : Int) ∧ v < B ∧ (S 271 v = sub ∨ S 271 v = -1)) → (f = -1 ∨ ∃ v : Nat, f = (v : Int) ∧ v < B ∧ (S 271 v = sub ∨ S 271 v = -1)) → (x = -1 ∨ ∃ v : Nat, x = (v : Int) ∧ v < B ∧ (S 271 v = sub ∨ S 271 v = -1)) → (m_varf V S sub t n o f x = -1 ∨ ∃ v : Nat, m_varf V S sub t n o f x = (v : Int) ∧ v < B ∧ (S 271 v = sub ∨ S 271 v = -1)) := by
    intro n
    induction n with
    | zero => intro o f x B h1 h3 h4 h5; unfold m_varf; split <;> (try split) <;> assumption
    | succ n ih =>
      intro o f x B h1 h3 h4 h5
      unfold m_varf
      split
      · refine ih _ _ _ B (by omega) ?_ ?_ ?_
        · by_cases z : S 271 n = sub
          · rw [if_pos z]; exact Or.inr ⟨n, rfl, by omega, Or.inl z⟩
          · rw [if_neg z]; exact h3
        · by_cases z : S 271 n = -1 ∧ S 270 n = S 263 sub.toNat ∧ S 272 n = 1
          · rw [if_pos z]; exact Or.inr ⟨n, rfl, by omega, Or.inr z.1⟩
          · rw [if_neg z]; exact h4
        · by_cases z : S 271 n = -1 ∧ S 270 n = S 263 sub.toNat ∧ S 272 n = 0
          · rw [if_pos z]; exact Or.inr ⟨n, rfl, by omega, Or.inr z.1⟩
          · rw [if_neg z]; exact h5
      · exact ih _ _ _ B (by omega) h3 h4 h5
  rcases go (S 254 25).toNat (-1) (-1) (-1) (S 254 25).toNat (Nat.le_refl _) (Or.inl rfl) (Or.inl rfl) (Or.inl rfl) with z | ⟨v, z1, z2, z3⟩
  · exact Or.inl z
  · exact Or.inr ⟨v, z1, by omega, z3⟩
/-- what a variable of an item is -/
def vkS (S : am_H) (s : Nat) (x : Int) (v : Nat) : Prop := x = (v : Int) ∧ v < 1100 ∧ (0 ≤ S 272 v ∧ S 272 v ≤ 3) ∧ (0 ≤ S 275 v ∧ S 275 v ≤ 11) ∧ (0 ≤ S 276 v ∧ S 276 v ≤ 11) ∧ (S 272 v = 1 → S 264 s ≠ 2) ∧ (2 ≤ S 272 v → S 271 v = (s : Int)) ∧ (S 272 v = 2 → S 275 v < S 267 s) ∧ (S 272 v = 3 → S 275 v < S 268 s)
theorem vk_of {s : Nat} {t : Nat} (VRS : ∀ v : Nat, (v : Int) < S 254 25 → VR S v) (h25 : S 254 25 ≤ 1100) (h1 : m_var V S (s : Int) t ≠ -1) (h2 : nt_cv P S (s : Int) (m_var V S (s : Int) t) t = []) : ∃ v : Nat, vkS S s (m_var V S (s : Int) t) v := by
  rcases m_var_in (V := V) (S := S) (s : Int) t with z | ⟨v, z1, z2, z3⟩
  · exact absurd z h1
  · obtain ⟨⟨r1, r2, r3⟩, ⟨r4, r5, r6⟩, r7, r8, r9, r10⟩ := VRS v z2
    have e2 : 2 ≤ S 272 v → S 271 v = (s : Int) := fun z => by
      rcases z3 with w | w
      · exact w
      · have := r3 z; omega
    refine ⟨v, z1, by omega, r1, r4, r5, fun z => ?_, e2, fun z => ?_, fun z => ?_⟩
    · intro w
      unfold nt_cv at h2
      rw [z1] at h2
      rw [if_pos ⟨by omega, by rw [Int.toNat_natCast]; exact r2 (by omega), by rw [Int.toNat_natCast]; exact z, by rw [Int.toNat_natCast]; exact w⟩] at h2
      cases h2
    · have := r9 z
      rw [e2 (by omega), Int.toNat_natCast] at this
      exact this
    · have := r10 z
      rw [e2 (by omega), Int.toNat_natCast] at this
      exact this
theorem m_cof_in (t : Nat) (h14 : 0 ≤ S 254 14) : m_cof V sc S t = -1 ∨ 0 ≤ m_cof V sc S t ∧ m_cof V sc S t < 8 + S 254 14 := by
  unfold m_cof m_sc
  rcases p_find_rg sc (V t) 8 0 with z | ⟨z1, z2, -⟩
  · rw [if_pos z]
    rcases p_find_rg (fun k => V (S 261 k).toNat) (V t) (S 254 14).toNat 0 with w | ⟨w1, w2, -⟩
    · rw [if_pos w]; exact Or.inl rfl
    · rw [if_neg (by omega)]; right; omega
  · rw [if_neg (by omega)]; right; omega
theorem m_kc_in {k : Nat} (h14 : 0 ≤ S 254 14) (h63 : ∀ s : Nat, (s : Int) < S 254 17 → 0 ≤ S 263 s) (h89 : ∃ s : Nat, S 289 k = (s : Int) ∧ (s : Int) < S 254 17) (h : m_kc K V sc S k ≠ -1) : 0 ≤ m_kc K V sc S k := by
  unfold m_kc at h ⊢
  by_cases c1 : S 282 k = -1
  · rw [if_pos c1]
    obtain ⟨s, z1, z2⟩ := h89
    have := h63 s z2
    rw [z1, Int.toNat_natCast]; omega
  · rw [if_neg c1] at h ⊢
    by_cases c2 : m_var V S (S 289 k) (S 282 k).toNat = -1
    · rw [if_pos c2] at h ⊢
      rcases m_cof_in (V := V) (sc := sc) (S 282 k).toNat h14 with z | z
      · exact absurd z h
      · exact z.1
    · rw [if_neg c2] at h ⊢
      by_cases c3 : K (S 274 (m_var V S (S 289 k) (S 282 k).toNat).toNat).toNat = 2
      · rw [if_pos c3] at h ⊢
        rcases m_cof_in (V := V) (sc := sc) (S 274 (m_var V S (S 289 k) (S 282 k).toNat).toNat).toNat h14 with z | z
        · exact absurd z h
        · exact z.1
      · rw [if_neg c3] at h; exact absurd rfl h
theorem ck_of {k : Nat} (N : nt_k K P V sc ss S k = []) : (m_kc K V sc S k ≠ -1 ∧ m_sof V ss S (m_kc K V sc S k) (S 283 k).toNat ≠ -1) ∧ (m_me S (m_kc K V sc S k) (m_sof V ss S (m_kc K V sc S k) (S 283 k).toNat) = (if 0 < m_ko V S k then 1 else 0) ∧ m_mo S (m_kc K V sc S k) (m_sof V ss S (m_kc K V sc S k) (S 283 k).toNat) = S 284 k) ∧ (m_ko V S k = 2 → S 264 (S 289 k).toNat ≠ 2) ∧ (S 282 k ≠ -1 → nt_cv P S (S 289 k) (m_var V S (S 289 k) (S 282 k).toNat) (S 282 k).toNat = []) := by
  unfold nt_k at N
  obtain ⟨N1, N2⟩ := List.append_eq_nil_iff.1 N
  have c1 : m_kc K V sc S k ≠ -1 := fun z => by rw [if_pos z] at N2; cases N2
  rw [if_neg c1] at N2
  unfold nt_k2 at N2
  have c2 : m_sof V ss S (m_kc K V sc S k) (S 283 k).toNat ≠ -1 := fun z => by rw [if_pos z] at N2; cases N2
  rw [if_neg c2] at N2
  obtain ⟨N3, N4⟩ := List.append_eq_nil_iff.1 N2
  refine ⟨⟨c1, c2⟩, ?_, fun z w => ?_, fun z => ?_⟩
  · apply Classical.byContradiction
    intro z
    rw [if_neg z] at N3; cases N3
  · rw [if_pos ⟨z, w⟩] at N4; cases N4
  · rw [if_neg z] at N1; exact N1
theorem sof_in {c : Int} {t : Nat} (h17 : 0 ≤ S 254 17) (h297 : ∀ q, q < 8 → 0 ≤ S 297 q ∧ S 297 q ≤ S 297 (q + 1)) (c0 : 0 ≤ c) (h : m_sof V ss S c t ≠ -1) : ∃ s : Nat, m_sof V ss S c t = (s : Int) ∧ (c < 8 → S 297 c.toNat ≤ (s : Int) ∧ (s : Int) < S 297 (c.toNat + 1)) ∧ (8 ≤ c → (s : Int) < S 254 17) := by
  unfold m_sof at h ⊢
  by_cases z : c < 8
  · rw [if_pos z] at h ⊢
    have := h297 c.toNat (by omega)
    rcases p_find_rg ss (V t) (S 297 (c.toNat + 1) - S 297 c.toNat).toNat (S 297 c.toNat).toNat with w | ⟨w1, w2, -⟩
    · exact absurd w h
    · refine ⟨(p_find ss (V t) (S 297 (c.toNat + 1) - S 297 c.toNat).toNat (S 297 c.toNat).toNat).toNat, by omega, fun _ => by omega, fun z2 => by omega⟩
  · rw [if_neg z] at h ⊢
    rcases p_find2_rg (S 263) (fun s => V (S 265 s).toNat) (c - 8) (V t) (S 254 17).toNat 0 with w | ⟨w1, w2, -⟩
    · exact absurd w h
    · exact ⟨(p_find2 (S 263) (fun s => V (S 265 s).toNat) (c - 8) (V t) (S 254 17).toNat 0).toNat, by omega, fun z2 => by omega, fun _ => by omega⟩
theorem m_kc_lt {k : Nat} (h14 : 0 ≤ S 254 14) (h63 : ∀ s : Nat, (s : Int) < S 254 17 → S 263 s < S 254 14) (h89 : ∃ s : Nat, S 289 k = (s : Int) ∧ (s : Int) < S 254 17) : m_kc K V sc S k < 8 + S 254 14 := by
  unfold m_kc
  by_cases c1 : S 282 k = -1
  · rw [if_pos c1]
    obtain ⟨s, z1, z2⟩ := h89
    have := h63 s z2
    rw [z1, Int.toNat_natCast]; omega
  · rw [if_neg c1]
    by_cases c2 : m_var V S (S 289 k) (S 282 k).toNat = -1
    · rw [if_pos c2]
      rcases m_cof_in (V := V) (sc := sc) (S 282 k).toNat h14 with z | z <;> omega
    · rw [if_neg c2]
      by_cases c3 : K (S 274 (m_var V S (S 289 k) (S 282 k).toNat).toNat).toNat = 2
      · rw [if_pos c3]
        rcases m_cof_in (V := V) (sc := sc) (S 274 (m_var V S (S 289 k) (S 282 k).toNat).toNat).toNat h14 with z | z <;> omega
      · rw [if_neg c3]; omega
theorem m_fst_rg (s : Nat) : ∀ (m : Nat) (f : Int), m ≤ s → 0 ≤ f → f ≤ (s : Int) → 0 ≤ m_fst S s m f ∧ m_fst S s m f ≤ (s : Int)
  | 0, f, _, h1, h2 => ⟨h1, h2⟩
  | m + 1, f, h, h1, h2 => by
    unfold m_fst
    refine m_fst_rg s m _ (by omega) ?_ ?_
    · split <;> omega
    · split <;> omega
end
