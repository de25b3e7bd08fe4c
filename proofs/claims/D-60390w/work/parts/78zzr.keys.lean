/-! QUERIES, 4: keys are laid -/
section
variable {L d n : Nat} {h : am_H}
theorem ck_go {x : Nat} (hx : x ≤ 200) : ∀ (j i : Nat) {h : am_H}, i + j = x → ∃ h', am_E (am_D d) m_0_23 (.inl 3) [some (am_r (am_a 1)), some (am_i (x : Int)), some (am_i (i : Int))] [] (zS L, h) = pI L 1 (am_up (am_up h' 1 15 (x : Int)) 1 2 0) ∧ (∀ c, c ≠ 22 → h' c = h c) ∧ (∀ k, i ≤ k → k < x → h' 22 k = am_s8 (h 2 k)) ∧ (∀ k, k < i → h' 22 k = h 22 k)
  | 0, i, h, hj => by
    have : i = x := by omega
    subst this
    exact ⟨h, by rw [q_0_23_3, if_neg (by omega), p_bit1], fun _ _ => rfl, fun k h1 h2 => by omega, fun _ _ => rfl⟩
  | j + 1, i, h, hj => by
    obtain ⟨h', r1, r2, r3, r4⟩ := ck_go hx j (i + 1) (h := am_up h 22 i (am_s8 (h 2 i))) (by omega)
    refine ⟨h', ?_, fun c hc => by rw [r2 c hc, p_up_c _ _ _ _ _ hc], fun k h1 h2 => ?_, fun k hk2 => ?_⟩
    · rw [q_0_23_3, if_pos (by omega), p_idx (by omega) (by omega), p_idx (by omega) (by omega), Int.toNat_natCast, p_w (by omega) (by omega)]
      exact r1
    · by_cases z : k = i
      · rw [z, r4 i (by omega), p_up_s]
      · rw [r3 k (by omega) h2, p_up_c _ _ _ _ _ (by decide)]
    · rw [r4 k (by omega), p_up_n _ _ _ _ _ _ (Or.inr (by omega))]
theorem mk_go {x : Nat} (hx : x ≤ 200) : ∀ (j i : Nat) {h : am_H}, i + j = x → ∃ h', am_E (am_D d) m_17_120 (.inl 3) [some (am_r (am_a 254)), some (am_i (x : Int)), some (am_i (i : Int))] [] (zS L, h) = pI L 1 (am_up (am_up h' 254 102 (x : Int)) 254 1 0) ∧ (∀ c, c ≠ 319 → h' c = h c) ∧ (∀ k, i ≤ k → k < x → h' 319 k = h 255 k) ∧ (∀ k, k < i → h' 319 k = h 319 k)
  | 0, i, h, hj => by
    have : i = x := by omega
    subst this
    exact ⟨h, by rw [q_17_120_3, if_neg (by omega), p_bit1], fun _ _ => rfl, fun k h1 h2 => by omega, fun _ _ => rfl⟩
  | j + 1, i, h, hj => by
    obtain ⟨h', r1, r2, r3, r4⟩ := mk_go hx j (i + 1) (h := am_up h 319 i (h 255 i)) (by omega)
    refine ⟨h', ?_, fun c hc => by rw [r2 c hc, p_up_c _ _ _ _ _ hc], fun k h1 h2 => ?_, fun k hk2 => ?_⟩
    · rw [q_17_120_3, if_pos (by omega), p_idx (by omega) (by omega), p_idx (by omega) (by omega), Int.toNat_natCast, p_w (by omega) (by omega)]
      exact r1
    · by_cases z : k = i
      · rw [z, r4 i (by omega), p_up_s]
      · rw [r3 k (by omega) h2, p_up_c _ _ _ _ _ (by decide)]
    · rw [r4 k (by omega), p_up_n _ _ _ _ _ _ (Or.inr (by omega))]
/-- keys() of both sides; e: the tape is the same -/
theorem q_keys (x : Int) (e : h 1 2 = h 254 1) (e2 : 0 ≤ h 1 2) (T : ∀ k : Nat, (k : Int) < h 1 2 → h 2 k % 256 = h 255 k) {ky : List Int} (K : KYS ky h) : ∃ r h1 h2, am_D (n + 1) 0 23 [am_r (am_a 1), am_i x] (zS L, h) = pI L r h1 ∧ am_D (d + 1) 17 120 [am_r (am_a 254), am_i x] (zS L, h1) = pI L r h2 ∧ (h2 1 2 = h2 254 1) ∧ (h2 = h ∨ h2 1 2 = 0) ∧ (∃ ky', KYS ky' h2) ∧ p_fr [22, 319] [(1, 15), (1, 2), (254, 102), (254, 1)] h h2 := by
  by_cases c : x < 0 ∨ 200 < x ∨ h 1 2 < x
  · refine ⟨0, h, h, ?_, ?_, e, Or.inl rfl, ⟨ky, K⟩, p_fr.refl h⟩
    · rw [D_0_23]
      by_cases c1 : x < 0
      · rw [if_pos c1, p_bit0]
      · rw [if_neg c1]
        by_cases c2 : 200 < x
        · rw [if_pos c2, p_bit0]
        · rw [if_neg c2, if_pos (by omega), p_bit0]
    · rw [D_17_120]
      by_cases c1 : x < 0
      · rw [if_pos c1, p_bit0]
      · rw [if_neg c1]
        by_cases c2 : 200 < x
        · rw [if_pos c2, p_bit0]
        · rw [if_neg c2, if_pos (by omega), p_bit0]
  · obtain ⟨m, rfl⟩ := Int.eq_ofNat_of_zero_le (show 0 ≤ x by omega)
    have hm : m ≤ 200 := by omega
    obtain ⟨h1', r1, r2, r3, -⟩ := ck_go (L := L) (d := n) hm m 0 (h := h) (by omega)
    obtain ⟨h1, hh1⟩ : ∃ h1, h1 = am_up (am_up h1' 1 15 (m : Int)) 1 2 0 := ⟨_, rfl⟩
    rw [← hh1] at r1
    obtain ⟨h2', s1, s2, s3, -⟩ := mk_go (L := L) (d := d) hm m 0 (h := h1) (by omega)
    obtain ⟨h2, hh2⟩ : ∃ h2, h2 = am_up (am_up h2' 254 102 (m : Int)) 254 1 0 := ⟨_, rfl⟩
    rw [← hh2] at s1
    have c1 : ∀ c, c ≠ 1 → c ≠ 22 → h1 c = h c := fun c z1 z2 => by rw [hh1, p_up_c _ _ _ _ _ z1, p_up_c _ _ _ _ _ z1, r2 c z2]
    have c2 : ∀ c, c ≠ 254 → c ≠ 319 → h2 c = h1 c := fun c z1 z2 => by rw [hh2, p_up_c _ _ _ _ _ z1, p_up_c _ _ _ _ _ z1, s2 c z2]
    have x12 : h2 1 2 = 0 := by rw [c2 1 (by decide) (by decide), hh1, p_up_s]
    have x41 : h2 254 1 = 0 := by rw [hh2, p_up_s]
    refine ⟨1, h1, h2, ?_, ?_, by rw [x12, x41], Or.inr x12, ⟨(List.range m).map (fun k => h 255 k), ⟨?_, ?_, ?_⟩, fun j c hc => ?_⟩, ?_⟩
    · rw [D_0_23, if_neg (by omega), if_neg (by omega), if_neg (by omega)]; exact r1
    · rw [D_17_120, if_neg (by omega), if_neg (by omega), if_neg (by rw [c1 254 (by decide) (by decide)]; omega)]; exact s1
    · rw [c2 1 (by decide) (by decide), hh1, p_up_n _ _ _ _ _ _ (Or.inr (by decide)), p_up_s, List.length_map, List.length_range]
    · rw [hh2, p_up_n _ _ _ _ _ _ (Or.inr (by decide)), p_up_s, List.length_map, List.length_range]
    · rw [List.length_map, List.length_range]; exact hm
    · have hj := (List.getElem?_eq_some_iff.1 hc).1
      rw [List.length_map, List.length_range] at hj
      rw [List.getElem?_map, List.getElem?_range hj] at hc
      have hc : h 255 j = c := Option.some.inj hc
      have t := T j (by omega)
      refine ⟨?_, ?_, ?_⟩
      · rw [c2 22 (by decide) (by decide), hh1, p_up_c _ _ _ _ _ (by decide), p_up_c _ _ _ _ _ (by decide), r3 j (Nat.zero_le _) hj, p_and255, p_s8_mod, p_s8_mod, t, hc]
      · rw [hh2, p_up_c _ _ _ _ _ (by decide), p_up_c _ _ _ _ _ (by decide), s3 j (Nat.zero_le _) hj, c1 255 (by decide) (by decide), hc]
      · rw [← hc, ← t]
        have := Int.emod_nonneg (h 2 j) (show (256 : Int) ≠ 0 by decide)
        have := Int.emod_lt_of_pos (h 2 j) (show (0 : Int) < 256 by decide)
        omega
    · intro c j hc hj
      have z22 : c ≠ 22 := by intro z; subst z; revert hc; decide
      have z319 : c ≠ 319 := by intro z; subst z; revert hc; decide
      by_cases z1 : c = 254
      · subst z1
        rw [hh2, p_up_n _ _ _ _ _ _ (Or.inr (by intro z; subst z; revert hj; decide)), p_up_n _ _ _ _ _ _ (Or.inr (by intro z; subst z; revert hj; decide)), s2 254 (by decide), c1 254 (by decide) (by decide)]
      · rw [c2 c z1 z319]
        by_cases z2 : c = 1
        · subst z2
          rw [hh1, p_up_n _ _ _ _ _ _ (Or.inr (by intro z; subst z; revert hj; decide)), p_up_n _ _ _ _ _ _ (Or.inr (by intro z; subst z; revert hj; decide)), r2 1 (by decide)]
        · rw [c1 c z2 z22]
end
