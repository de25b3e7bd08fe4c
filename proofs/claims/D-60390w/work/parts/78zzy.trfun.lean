/-! TRANSLATOR, 7: a sub's line in the loop -/
section
variable {L d : Nat} {h : am_H}
theorem t_fnl {u2 u7 u8 u9 : Option am_V} {x4 : Int} {k s nl an : Nat} (hx4 : x4 = 0 ∨ x4 = 1) (hk : k < 9000) (hs : (k : Int) < h 8 3) (e9 : h 9 k = 14) (e10 : h 10 k = (s : Int)) (e11 : h 11 k = (nl : Int)) (hs2 : s < 130) (hn : nl ≤ 100) (han : an ≤ 32767) (ean : h 221 s + (if h 220 s = 3 then 1 else 0) = (an : Int)) (h0 : 0 ≤ h 12 3) (h1 : h 12 3 + 12 + 5 * nl ≤ 32767) : ∃ h' v7 v8 v9, am_E (am_D (d + 5)) m_14_29 (.inl 1) [some (am_r (am_a 12)), some (am_r (am_a 8)), u2, some (am_r (am_a 217)), some (am_i x4), some (am_i 0), some (am_i (k : Int)), u7, u8, u9] [] (zS L, h) = am_E (am_D (d + 5)) m_14_29 (.inl 1) [some (am_r (am_a 12)), some (am_r (am_a 8)), u2, some (am_r (am_a 217)), some (am_i x4), some (am_i 0), some (am_i ((k + 1 : Nat) : Int)), v7, v8, v9] [] (zS L, h') ∧ TL (am_up h 15 (1500 + s) (h 12 3)) h' (rfun (h 12 3) an nl x4) := by
  obtain ⟨g, r, T⟩ := t_fun (L := L) (d := d + 1) (h := h) (s := s) (an := an) (nl := nl) x4 hx4 hs2 han hn h0 h1
  refine ⟨g, some (am_i (s : Int)), some (am_i (nl : Int)), some (am_i (h 12 3)), ?_, T⟩
  have n9 : g 9 = h 9 := by rw [T.2.2.2.2 9 (by decide) (by decide) (by decide) (by decide), p_up_c _ _ _ _ _ (by decide)]
  have sz : g 12 3 = h 12 3 + ((rfun (h 12 3) an nl x4).length : Int) := by rw [T.1, p_up_c _ _ _ _ _ (by decide)]
  have ln : 2 ≤ (rfun (h 12 3) an nl x4).length := by unfold rfun; rw [List.length_cons, List.length_cons]; omega
  rw [q_14_29_1, if_pos hs, p_idx (by omega) (by omega), p_idx (by omega) (by omega), Int.toNat_natCast, e10, e11, if_neg (by decide), q_14_29_3, p_idx (by omega) (by omega), Int.toNat_natCast, e9, if_neg (by omega), if_neg (by omega), if_neg (by omega), if_neg (by omega), if_neg (by omega), if_neg (by omega), if_neg (by omega), if_neg (by omega), if_neg (by omega), if_neg (by omega), if_neg (by omega), if_neg (by omega), if_neg (by omega), if_neg (by omega), if_pos rfl, p_idx (by omega) (by omega), p_idx (by omega) (by omega), Int.toNat_natCast]
  by_cases z : h 220 s = 3
  · rw [if_pos z] at ean ⊢
    rw [ean, p_w (by omega) (by omega), r, p_xV, q_14_29_31, p_idx (by omega) (by omega), Int.toNat_natCast, n9, e9, if_neg (by decide), if_pos (by omega), if_neg (by decide), p_w (by omega) (by omega)]; rfl
  · rw [if_neg z] at ean ⊢
    rw [ean, p_w (by omega) (by omega), r, p_xV, q_14_29_31, p_idx (by omega) (by omega), Int.toNat_natCast, n9, e9, if_neg (by decide), if_pos (by omega), if_neg (by decide), p_w (by omega) (by omega)]; rfl
end
