/-! QUERIES, 5: commands are told -/
/-- what is told of commands, on both sides -/
def CMDR (h : am_H) : Prop := (h 1 18 = 0 ∧ h 254 71 = 0) ∨ (h 1 18 ≠ 0 ∧ h 254 71 ≠ 0 ∧ CMDS h)
theorem q_command (d e L : Nat) {h : am_H} (C : CMDR h) (x y : Int) : ∃ r, am_D (d + 2) 0 8 [am_r (am_a 1), am_i x, am_i y] (zS L, h) = pI L r h ∧ am_D (e + 1) 17 75 [am_r (am_a 254), am_i x, am_i y] (zS L, h) = pI L r h := by
  rw [D_0_8, D_17_75]
  rcases C with ⟨c1, c2⟩ | ⟨c1, c2, l, ⟨l1, l2⟩, l3, l4⟩
  · exact ⟨-1, by rw [if_pos c1], by rw [if_pos c2]⟩
  rw [if_neg c1, if_neg c2]
  by_cases z1 : x < 0
  · exact ⟨-1, by rw [if_pos z1], by rw [if_pos z1]⟩
  rw [if_neg z1, if_neg z1]
  by_cases z2 : x < (l.length : Int)
  · rw [if_pos (show x < h 235 3 by omega), if_pos (show x < h 254 76 by omega)]
    by_cases z3 : y < 0
    · exact ⟨-1, by rw [if_pos z3], by rw [if_pos z3]⟩
    rw [if_neg z3, if_neg z3]
    by_cases z4 : 2 < y
    · exact ⟨-1, by rw [if_pos z4], by rw [if_pos z4]⟩
    rw [if_neg z4, if_neg z4, D_8_2]
    obtain ⟨n, rfl⟩ : ∃ n : Nat, x = (n : Int) := ⟨x.toNat, by omega⟩
    have hn : n < l.length := by omega
    have hv := List.getElem?_eq_getElem hn
    obtain ⟨⟨v1, v2, v3⟩, ⟨v4, v5⟩, v6⟩ := l4 n _ hv
    obtain ⟨w1, w2, w3⟩ := l2 n _ hv
    rw [Nat.zero_add] at w1 w2 w3
    rw [p_s16 v4.1 v4.2] at w2
    rw [p_s16 v5.1 v5.2] at w3
    by_cases y0 : y = 0
    · refine ⟨h 305 n, ?_, ?_⟩
      · rw [if_pos y0, p_idx (by omega) (by omega), Int.toNat_natCast, w1, v1]
        show am_xI (zS L) (pI L _ h) _ _ = _
        rw [p_xI]
      · rw [if_pos y0, p_idx (by omega) (by omega), Int.toNat_natCast]
    · rw [if_neg y0, if_neg y0]
      by_cases y1 : y = 1
      · refine ⟨h 306 n, ?_, ?_⟩
        · rw [if_pos y1, p_idx (by omega) (by omega), Int.toNat_natCast, w2, v2]
          show am_xI (zS L) (pI L _ h) _ _ = _
          rw [p_xI]
        · rw [if_pos y1, p_idx (by omega) (by omega), Int.toNat_natCast]
      · refine ⟨h 307 n, ?_, ?_⟩
        · rw [if_neg y1, p_idx (by omega) (by omega), Int.toNat_natCast, w3, v3]
          show am_xI (zS L) (pI L _ h) _ _ = _
          rw [p_xI]
        · rw [if_neg y1, p_idx (by omega) (by omega), Int.toNat_natCast]
  · exact ⟨-1, by rw [if_neg (show ¬ x < h 235 3 by omega)], by rw [if_neg (show ¬ x < h 254 76 by omega)]⟩
