/-! TRANSLATOR, 2: lines without labels -/
def rx (ws : List Int) : List (Int × Int × Int) := ws.map (fun w => (w, -1, 0))
section
variable {L d : Nat} {h : am_H}
theorem t_two (x w : Int) (hw : am_s16 (am_or (am_or 57344 (am_shl x 6)) (am_shl 1 3)) = w) (h0 : 0 ≤ h 12 3) (h1 : h 12 3 + 5 ≤ 32768) : TW L (d + 4) 25 [am_r (am_a 12), am_i x] h (rx (wPop ++ [-4960, w])) := by
  obtain ⟨g1, r1, T1⟩ := t_pop (L := L) (d := d) h0 (by omega)
  have s1 : g1 12 3 = h 12 3 + 3 := T1.1
  obtain ⟨g2, r2, T2⟩ := t_put (L := L) (d := d + 1) (h := g1) 4 50 (-4960) (by omega) (by omega) (by decide)
  have s2 : g2 12 3 = g1 12 3 + 1 := T2.1
  obtain ⟨g3, r3, T3⟩ := t_put (L := L) (d := d + 1) (h := g2) 1 x w (by omega) (by omega) hw
  exact ⟨g3, by rw [D_14_25, r1, p_xV, r2, p_xV, r3, p_xV], T1.app h0 (T2.app (by omega) T3)⟩
theorem t_one (x w : Int) (hw : am_s16 (am_or (am_or 57344 (am_shl x 6)) (am_shl 1 3)) = w) (h0 : 0 ≤ h 12 3) (h1 : h 12 3 + 3 ≤ 32768) : TW L (d + 3) 26 [am_r (am_a 12), am_i x] h (rx [0, -864, w]) := by
  obtain ⟨g1, r1, T1⟩ := t_at (L := L) (d := d) 0 h0 (by omega)
  have s1 : g1 12 3 = h 12 3 + 1 := T1.1
  obtain ⟨g2, r2, T2⟩ := t_put (L := L) (d := d) (h := g1) 4 114 (-864) (by omega) (by omega) (by decide)
  have s2 : g2 12 3 = g1 12 3 + 1 := T2.1
  obtain ⟨g3, r3, T3⟩ := t_put (L := L) (d := d) (h := g2) 1 x w (by omega) (by omega) hw
  exact ⟨g3, by rw [D_14_26, r1, p_xV, r2, p_xV, r3, p_xV], T1.app h0 (T2.app (by omega) T3)⟩
theorem t_call {s : Nat} (hs : s < 130) (h0 : 0 ≤ h 12 3) (h1 : h 12 3 + 4 ≤ 32767) : TW L (d + 4) 28 [am_r (am_a 12), am_i (s : Int)] h [(h 12 3 + 4, -1, 0), (-5104, -1, 0), (0, 1500 + (s : Int), 0), (-5497, -1, 0)] := by
  obtain ⟨g1, r1, T1⟩ := t_at (L := L) (d := d + 1) (h 12 3 + 4) h0 (by omega)
  rw [s16_id ⟨by omega, by omega⟩] at T1
  have s1 : g1 12 3 = h 12 3 + 1 := T1.1
  obtain ⟨g2, r2, T2⟩ := t_put (L := L) (d := d + 1) (h := g1) 2 48 (-5104) (by omega) (by omega) (by decide)
  have s2 : g2 12 3 = g1 12 3 + 1 := T2.1
  obtain ⟨g3, r3, T3⟩ := t_go (L := L) (d := d) (h := g2) (1500 + (s : Int)) (by omega) (by omega) ⟨by omega, by omega⟩
  exact ⟨g3, by rw [D_14_28, p_w (by omega) (by omega), r1, p_xV, r2, p_xV, D_14_2, p_w (by omega) (by omega)]; show am_xI (zS L) (pI L (1500 + (s : Int)) g2) _ _ = _; rw [p_xI, r3, p_xV], T1.app h0 (T2.app (by omega) T3)⟩
/-- push -/
theorem t_pushc {k : Nat} (hk : k ≤ 32767) (h0 : 0 ≤ h 12 3) (h1 : h 12 3 + 6 ≤ 32768) : TW L (d + 4) 23 [am_r (am_a 12), am_i 0, am_i (k : Int)] h (rx ([(k : Int), -5104] ++ wPush)) := by
  obtain ⟨g1, r1, T1⟩ := t_at (L := L) (d := d + 1) (k : Int) h0 (by omega)
  rw [s16_id ⟨by omega, by omega⟩] at T1
  have s1 : g1 12 3 = h 12 3 + 1 := T1.1
  obtain ⟨g2, r2, T2⟩ := t_put (L := L) (d := d + 1) (h := g1) 2 48 (-5104) (by omega) (by omega) (by decide)
  have s2 : g2 12 3 = g1 12 3 + 1 := T2.1
  obtain ⟨g3, r3, T3⟩ := t_push (L := L) (d := d) (h := g2) (by omega) (by omega)
  exact ⟨g3, by rw [D_14_23, if_pos rfl, r1, p_xV, r2, p_xV, r3, p_xV], T1.app h0 (T2.app (by omega) T3)⟩
theorem t_pusht {k b : Nat} (sg : Int) (hs : sg = 3 ∧ b = 16 ∨ sg = 4 ∧ b = 3 ∨ sg = 5 ∧ b = 5) (hk : b + k ≤ 32767) (h0 : 0 ≤ h 12 3) (h1 : h 12 3 + 6 ≤ 32768) : TW L (d + 4) 23 [am_r (am_a 12), am_i sg, am_i (k : Int)] h (rx (wTake ((b + k : Nat) : Int) ++ wPush)) := by
  obtain ⟨g1, r1, T1⟩ := t_take (L := L) (d := d) ((b + k : Nat) : Int) ⟨by omega, by omega⟩ h0 (by omega)
  have s1 : g1 12 3 = h 12 3 + 2 := T1.1
  obtain ⟨g2, r2, T2⟩ := t_push (L := L) (d := d) (h := g1) (by omega) (by omega)
  refine ⟨g2, ?_, T1.app h0 T2⟩
  rcases hs with ⟨rfl, rfl⟩ | ⟨rfl, rfl⟩ | ⟨rfl, rfl⟩
  · rw [D_14_23, if_neg (by decide), if_neg (by decide), if_neg (by decide), if_pos rfl, p_w (by omega) (by omega), show (16 : Int) + (k : Int) = ((16 + k : Nat) : Int) by omega, r1, p_xV, r2, p_xV]
  · rw [D_14_23, if_neg (by decide), if_neg (by decide), if_neg (by decide), if_neg (by decide), if_pos rfl, p_w (by omega) (by omega), show (3 : Int) + (k : Int) = ((3 + k : Nat) : Int) by omega, r1, p_xV, r2, p_xV]
  · rw [D_14_23, if_neg (by decide), if_neg (by decide), if_neg (by decide), if_neg (by decide), if_neg (by decide), if_pos rfl, p_w (by omega) (by omega), show (5 : Int) + (k : Int) = ((5 + k : Nat) : Int) by omega, r1, p_xV, r2, p_xV]
theorem t_pushs {k b : Nat} (sg : Int) (hs : sg = 1 ∧ b = 2 ∨ sg = 2 ∧ b = 1) (hk : k ≤ 32767) (h0 : 0 ≤ h 12 3) (h1 : h 12 3 + 9 ≤ 32768) : TW L (d + 4) 23 [am_r (am_a 12), am_i sg, am_i (k : Int)] h (rx ([(k : Int), -5104, (b : Int), -3936, -1008] ++ wPush)) := by
  obtain ⟨g1, r1, T1⟩ := t_at (L := L) (d := d + 1) (k : Int) h0 (by omega)
  rw [s16_id ⟨by omega, by omega⟩] at T1
  have s1 : g1 12 3 = h 12 3 + 1 := T1.1
  obtain ⟨g2, r2, T2⟩ := t_put (L := L) (d := d + 1) (h := g1) 2 48 (-5104) (by omega) (by omega) (by decide)
  have s2 : g2 12 3 = g1 12 3 + 1 := T2.1
  obtain ⟨g3, r3, T3⟩ := t_at (L := L) (d := d + 1) (h := g2) (b : Int) (by omega) (by omega)
  rw [s16_id ⟨by omega, by omega⟩] at T3
  have s3 : g3 12 3 = g2 12 3 + 1 := T3.1
  obtain ⟨g4, r4, T4⟩ := t_put (L := L) (d := d + 1) (h := g3) 4 66 (-3936) (by omega) (by omega) (by decide)
  have s4 : g4 12 3 = g3 12 3 + 1 := T4.1
  obtain ⟨g5, r5, T5⟩ := t_put (L := L) (d := d + 1) (h := g4) 2 112 (-1008) (by omega) (by omega) (by decide)
  have s5 : g5 12 3 = g4 12 3 + 1 := T5.1
  obtain ⟨g6, r6, T6⟩ := t_push (L := L) (d := d) (h := g5) (by omega) (by omega)
  refine ⟨g6, ?_, T1.app h0 (T2.app (by omega) (T3.app (by omega) (T4.app (by omega) (T5.app (by omega) T6))))⟩
  rcases hs with ⟨rfl, rfl⟩ | ⟨rfl, rfl⟩
  · have r3 : am_D (d + 3) 14 4 [am_r (am_a 12), am_i 2] (zS L, g2) = pV L g3 := r3
    rw [D_14_23, if_neg (by decide), if_pos rfl, q_14_23_5, r1, p_xV, r2, p_xV, if_neg (by decide), q_14_23_7, r3, p_xV, r4, p_xV, r5, p_xV, r6, p_xV]
  · have r3 : am_D (d + 3) 14 4 [am_r (am_a 12), am_i 1] (zS L, g2) = pV L g3 := r3
    rw [D_14_23, if_neg (by decide), if_neg (by decide), if_pos rfl, q_14_23_5, r1, p_xV, r2, p_xV, if_pos rfl, q_14_23_7, r3, p_xV, r4, p_xV, r5, p_xV, r6, p_xV]
/-- pop -/
theorem t_popt {k b : Nat} (sg : Int) (hs : sg = 3 ∧ b = 16 ∨ sg = 4 ∧ b = 3 ∨ sg = 5 ∧ b = 5) (hk : b + k ≤ 32767) (h0 : 0 ≤ h 12 3) (h1 : h 12 3 + 5 ≤ 32768) : TW L (d + 4) 24 [am_r (am_a 12), am_i sg, am_i (k : Int)] h (rx (wPop ++ wKeep ((b + k : Nat) : Int))) := by
  obtain ⟨g1, r1, T1⟩ := t_pop (L := L) (d := d) h0 (by omega)
  have s1 : g1 12 3 = h 12 3 + 3 := T1.1
  obtain ⟨g2, r2, T2⟩ := t_keep (L := L) (d := d) (h := g1) ((b + k : Nat) : Int) ⟨by omega, by omega⟩ (by omega) (by omega)
  refine ⟨g2, ?_, T1.app h0 T2⟩
  rcases hs with ⟨rfl, rfl⟩ | ⟨rfl, rfl⟩ | ⟨rfl, rfl⟩
  · rw [D_14_24, if_pos rfl, q_14_24_1, r1, p_xV, if_pos rfl, p_w (by omega) (by omega), show (16 : Int) + (k : Int) = ((16 + k : Nat) : Int) by omega, r2, p_xV]
  · rw [D_14_24, if_neg (by decide), if_pos rfl, q_14_24_1, r1, p_xV, if_neg (by decide), if_pos rfl, p_w (by omega) (by omega), show (3 : Int) + (k : Int) = ((3 + k : Nat) : Int) by omega, r2, p_xV]
  · rw [D_14_24, if_neg (by decide), if_neg (by decide), if_pos rfl, q_14_24_1, r1, p_xV, if_neg (by decide), if_neg (by decide), p_w (by omega) (by omega), show (5 : Int) + (k : Int) = ((5 + k : Nat) : Int) by omega, r2, p_xV]
theorem t_pops {k b : Nat} (sg : Int) (hs : sg = 1 ∧ b = 2 ∨ sg = 2 ∧ b = 1) (hk : k ≤ 32767) (h0 : 0 ≤ h 12 3) (h1 : h 12 3 + 12 ≤ 32768) : TW L (d + 4) 24 [am_r (am_a 12), am_i sg, am_i (k : Int)] h (rx ([(k : Int), -5104, (b : Int), -3952] ++ (wKeep ((13 : Nat) : Int) ++ (wPop ++ [((13 : Nat) : Int), -992, -7416])))) := by
  obtain ⟨g1, r1, T1⟩ := t_at (L := L) (d := d + 1) (k : Int) h0 (by omega)
  rw [s16_id ⟨by omega, by omega⟩] at T1
  have s1 : g1 12 3 = h 12 3 + 1 := T1.1
  obtain ⟨g2, r2, T2⟩ := t_put (L := L) (d := d + 1) (h := g1) 2 48 (-5104) (by omega) (by omega) (by decide)
  have s2 : g2 12 3 = g1 12 3 + 1 := T2.1
  obtain ⟨g3, r3, T3⟩ := t_at (L := L) (d := d + 1) (h := g2) (b : Int) (by omega) (by omega)
  rw [s16_id ⟨by omega, by omega⟩] at T3
  have s3 : g3 12 3 = g2 12 3 + 1 := T3.1
  obtain ⟨g4, r4, T4⟩ := t_put (L := L) (d := d + 1) (h := g3) 2 66 (-3952) (by omega) (by omega) (by decide)
  have s4 : g4 12 3 = g3 12 3 + 1 := T4.1
  obtain ⟨g5, r5, T5⟩ := t_keep (L := L) (d := d) (h := g4) 13 ⟨by decide, by decide⟩ (by omega) (by omega)
  have s5 : g5 12 3 = g4 12 3 + 2 := T5.1
  obtain ⟨g6, r6, T6⟩ := t_pop (L := L) (d := d) (h := g5) (by omega) (by omega)
  have s6 : g6 12 3 = g5 12 3 + 3 := T6.1
  obtain ⟨g7, r7, T7⟩ := t_at (L := L) (d := d + 1) (h := g6) 13 (by omega) (by omega)
  rw [show am_s16 13 = 13 by decide] at T7
  have s7 : g7 12 3 = g6 12 3 + 1 := T7.1
  obtain ⟨g8, r8, T8⟩ := t_put (L := L) (d := d + 1) (h := g7) 4 112 (-992) (by omega) (by omega) (by decide)
  have s8 : g8 12 3 = g7 12 3 + 1 := T8.1
  obtain ⟨g9, r9, T9⟩ := t_put (L := L) (d := d + 1) (h := g8) 1 12 (-7416) (by omega) (by omega) (by decide)
  refine ⟨g9, ?_, T1.app h0 (T2.app (by omega) (T3.app (by omega) (T4.app (by omega) (T5.app (by omega) (T6.app (by omega) (T7.app (by omega) (T8.app (by omega) T9)))))))⟩
  rcases hs with ⟨rfl, rfl⟩ | ⟨rfl, rfl⟩
  · have r3 : am_D (d + 3) 14 4 [am_r (am_a 12), am_i 2] (zS L, g2) = pV L g3 := r3
    rw [D_14_24, if_neg (by decide), if_neg (by decide), if_neg (by decide), r1, p_xV, r2, p_xV, if_neg (by decide), q_14_24_7, r3, p_xV, r4, p_xV, r5, p_xV, r6, p_xV, r7, p_xV, r8, p_xV, r9, p_xV]
  · have r3 : am_D (d + 3) 14 4 [am_r (am_a 12), am_i 1] (zS L, g2) = pV L g3 := r3
    rw [D_14_24, if_neg (by decide), if_neg (by decide), if_neg (by decide), r1, p_xV, r2, p_xV, if_pos rfl, q_14_24_7, r3, p_xV, r4, p_xV, r5, p_xV, r6, p_xV, r7, p_xV, r8, p_xV, r9, p_xV]
end
