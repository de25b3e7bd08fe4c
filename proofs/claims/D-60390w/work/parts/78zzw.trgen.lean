/-! TRANSLATOR, 5: one turn of the loop -/
/-- the watch that is still to be put goes to the first row -/
def fmk (pd : Nat) : List (Int × Int × Int) → List (Int × Int × Int)
  | [] => []
  | e :: r => if pd = 0 then e :: r else (e.1, e.2.1, (pd : Int)) :: r
theorem trl_ne {w wd : Int} {l : vl} (hl : l.1 ≤ 10 ∨ (12 ≤ l.1 ∧ l.1 ≤ 19 ∧ l.1 ≠ 14)) : ∃ e r, trl w wd l = e :: r := by
  obtain ⟨op, sg, b⟩ := l
  dsimp only at hl
  match op, hl with
  | 0, _ => match sg with
    | 0 | 1 | 2 | 3 | _ + 4 => exact ⟨_, _, rfl⟩
  | 1, _ => match sg with
    | 0 | 1 | 2 | 3 | 4 | _ + 5 => exact ⟨_, _, rfl⟩
  | 2, _ | 3, _ | 4, _ | 5, _ | 6, _ | 7, _ | 8, _ | 9, _ | 10, _ | 12, _ | 13, _ | 15, _ | 16, _ | 19, _ => exact ⟨_, _, rfl⟩
  | 17, _ => by_cases z : sg = 1
             · exact ⟨_, _, if_pos z⟩
             · exact ⟨_, _, if_neg z⟩
  | 18, _ => by_cases z : sg = 1
             · exact ⟨_, _, if_pos z⟩
             · exact ⟨_, _, if_neg z⟩
  | 11, z => omega
  | 14, z => omega
  | _ + 20, z => omega
section
variable {L d : Nat} {h : am_H}
theorem t_gen {u2 u7 u8 u9 : Option am_V} {x4 : Int} {k pd : Nat} {l : vl} (hx4 : x4 = 0 ∨ x4 = 1) (hk : k < 9000) (hs : (k : Int) < h 8 3) (e9 : h 9 k = (l.1 : Int)) (e10 : h 10 k = (l.2.1 : Int)) (e11 : h 11 k = (l.2.2 : Int)) (hpd : pd ≤ 32767) (hl : l.1 ≤ 10 ∨ (12 ≤ l.1 ∧ l.1 ≤ 19 ∧ l.1 ≠ 14)) (h01 : l.1 = 0 → l.2.1 ≤ 4) (h11 : l.1 = 1 → 1 ≤ l.2.1 ∧ l.2.1 ≤ 5) (ha : l.2.1 ≤ 32000) (hb : l.2.2 ≤ 32767 ∧ (3 ≤ l.2.1 → l.2.2 ≤ 32000)) (h15 : l.1 = 15 → l.2.1 < 130) (h0 : 0 ≤ h 12 3) (h1 : h 12 3 + 12 ≤ 32767) : ∃ h' v7 v8 v9, am_E (am_D (d + 4)) m_14_29 (.inl 1) [some (am_r (am_a 12)), some (am_r (am_a 8)), u2, some (am_r (am_a 217)), some (am_i x4), some (am_i (pd : Int)), some (am_i (k : Int)), u7, u8, u9] [] (zS L, h) = am_E (am_D (d + 4)) m_14_29 (.inl 1) [some (am_r (am_a 12)), some (am_r (am_a 8)), u2, some (am_r (am_a 217)), some (am_i x4), some (am_i 0), some (am_i ((k + 1 : Nat) : Int)), v7, v8, v9] [] (zS L, h') ∧ TL h h' (fmk pd (trl (h 12 3) x4 l)) := by
  obtain ⟨g1, r1, T1⟩ := t_ln (L := L) (d := d) (u2 := u2) (u9 := u9) (x5 := (pd : Int)) hx4 hk e9 hl h01 h11 ha hb h15 h0 h1
  obtain ⟨e, rr, er⟩ := trl_ne (w := h 12 3) (wd := x4) hl
  rw [er] at T1
  have n9 : g1 9 = h 9 := T1.2.2.2.2 9 (by decide) (by decide) (by decide) (by decide)
  have sz : g1 12 3 = h 12 3 + ((rr.length + 1 : Nat) : Int) := T1.1
  have E : am_E (am_D (d + 4)) m_14_29 (.inl 1) [some (am_r (am_a 12)), some (am_r (am_a 8)), u2, some (am_r (am_a 217)), some (am_i x4), some (am_i (pd : Int)), some (am_i (k : Int)), u7, u8, u9] [] (zS L, h) = am_E (am_D (d + 4)) m_14_29 (.inl 31) [some (am_r (am_a 12)), some (am_r (am_a 8)), u2, some (am_r (am_a 217)), some (am_i x4), some (am_i (pd : Int)), some (am_i (k : Int)), some (am_i (l.2.1 : Int)), some (am_i (l.2.2 : Int)), some (am_i (h 12 3))] [] (zS L, g1) := by
    rw [q_14_29_1, if_pos hs, p_idx (by omega) (by omega), p_idx (by omega) (by omega), Int.toNat_natCast, e10, e11]
    by_cases z : (0 : Int) < (pd : Int)
    · rw [if_pos z, p_idx (by omega) (by omega), Int.toNat_natCast, e9, if_neg (by omega), p_idx (by omega) (by omega), Int.toNat_natCast, e9, if_neg (by omega)]
      exact r1
    · rw [if_neg z]; exact r1
  rw [er]
  by_cases z : pd = 0
  · subst z
    refine ⟨g1, some (am_i (l.2.1 : Int)), some (am_i (l.2.2 : Int)), some (am_i (h 12 3)), E.trans ?_, T1⟩
    rw [q_14_29_31, p_idx (by omega) (by omega), Int.toNat_natCast, n9, e9, if_neg (by omega), if_pos (by omega), if_neg (by omega), p_w (by omega) (by omega)]; rfl
  · refine ⟨am_up g1 16 (h 12 3).toNat (pd : Int), some (am_i (l.2.1 : Int)), some (am_i (l.2.2 : Int)), some (am_i (h 12 3)), E.trans ?_, ?_⟩
    · rw [q_14_29_31, p_idx (by omega) (by omega), Int.toNat_natCast, n9, e9, if_neg (by omega), if_pos (by omega), if_pos (by omega), p_idx h0 (by omega), p_s16_s16, s16_id ⟨by omega, by omega⟩, p_w (by omega) (by omega)]; rfl
    · show TL h _ (if pd = 0 then e :: rr else (e.1, e.2.1, (pd : Int)) :: rr)
      rw [if_neg z]; exact T1.mark _
end
