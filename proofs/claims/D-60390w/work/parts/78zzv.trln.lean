/-! TRANSLATOR, 4: one line of code (printed in part) -/
def rrt (w : Int) (k : Nat) : List (Int × Int × Int) := [(w + 6, -1, 0), (-5104, -1, 0), (15, -1, 0), (-7416, -1, 0), (0, 1630 + (k : Int), 0), (-5497, -1, 0)]
/-- rows of a line -/
def trl (w wd : Int) (l : vl) : List (Int × Int × Int) := match l.1 with
  | 0 => (match l.2.1 with
    | 0 => rx ([(l.2.2 : Int), -5104] ++ wPush)
    | 1 => rx ([(l.2.2 : Int), -5104, ((2 : Nat) : Int), -3936, -1008] ++ wPush)
    | 2 => rx ([(l.2.2 : Int), -5104, ((1 : Nat) : Int), -3936, -1008] ++ wPush)
    | 3 => rx (wTake ((16 + l.2.2 : Nat) : Int) ++ wPush)
    | _ => rx (wTake ((3 + l.2.2 : Nat) : Int) ++ wPush))
  | 1 => (match l.2.1 with
    | 1 => rx ([(l.2.2 : Int), -5104, ((2 : Nat) : Int), -3952] ++ (wKeep ((13 : Nat) : Int) ++ (wPop ++ [((13 : Nat) : Int), -992, -7416])))
    | 2 => rx ([(l.2.2 : Int), -5104, ((1 : Nat) : Int), -3952] ++ (wKeep ((13 : Nat) : Int) ++ (wPop ++ [((13 : Nat) : Int), -992, -7416])))
    | 3 => rx (wPop ++ wKeep ((16 + l.2.2 : Nat) : Int))
    | 4 => rx (wPop ++ wKeep ((3 + l.2.2 : Nat) : Int))
    | _ => rx (wPop ++ wKeep ((5 + l.2.2 : Nat) : Int)))
  | 2 => rx (wPop ++ [-4960, -3960])
  | 3 => rx (wPop ++ [-4960, -3640])
  | 4 => rx [0, -864, -824]
  | 5 => rx (wPop ++ [-4960, -4088])
  | 6 => rx (wPop ++ [-4960, -2744])
  | 7 => rx [0, -864, -952]
  | 8 => rrt w 2
  | 9 => rrt w 3
  | 10 => rrt w 4
  | 12 => [(0, (l.2.1 : Int), 0), (-5497, -1, 0)]
  | 13 => rx wPop ++ ([(0, (l.2.1 : Int), 0)] ++ [(-7419, -1, 0)])
  | 15 => [(w + 4, -1, 0), (-5104, -1, 0), (0, 1500 + (l.2.1 : Int), 0), (-5497, -1, 0)]
  | 16 => [(0, 1631, if wd = 0 then 0 else 2), (-5497, -1, 0)]
  | 17 => if l.2.1 = 1 then rrt w 5 else rrt w 7
  | 18 => if l.2.1 = 1 then rrt w 6 else rrt w 8
  | 19 => rx ([(l.2.1 : Int), -5104, ((3 : Nat) : Int), -3952] ++ wPush)
  | _ => []
section
variable {L d : Nat} {h : am_H}
/-- where the line's end is met -/
def TE (L d : Nat) (u2 : Option am_V) (x4 x5 : Int) (k : Nat) (a b : Int) (u9 : Option am_V) (h : am_H) (l : List (Int × Int × Int)) : Prop := ∃ h', am_E (am_D (d + 4)) m_14_29 (.inl 3) [some (am_r (am_a 12)), some (am_r (am_a 8)), u2, some (am_r (am_a 217)), some (am_i x4), some (am_i x5), some (am_i (k : Int)), some (am_i a), some (am_i b), u9] [] (zS L, h) = am_E (am_D (d + 4)) m_14_29 (.inl 31) [some (am_r (am_a 12)), some (am_r (am_a 8)), u2, some (am_r (am_a 217)), some (am_i x4), some (am_i x5), some (am_i (k : Int)), some (am_i a), some (am_i b), some (am_i (h 12 3))] [] (zS L, h') ∧ TL h h' l
theorem t_ln {u2 u9 : Option am_V} {x4 x5 : Int} {k : Nat} {l : vl} (hx4 : x4 = 0 ∨ x4 = 1) (hk : k < 9000) (e9 : h 9 k = (l.1 : Int)) (hl : l.1 ≤ 10 ∨ (12 ≤ l.1 ∧ l.1 ≤ 19 ∧ l.1 ≠ 14)) (h01 : l.1 = 0 → l.2.1 ≤ 4) (h11 : l.1 = 1 → 1 ≤ l.2.1 ∧ l.2.1 ≤ 5) (ha : l.2.1 ≤ 32000) (hb : l.2.2 ≤ 32767 ∧ (3 ≤ l.2.1 → l.2.2 ≤ 32000)) (h15 : l.1 = 15 → l.2.1 < 130) (h0 : 0 ≤ h 12 3) (h1 : h 12 3 + 12 ≤ 32767) : TE L d u2 x4 x5 k (l.2.1 : Int) (l.2.2 : Int) u9 h (trl (h 12 3) x4 l) := by
  obtain ⟨op, sg, b⟩ := l
  dsimp only at e9 hl h01 h11 ha hb h15 ⊢
  match op, hl with
  | 0, _ =>
    have pre : ∀ rows, TW L (d + 4) 23 [am_r (am_a 12), am_i (sg : Int), am_i (b : Int)] h rows → TE L d u2 x4 x5 k (sg : Int) (b : Int) u9 h rows := fun rows ⟨g1, r1, T1⟩ => ⟨g1, by rw [q_14_29_3, p_idx (by omega) (by omega), Int.toNat_natCast, e9, if_pos (by omega), r1, p_xV], T1⟩
    match sg, h01 rfl with
    | 0, _ => exact pre _ (t_pushc (L := L) (d := d) (by omega) h0 (by omega))
    | 1, _ => exact pre _ (t_pushs (L := L) (d := d) (b := 2) 1 (Or.inl ⟨rfl, rfl⟩) (by omega) h0 (by omega))
    | 2, _ => exact pre _ (t_pushs (L := L) (d := d) (b := 1) 2 (Or.inr ⟨rfl, rfl⟩) (by omega) h0 (by omega))
    | 3, _ => exact pre _ (t_pusht (L := L) (d := d) (b := 16) 3 (Or.inl ⟨rfl, rfl⟩) (by omega) h0 (by omega))
    | 4, _ => exact pre _ (t_pusht (L := L) (d := d) (b := 3) 4 (Or.inr (Or.inl ⟨rfl, rfl⟩)) (by omega) h0 (by omega))
    | _ + 5, z => omega
  | 1, _ =>
    have pre : ∀ rows, TW L (d + 4) 24 [am_r (am_a 12), am_i (sg : Int), am_i (b : Int)] h rows → TE L d u2 x4 x5 k (sg : Int) (b : Int) u9 h rows := fun rows ⟨g1, r1, T1⟩ => ⟨g1, by rw [q_14_29_3, p_idx (by omega) (by omega), Int.toNat_natCast, e9, if_neg (by omega), if_pos (by omega), r1, p_xV], T1⟩
    match sg, h11 rfl with
    | 0, z => omega
    | 1, _ => exact pre _ (t_pops (L := L) (d := d) (b := 2) 1 (Or.inl ⟨rfl, rfl⟩) (by omega) h0 (by omega))
    | 2, _ => exact pre _ (t_pops (L := L) (d := d) (b := 1) 2 (Or.inr ⟨rfl, rfl⟩) (by omega) h0 (by omega))
    | 3, _ => exact pre _ (t_popt (L := L) (d := d) (b := 16) 3 (Or.inl ⟨rfl, rfl⟩) (by omega) h0 (by omega))
    | 4, _ => exact pre _ (t_popt (L := L) (d := d) (b := 3) 4 (Or.inr (Or.inl ⟨rfl, rfl⟩)) (by omega) h0 (by omega))
    | 5, _ => exact pre _ (t_popt (L := L) (d := d) (b := 5) 5 (Or.inr (Or.inr ⟨rfl, rfl⟩)) (by omega) h0 (by omega))
    | _ + 6, z => omega
  | 2, _ =>
    obtain ⟨g1, r1, T1⟩ := t_two (L := L) (d := d) (h := h) 66 (-3960) (by decide) h0 (by omega)
    exact ⟨g1, by rw [q_14_29_3, p_idx (by omega) (by omega), Int.toNat_natCast, e9, if_neg (by omega), if_neg (by omega), if_pos (by omega), r1, p_xV], T1⟩
  | 3, _ =>
    obtain ⟨g1, r1, T1⟩ := t_two (L := L) (d := d) (h := h) 71 (-3640) (by decide) h0 (by omega)
    exact ⟨g1, by rw [q_14_29_3, p_idx (by omega) (by omega), Int.toNat_natCast, e9, if_neg (by omega), if_neg (by omega), if_neg (by omega), if_pos (by omega), r1, p_xV], T1⟩
  | 4, _ =>
    obtain ⟨g1, r1, T1⟩ := t_one (L := L) (d := d + 1) (h := h) 115 (-824) (by decide) h0 (by omega)
    exact ⟨g1, by rw [q_14_29_3, p_idx (by omega) (by omega), Int.toNat_natCast, e9, if_neg (by omega), if_neg (by omega), if_neg (by omega), if_neg (by omega), if_pos (by omega), r1, p_xV], T1⟩
  | 5, _ =>
    obtain ⟨g1, r1, T1⟩ := t_two (L := L) (d := d) (h := h) 64 (-4088) (by decide) h0 (by omega)
    exact ⟨g1, by rw [q_14_29_3, p_idx (by omega) (by omega), Int.toNat_natCast, e9, if_neg (by omega), if_neg (by omega), if_neg (by omega), if_neg (by omega), if_neg (by omega), if_pos (by omega), r1, p_xV], T1⟩
  | 6, _ =>
    obtain ⟨g1, r1, T1⟩ := t_two (L := L) (d := d) (h := h) 85 (-2744) (by decide) h0 (by omega)
    exact ⟨g1, by rw [q_14_29_3, p_idx (by omega) (by omega), Int.toNat_natCast, e9, if_neg (by omega), if_neg (by omega), if_neg (by omega), if_neg (by omega), if_neg (by omega), if_neg (by omega), if_pos (by omega), r1, p_xV], T1⟩
  | 7, _ =>
    obtain ⟨g1, r1, T1⟩ := t_one (L := L) (d := d + 1) (h := h) 113 (-952) (by decide) h0 (by omega)
    exact ⟨g1, by rw [q_14_29_3, p_idx (by omega) (by omega), Int.toNat_natCast, e9, if_neg (by omega), if_neg (by omega), if_neg (by omega), if_neg (by omega), if_neg (by omega), if_neg (by omega), if_neg (by omega), if_pos (by omega), r1, p_xV], T1⟩
  | 8, _ =>
    obtain ⟨g1, r1, T1⟩ := t_rt (L := L) (d := d) (h := h) (k := 2) (by decide) h0 (by omega)
    have r1 : am_D (d + 4) 14 14 [am_r (am_a 12), am_i 2] (zS L, h) = pV L g1 := r1
    exact ⟨g1, by rw [q_14_29_3, p_idx (by omega) (by omega), Int.toNat_natCast, e9, if_neg (by omega), if_neg (by omega), if_neg (by omega), if_neg (by omega), if_neg (by omega), if_neg (by omega), if_neg (by omega), if_neg (by omega), if_pos (by omega), r1, p_xV], T1⟩
  | 9, _ =>
    obtain ⟨g1, r1, T1⟩ := t_rt (L := L) (d := d) (h := h) (k := 3) (by decide) h0 (by omega)
    have r1 : am_D (d + 4) 14 14 [am_r (am_a 12), am_i 3] (zS L, h) = pV L g1 := r1
    exact ⟨g1, by rw [q_14_29_3, p_idx (by omega) (by omega), Int.toNat_natCast, e9, if_neg (by omega), if_neg (by omega), if_neg (by omega), if_neg (by omega), if_neg (by omega), if_neg (by omega), if_neg (by omega), if_neg (by omega), if_neg (by omega), if_pos (by omega), r1, p_xV], T1⟩
  | 10, _ =>
    obtain ⟨g1, r1, T1⟩ := t_rt (L := L) (d := d) (h := h) (k := 4) (by decide) h0 (by omega)
    have r1 : am_D (d + 4) 14 14 [am_r (am_a 12), am_i 4] (zS L, h) = pV L g1 := r1
    exact ⟨g1, by rw [q_14_29_3, p_idx (by omega) (by omega), Int.toNat_natCast, e9, if_neg (by omega), if_neg (by omega), if_neg (by omega), if_neg (by omega), if_neg (by omega), if_neg (by omega), if_neg (by omega), if_neg (by omega), if_neg (by omega), if_neg (by omega), if_pos (by omega), r1, p_xV], T1⟩
  | 12, _ =>
    obtain ⟨g1, r1, T1⟩ := t_go (L := L) (d := d + 1) (h := h) (sg : Int) h0 (by omega) ⟨by omega, by omega⟩
    exact ⟨g1, by rw [q_14_29_3, p_idx (by omega) (by omega), Int.toNat_natCast, e9, if_neg (by omega), if_neg (by omega), if_neg (by omega), if_neg (by omega), if_neg (by omega), if_neg (by omega), if_neg (by omega), if_neg (by omega), if_neg (by omega), if_neg (by omega), if_neg (by omega), if_neg (by omega), if_pos (by omega), r1, p_xV], T1⟩
  | 13, _ =>
    obtain ⟨g1, r1, T1⟩ := t_pop (L := L) (d := d + 1) (h := h) h0 (by omega)
    have s1 : g1 12 3 = h 12 3 + 3 := T1.1
    obtain ⟨g2, r2, T2⟩ := t_lab (L := L) (d := d + 2) (h := g1) (sg : Int) (by omega) (by omega) ⟨by omega, by omega⟩
    have s2 : g2 12 3 = g1 12 3 + 1 := T2.1
    obtain ⟨g3, r3, T3⟩ := t_jump (L := L) (d := d + 2) (h := g2) 12 5 (-7419) (by omega) (by omega) (by decide)
    exact ⟨g3, by rw [q_14_29_3, p_idx (by omega) (by omega), Int.toNat_natCast, e9, if_neg (by omega), if_neg (by omega), if_neg (by omega), if_neg (by omega), if_neg (by omega), if_neg (by omega), if_neg (by omega), if_neg (by omega), if_neg (by omega), if_neg (by omega), if_neg (by omega), if_neg (by omega), if_neg (by omega), if_pos (by omega), r1, p_xV, r2, p_xV, r3, p_xV], T1.app h0 (T2.app (by omega) T3)⟩
  | 15, _ =>
    obtain ⟨g1, r1, T1⟩ := t_call (L := L) (d := d) (h := h) (s := sg) (h15 rfl) h0 (by omega)
    exact ⟨g1, by rw [q_14_29_3, p_idx (by omega) (by omega), Int.toNat_natCast, e9, if_neg (by omega), if_neg (by omega), if_neg (by omega), if_neg (by omega), if_neg (by omega), if_neg (by omega), if_neg (by omega), if_neg (by omega), if_neg (by omega), if_neg (by omega), if_neg (by omega), if_neg (by omega), if_neg (by omega), if_neg (by omega), if_neg (by omega), if_pos (by omega), r1, p_xV], T1⟩
  | 16, _ =>
    obtain ⟨g1, r1, T1⟩ := t_go (L := L) (d := d + 1) (h := h) 1631 h0 (by omega) ⟨by decide, by decide⟩
    have e : am_D (d + 4) 14 1 [am_r (am_a 12), am_i 1] (zS L, h) = pI L 1631 h := by rw [D_14_1]; rfl
    rcases hx4 with rfl | rfl
    · exact ⟨g1, by rw [q_14_29_3, p_idx (by omega) (by omega), Int.toNat_natCast, e9, if_neg (by omega), if_neg (by omega), if_neg (by omega), if_neg (by omega), if_neg (by omega), if_neg (by omega), if_neg (by omega), if_neg (by omega), if_neg (by omega), if_neg (by omega), if_neg (by omega), if_neg (by omega), if_neg (by omega), if_neg (by omega), if_neg (by omega), if_neg (by omega), if_pos (by omega), e, p_xI, r1, p_xV, if_pos rfl], T1⟩
    · exact ⟨am_up g1 16 (h 12 3).toNat 2, by rw [q_14_29_3, p_idx (by omega) (by omega), Int.toNat_natCast, e9, if_neg (by omega), if_neg (by omega), if_neg (by omega), if_neg (by omega), if_neg (by omega), if_neg (by omega), if_neg (by omega), if_neg (by omega), if_neg (by omega), if_neg (by omega), if_neg (by omega), if_neg (by omega), if_neg (by omega), if_neg (by omega), if_neg (by omega), if_neg (by omega), if_pos (by omega), e, p_xI, r1, p_xV, if_neg (by decide), p_idx h0 (by omega), show am_s16 2 = 2 by decide], T1.mark 2⟩
  | 17, _ =>
    by_cases z : sg = 1
    · obtain ⟨g1, r1, T1⟩ := t_rt (L := L) (d := d) (h := h) (k := 5) (by decide) h0 (by omega)
      have r1 : am_D (d + 4) 14 14 [am_r (am_a 12), am_i 5] (zS L, h) = pV L g1 := r1
      refine ⟨g1, by rw [q_14_29_3, p_idx (by omega) (by omega), Int.toNat_natCast, e9, if_neg (by omega), if_neg (by omega), if_neg (by omega), if_neg (by omega), if_neg (by omega), if_neg (by omega), if_neg (by omega), if_neg (by omega), if_neg (by omega), if_neg (by omega), if_neg (by omega), if_neg (by omega), if_neg (by omega), if_neg (by omega), if_neg (by omega), if_neg (by omega), if_neg (by omega), if_pos (by omega), if_pos (by omega), r1, p_xV], ?_⟩
      show TL h g1 (if sg = 1 then rrt (h 12 3) 5 else rrt (h 12 3) 7)
      rw [if_pos z]; exact T1
    · obtain ⟨g1, r1, T1⟩ := t_rt (L := L) (d := d) (h := h) (k := 7) (by decide) h0 (by omega)
      have r1 : am_D (d + 4) 14 14 [am_r (am_a 12), am_i 7] (zS L, h) = pV L g1 := r1
      refine ⟨g1, by rw [q_14_29_3, p_idx (by omega) (by omega), Int.toNat_natCast, e9, if_neg (by omega), if_neg (by omega), if_neg (by omega), if_neg (by omega), if_neg (by omega), if_neg (by omega), if_neg (by omega), if_neg (by omega), if_neg (by omega), if_neg (by omega), if_neg (by omega), if_neg (by omega), if_neg (by omega), if_neg (by omega), if_neg (by omega), if_neg (by omega), if_neg (by omega), if_pos (by omega), if_neg (by omega), r1, p_xV], ?_⟩
      show TL h g1 (if sg = 1 then rrt (h 12 3) 5 else rrt (h 12 3) 7)
      rw [if_neg z]; exact T1
  | 18, _ =>
    by_cases z : sg = 1
    · obtain ⟨g1, r1, T1⟩ := t_rt (L := L) (d := d) (h := h) (k := 6) (by decide) h0 (by omega)
      have r1 : am_D (d + 4) 14 14 [am_r (am_a 12), am_i 6] (zS L, h) = pV L g1 := r1
      refine ⟨g1, by rw [q_14_29_3, p_idx (by omega) (by omega), Int.toNat_natCast, e9, if_neg (by omega), if_neg (by omega), if_neg (by omega), if_neg (by omega), if_neg (by omega), if_neg (by omega), if_neg (by omega), if_neg (by omega), if_neg (by omega), if_neg (by omega), if_neg (by omega), if_neg (by omega), if_neg (by omega), if_neg (by omega), if_neg (by omega), if_neg (by omega), if_neg (by omega), if_neg (by omega), if_pos (by omega), if_pos (by omega), r1, p_xV], ?_⟩
      show TL h g1 (if sg = 1 then rrt (h 12 3) 6 else rrt (h 12 3) 8)
      rw [if_pos z]; exact T1
    · obtain ⟨g1, r1, T1⟩ := t_rt (L := L) (d := d) (h := h) (k := 8) (by decide) h0 (by omega)
      have r1 : am_D (d + 4) 14 14 [am_r (am_a 12), am_i 8] (zS L, h) = pV L g1 := r1
      refine ⟨g1, by rw [q_14_29_3, p_idx (by omega) (by omega), Int.toNat_natCast, e9, if_neg (by omega), if_neg (by omega), if_neg (by omega), if_neg (by omega), if_neg (by omega), if_neg (by omega), if_neg (by omega), if_neg (by omega), if_neg (by omega), if_neg (by omega), if_neg (by omega), if_neg (by omega), if_neg (by omega), if_neg (by omega), if_neg (by omega), if_neg (by omega), if_neg (by omega), if_neg (by omega), if_pos (by omega), if_neg (by omega), r1, p_xV], ?_⟩
      show TL h g1 (if sg = 1 then rrt (h 12 3) 6 else rrt (h 12 3) 8)
      rw [if_neg z]; exact T1
  | 19, _ =>
    obtain ⟨g1, r1, T1⟩ := t_at (L := L) (d := d + 2) (h := h) (sg : Int) h0 (by omega)
    rw [s16_id ⟨by omega, by omega⟩] at T1
    have s1 : g1 12 3 = h 12 3 + 1 := T1.1
    obtain ⟨g2, r2, T2⟩ := t_put (L := L) (d := d + 2) (h := g1) 2 48 (-5104) (by omega) (by omega) (by decide)
    have s2 : g2 12 3 = g1 12 3 + 1 := T2.1
    obtain ⟨g3, r3, T3⟩ := t_at (L := L) (d := d + 2) (h := g2) 3 (by omega) (by omega)
    rw [show am_s16 3 = 3 by decide] at T3
    have s3 : g3 12 3 = g2 12 3 + 1 := T3.1
    obtain ⟨g4, r4, T4⟩ := t_put (L := L) (d := d + 2) (h := g3) 2 66 (-3952) (by omega) (by omega) (by decide)
    have s4 : g4 12 3 = g3 12 3 + 1 := T4.1
    obtain ⟨g5, r5, T5⟩ := t_push (L := L) (d := d + 1) (h := g4) (by omega) (by omega)
    exact ⟨g5, by rw [q_14_29_3, p_idx (by omega) (by omega), Int.toNat_natCast, e9, if_neg (by omega), if_neg (by omega), if_neg (by omega), if_neg (by omega), if_neg (by omega), if_neg (by omega), if_neg (by omega), if_neg (by omega), if_neg (by omega), if_neg (by omega), if_neg (by omega), if_neg (by omega), if_neg (by omega), if_neg (by omega), if_neg (by omega), if_neg (by omega), if_neg (by omega), if_neg (by omega), if_neg (by omega), if_pos (by omega), r1, p_xV, r2, p_xV, r3, p_xV, r4, p_xV, r5, p_xV], T1.app h0 (T2.app (by omega) (T3.app (by omega) (T4.app (by omega) T5)))⟩
  | 11, z => omega
  | 14, z => omega
  | _ + 20, z => omega
end
