/-! PURE LAYER, 1: the processor without doors: both sides do the same -/
def pb_work (b x y : Int) : Int :=
  am_s16 (if am_and b 1 = 0 then (if am_and b 2 = 0 then am_and (if am_and b 16 = 0 then (if am_and b 32 = 0 then x else 0) else am_xor (if am_and b 32 = 0 then x else 0) (-1)) (if am_and b 4 = 0 then (if am_and b 8 = 0 then y else 0) else am_xor (if am_and b 8 = 0 then y else 0) (-1)) else am_w ((if am_and b 16 = 0 then (if am_and b 32 = 0 then x else 0) else am_xor (if am_and b 32 = 0 then x else 0) (-1)) + (if am_and b 4 = 0 then (if am_and b 8 = 0 then y else 0) else am_xor (if am_and b 8 = 0 then y else 0) (-1))))
    else am_xor (if am_and b 2 = 0 then am_and (if am_and b 16 = 0 then (if am_and b 32 = 0 then x else 0) else am_xor (if am_and b 32 = 0 then x else 0) (-1)) (if am_and b 4 = 0 then (if am_and b 8 = 0 then y else 0) else am_xor (if am_and b 8 = 0 then y else 0) (-1)) else am_w ((if am_and b 16 = 0 then (if am_and b 32 = 0 then x else 0) else am_xor (if am_and b 32 = 0 then x else 0) (-1)) + (if am_and b 4 = 0 then (if am_and b 8 = 0 then y else 0) else am_xor (if am_and b 8 = 0 then y else 0) (-1)))) (-1))
theorem pb_work_rg (b x y : Int) : -32768 ≤ pb_work b x y ∧ pb_work b x y ≤ 32767 := p_s16_rg _
/-- whether a value jumps -/
abbrev pb_jmp (w v : Int) : Prop := (am_and w 4 ≠ 0 ∧ v < 0) ∨ (am_and w 2 ≠ 0 ∧ v = 0) ∨ (am_and w 1 ≠ 0 ∧ 0 < v)
section
variable (d L : Nat) (h : am_H)
theorem pb_D_10_5 (b x y : Int) : am_D (d + 1) 10 5 [am_i b, am_i x, am_i y] (zS L, h) = pI L (pb_work b x y) h := by
  rw [D_10_5]
  simp only [q_10_5_4, q_10_5_8, q_10_5_10, pb_work]
  by_cases h1 : am_and b 32 = 0 <;> by_cases h2 : am_and b 16 = 0 <;> by_cases h3 : am_and b 8 = 0 <;> by_cases h4 : am_and b 4 = 0 <;> by_cases h5 : am_and b 2 = 0 <;> by_cases h6 : am_and b 1 = 0 <;> simp only [h1, h2, h3, h4, h5, h6, if_true, if_false]
theorem pb_D_17_142 (b x y : Int) : am_D (d + 1) 17 142 [am_i b, am_i x, am_i y] (zS L, h) = pI L (pb_work b x y) h := by
  rw [D_17_142]
  simp only [q_17_142_4, q_17_142_8, q_17_142_10, pb_work]
  by_cases h1 : am_and b 32 = 0 <;> by_cases h2 : am_and b 16 = 0 <;> by_cases h3 : am_and b 8 = 0 <;> by_cases h4 : am_and b 4 = 0 <;> by_cases h5 : am_and b 2 = 0 <;> by_cases h6 : am_and b 1 = 0 <;> simp only [h1, h2, h3, h4, h5, h6, if_true, if_false]
theorem pb_D_10_6 (w v : Int) : am_D (d + 1) 10 6 [am_i w, am_i v] (zS L, h) = pI L (pB (pb_jmp w v)) h := by
  rw [D_10_6]
  simp only [q_10_6_2, p_bit0, p_bit1]
  by_cases hj : pb_jmp w v
  · rw [pB_t hj]; unfold pb_jmp at hj; (repeat' split) <;> first | rfl | (exfalso; omega)
  · rw [pB_f hj]; unfold pb_jmp at hj; (repeat' split) <;> first | rfl | (exfalso; omega)
end
/-- the processor: a, d, next, store -/
abbrev pb_S : Type := Int × Int × Int × (Nat → Int)
/-- one word -/
def pb_one (w : Int) (s : pb_S) : pb_S :=
  if w < 32768 then (w, s.2.1, s.2.2.1 + 1, s.2.2.2)
  else
    let v := pb_work (am_and (am_shr w 6) 63) s.2.1 (if am_and w 4096 = 0 then s.1 else s.2.2.2 (am_and s.1 32767).toNat)
    (if am_and w 32 = 0 then s.1 else v, if am_and w 16 = 0 then s.2.1 else v, if pb_jmp w v then am_and s.1 32767 else s.2.2.1 + 1, if am_and w 8 = 0 then s.2.2.2 else p_set s.2.2.2 (am_and s.1 32767).toNat v)
def pb_go (ws : Nat → Int) (many : Int) : Nat → pb_S → Nat × pb_S
  | 0, s => (0, s)
  | n + 1, s => if s.2.2.1 < many then ((pb_go ws many n (pb_one (ws s.2.2.1.toNat) s)).1 + 1, (pb_go ws many n (pb_one (ws s.2.2.1.toNat) s)).2) else (0, s)
/-- numbers that may stand there -/
def pb_ok (s : pb_S) : Prop := 0 ≤ s.2.2.1 ∧ s.2.2.1 ≤ 40000
theorem pb_one_ok (w : Int) (s : pb_S) (h : pb_ok s) (h2 : s.2.2.1 < 1500) : pb_ok (pb_one w s) := by
  unfold pb_ok pb_one at *
  have := p_and_nn s.1 32767 (by omega)
  split
  · dsimp only; omega
  · dsimp only
    split <;> omega
theorem pb_jmp_7 (w v : Int) : pb_jmp (am_and w 7) v ↔ pb_jmp w v := by
  unfold pb_jmp
  rw [p_and_and w 7 4 4 (by decide), p_and_and w 7 2 2 (by decide), p_and_and w 7 1 1 (by decide)]
/-- the component's processor -/
def pb_c (h : am_H) : pb_S := (h 34 2, h 34 3, h 34 4, h 35)
def pb_m (h : am_H) : pb_S := (h 254 118, h 254 119, h 254 120, h 327)
def pb_cF : List Nat := [34, 35]
def pb_mF : List (Nat × Nat) := [(254, 118), (254, 119), (254, 120), (254, 121)]
section
variable (d L : Nat) (h : am_H)
theorem pb_D_1_3 (w : Int) (hn : 0 ≤ h 34 4 ∧ h 34 4 ≤ 40000) : ∃ h', am_D (d + 2) 1 3 [am_r (am_a 34), am_i w] (zS L, h) = pV L h' ∧ pb_c h' = pb_one w (pb_c h) ∧ p_fr pb_cF [] h h' ∧ h' 34 5 = h 34 5 := by
  have hm := p_and_nn (h 34 2) 32767 (by omega)
  rw [D_1_3]
  by_cases h1 : w < 32768
  · rw [if_pos h1]
    refine ⟨_, rfl, ?_, ?_, ?_⟩
    · unfold pb_c pb_one
      rw [if_pos h1, p_w (by omega) (by omega)]
      simp [p_up, p_up_c]
    · exact ((p_fr.refl h).upc _ _ _ rfl).upc _ _ _ rfl
    · simp [p_up]
  · rw [if_neg h1]
    have key : ∀ m : Int, m = (if am_and w 4096 = 0 then h 34 2 else h 35 (am_and (h 34 2) 32767).toNat) → ∃ h', am_E (am_D (d + 1)) m_1_3 (.inl 3) [some (am_r (am_a 34)), some (am_i w), some (am_i (am_and (h 34 2) 32767)), none] [am_i m, am_i (h 34 3), am_i (am_and (am_shr w 6) 63)] (zS L, am_up h 34 4 (am_w (h 34 4 + 1))) = pV L h' ∧ pb_c h' = pb_one w (pb_c h) ∧ p_fr pb_cF [] h h' ∧ h' 34 5 = h 34 5 := by
      intro m em
      rw [q_1_3_3, pb_D_10_5, p_xI]
      have e0 : pb_one w (pb_c h) = (if am_and w 32 = 0 then h 34 2 else pb_work (am_and (am_shr w 6) 63) (h 34 3) m, if am_and w 16 = 0 then h 34 3 else pb_work (am_and (am_shr w 6) 63) (h 34 3) m, if pb_jmp w (pb_work (am_and (am_shr w 6) 63) (h 34 3) m) then am_and (h 34 2) 32767 else h 34 4 + 1, if am_and w 8 = 0 then h 35 else p_set (h 35) (am_and (h 34 2) 32767).toNat (pb_work (am_and (am_shr w 6) 63) (h 34 3) m)) := by
        rw [em]; unfold pb_one; rw [if_neg h1]; rfl
      rw [e0]
      have hr := pb_work_rg (am_and (am_shr w 6) 63) (h 34 3) m
      generalize pb_work (am_and (am_shr w 6) 63) (h 34 3) m = v at hr
      rw [p_idx (by omega) (by omega), p_w (by omega) (by omega), p_s16_s16, p_s16 hr.1 hr.2]
      simp only [q_1_3_5, pb_D_10_6, p_xI]
      by_cases h8 : am_and w 8 = 0 <;> by_cases h32 : am_and w 32 = 0 <;> by_cases h16 : am_and w 16 = 0 <;> by_cases hj : pb_jmp w v <;>
        simp only [h8, h32, h16, hj, pB_0, pb_jmp_7, if_true, if_false, not_true, not_false_iff] <;>
        refine ⟨_, rfl, ?_, ?_, ?_⟩ <;>
        first
        | (intro a j c1 c2; simp only [pb_cF, List.contains_cons, List.contains_nil, Bool.or_false, Bool.or_eq_false_iff, beq_eq_false_iff_ne] at c1; simp [p_up, c1.1, c1.2]; done)
        | (simp [pb_c, p_up, p_up_c, p_up_f]; done)
    by_cases h4 : am_and w 4096 = 0
    · rw [if_pos h4]
      exact key _ (by rw [if_pos h4])
    · rw [if_neg h4, p_idx (by omega) (by omega)]
      exact key _ (by rw [if_neg h4])
theorem pb_q_17_143_6 (x1 x2 x3 : Int) (u4 : Option am_V) : am_E (am_D d) m_17_143 (.inl 6) [some (am_r (am_a 254)), some (am_i x1), some (am_i x2), some (am_i x3), u4] [] (zS L, h) = if pb_jmp x1 x3 then pV L (am_up h 254 120 x2) else pV L h := by
  rw [q_17_143_6]
  by_cases hj : pb_jmp x1 x3
  · rw [if_pos hj]; unfold pb_jmp at hj; (repeat' split) <;> first | rfl | (exfalso; omega)
  · rw [if_neg hj]; unfold pb_jmp at hj; (repeat' split) <;> first | rfl | (exfalso; omega)
theorem pb_D_17_143 (hn : 0 ≤ h 254 120 ∧ h 254 120 < 2000) : ∃ h', am_D (d + 2) 17 143 [am_r (am_a 254)] (zS L, h) = pV L h' ∧ pb_m h' = pb_one (h 322 (h 254 120).toNat) (pb_m h) ∧ p_fr [327] pb_mF h h' ∧ h' 254 121 = am_w (h 254 121 + 1) := by
  have hm := p_and_nn (h 254 118) 32767 (by omega)
  rw [D_17_143, p_idx (by omega) (by omega)]
  generalize h 322 (h 254 120).toNat = w
  by_cases h1 : w < 32768
  · rw [if_pos h1]
    refine ⟨_, rfl, ?_, ?_, ?_⟩
    · unfold pb_m pb_one
      rw [if_pos h1, p_w (x := h 254 120 + 1) (by omega) (by omega)]
      simp [p_up, p_up_c]
    · exact (((p_fr.refl h).upf _ _ _ rfl).upf _ _ _ rfl).upf _ _ _ rfl
    · simp [p_up]
  · rw [if_neg h1]
    simp only [pb_D_17_142, p_xI, p_idx (show 0 ≤ am_and (h 254 118) 32767 by omega) (show am_and (h 254 118) 32767 < (32768 : Nat) by omega)]
    have key : ∀ m : Int, m = (if am_and w 4096 = 0 then h 254 118 else h 327 (am_and (h 254 118) 32767).toNat) → ∃ h', (if am_and w 8 = 0 then am_E (am_D (d + 1)) m_17_143 (.inl 4) [some (am_r (am_a 254)), some (am_i w), some (am_i (am_and (h 254 118) 32767)), some (am_i (pb_work (am_and (am_shr w 6) 63) (h 254 119) m)), none] [] (zS L, am_up (am_up h 254 120 (am_w (h 254 120 + 1))) 254 121 (am_w (h 254 121 + 1)))
        else am_E (am_D (d + 1)) m_17_143 (.inl 4) [some (am_r (am_a 254)), some (am_i w), some (am_i (am_and (h 254 118) 32767)), some (am_i (pb_work (am_and (am_shr w 6) 63) (h 254 119) m)), none] [] (zS L, am_up (am_up (am_up h 254 120 (am_w (h 254 120 + 1))) 254 121 (am_w (h 254 121 + 1))) 327 (am_and (h 254 118) 32767).toNat (pb_work (am_and (am_shr w 6) 63) (h 254 119) m))) = pV L h' ∧ pb_m h' = pb_one w (pb_m h) ∧ p_fr [327] pb_mF h h' ∧ h' 254 121 = am_w (h 254 121 + 1) := by
      intro m em
      have e0 : pb_one w (pb_m h) = (if am_and w 32 = 0 then h 254 118 else pb_work (am_and (am_shr w 6) 63) (h 254 119) m, if am_and w 16 = 0 then h 254 119 else pb_work (am_and (am_shr w 6) 63) (h 254 119) m, if pb_jmp w (pb_work (am_and (am_shr w 6) 63) (h 254 119) m) then am_and (h 254 118) 32767 else h 254 120 + 1, if am_and w 8 = 0 then h 327 else p_set (h 327) (am_and (h 254 118) 32767).toNat (pb_work (am_and (am_shr w 6) 63) (h 254 119) m)) := by
        rw [em]; unfold pb_one; rw [if_neg h1]; rfl
      rw [e0]
      generalize pb_work (am_and (am_shr w 6) 63) (h 254 119) m = v
      rw [p_w (x := h 254 120 + 1) (by omega) (by omega)]
      simp only [q_17_143_4, pb_q_17_143_6]
      by_cases h8 : am_and w 8 = 0 <;> by_cases h32 : am_and w 32 = 0 <;> by_cases h16 : am_and w 16 = 0 <;> by_cases hj : pb_jmp w v <;>
        simp only [h8, h32, h16, hj, if_true, if_false] <;>
        refine ⟨_, rfl, ?_, ?_, ?_⟩ <;>
        first
        | (intro a j c1 c2; simp only [pb_mF, List.contains_cons, List.contains_nil, Bool.or_false, Bool.or_eq_false_iff, beq_eq_false_iff_ne, ne_eq, Prod.mk.injEq] at c1 c2; simp [p_up, c1, c2]; done)
        | (simp [pb_m, p_up, p_up_c, p_up_f]; done)
    by_cases h4 : am_and w 4096 = 0
    · simp only [if_pos h4]
      exact key _ (by rw [if_pos h4])
    · simp only [if_neg h4]
      exact key _ (by rw [if_neg h4])
end
/-! the runs -/
section
variable (d L : Nat)
theorem pb_go_c (x1 : Int) : ∀ (n : Nat) (h : am_H) (x2 : Int), x2 + n = x1 → 0 ≤ x2 → x1 ≤ 20000 → pb_ok (pb_c h) → h 23 12 ≤ 1500 →
    ∃ h', am_E (am_D (d + 2)) m_1_2 (.inl 1) [some (am_r (am_a 34)), some (am_i x1), some (am_i x2)] [] (zS L, h) = pI L (x2 + (pb_go (h 24) (h 23 12) n (pb_c h)).1) h' ∧ pb_c h' = (pb_go (h 24) (h 23 12) n (pb_c h)).2 ∧ pb_ok (pb_c h') ∧ p_fr pb_cF [] h h' ∧ h' 34 5 = am_w (h 34 5 + (x2 + (pb_go (h 24) (h 23 12) n (pb_c h)).1)) := by
  intro n
  induction n with
  | zero =>
    intro h x2 e1 e2 e3 ok hw
    rw [q_1_2_1, if_neg (by omega)]
    have ec : pb_c (am_up h 34 5 (am_w (h 34 5 + x2))) = pb_c h := by simp [pb_c, p_up, p_up_c]
    refine ⟨am_up h 34 5 (am_w (h 34 5 + x2)), ?_, by rw [ec]; rfl, by rw [ec]; exact ok, (p_fr.refl h).upc _ _ _ rfl, ?_⟩
    · unfold pb_go; rw [Int.natCast_zero, Int.add_zero]
    · rw [p_up_s]; unfold pb_go; rw [Int.natCast_zero, Int.add_zero]
  | succ n ih =>
    intro h x2 e1 e2 e3 ok hw
    rw [q_1_2_1, if_pos (by omega)]
    have ok0 : 0 ≤ h 34 4 ∧ h 34 4 ≤ 40000 := ok
    by_cases hn : h 34 4 < h 23 12
    · rw [if_pos hn, p_idx (by omega) (by omega)]
      obtain ⟨h1, a1, a2, a3, a4⟩ := pb_D_1_3 d L h (h 24 (h 34 4).toNat) ok0
      rw [a1, p_xV, p_w (by omega) (by omega)]
      have e24 : h1 24 = h 24 := a3.cell 24 rfl rfl
      have e23 : h1 23 = h 23 := a3.cell 23 rfl rfl
      have ok1 : pb_ok (pb_c h1) := by rw [a2]; exact pb_one_ok _ _ ok (show h 34 4 < 1500 by omega)
      obtain ⟨h2, b1, b2, b3, b4, b5⟩ := ih h1 (x2 + 1) (by omega) (by omega) e3 ok1 (by rw [e23]; exact hw)
      rw [e24, e23, a2] at b1 b2 b5
      have eg : pb_go (h 24) (h 23 12) (n + 1) (pb_c h) = ((pb_go (h 24) (h 23 12) n (pb_one (h 24 (h 34 4).toNat) (pb_c h))).1 + 1, (pb_go (h 24) (h 23 12) n (pb_one (h 24 (h 34 4).toNat) (pb_c h))).2) := by
        rw [pb_go, if_pos (show (pb_c h).2.2.1 < h 23 12 from hn)]; rfl
      rw [eg]
      dsimp only
      have ez : x2 + ((pb_go (h 24) (h 23 12) n (pb_one (h 24 (h 34 4).toNat) (pb_c h))).1 + 1 : Nat) = x2 + 1 + (pb_go (h 24) (h 23 12) n (pb_one (h 24 (h 34 4).toNat) (pb_c h))).1 := by omega
      rw [ez]
      exact ⟨h2, b1, b2, b3, a3.trans b4, by rw [b5, a4]⟩
    · rw [if_neg hn]
      have eg : pb_go (h 24) (h 23 12) (n + 1) (pb_c h) = (0, pb_c h) := by rw [pb_go, if_neg (show ¬ (pb_c h).2.2.1 < h 23 12 from hn)]
      rw [eg]
      dsimp only
      have ec : pb_c (am_up h 34 5 (am_w (h 34 5 + x2))) = pb_c h := by simp [pb_c, p_up, p_up_c]
      refine ⟨am_up h 34 5 (am_w (h 34 5 + x2)), by rw [Int.natCast_zero, Int.add_zero], ec, by rw [ec]; exact ok, (p_fr.refl h).upc _ _ _ rfl, ?_⟩
      rw [p_up_s, Int.natCast_zero, Int.add_zero]
theorem pb_go_m (x1 : Int) : ∀ (n : Nat) (h : am_H) (x2 : Int), x2 + n = x1 → 0 ≤ x2 → x1 ≤ 20000 → pb_ok (pb_m h) → h 254 110 ≤ 1500 →
    ∃ h', am_E (am_D (d + 2)) m_17_144 (.inl 3) [some (am_r (am_a 254)), some (am_i x1), some (am_i x2)] [] (zS L, h) = pI L (x2 + (pb_go (h 322) (h 254 110) n (pb_m h)).1) h' ∧ pb_m h' = (pb_go (h 322) (h 254 110) n (pb_m h)).2 ∧ pb_ok (pb_m h') ∧ p_fr [327] pb_mF h h' ∧ am_w (h' 254 121) = am_w (h 254 121 + (pb_go (h 322) (h 254 110) n (pb_m h)).1) ∧ (h 254 121 = am_w (h 254 121) → am_w (h' 254 121) = h' 254 121) := by
  intro n
  induction n with
  | zero =>
    intro h x2 e1 e2 e3 ok hw
    rw [q_17_144_3, if_neg (by omega)]
    refine ⟨_, ?_, rfl, ok, p_fr.refl h, ?_, fun z => z.symm⟩
    · unfold pb_go; rw [Int.natCast_zero, Int.add_zero]
    · unfold pb_go; rw [Int.natCast_zero, Int.add_zero]
  | succ n ih =>
    intro h x2 e1 e2 e3 ok hw
    rw [q_17_144_3, if_pos (by omega)]
    have ok0 : 0 ≤ h 254 120 ∧ h 254 120 ≤ 40000 := ok
    by_cases hn : h 254 120 < h 254 110
    · rw [if_pos hn]
      obtain ⟨h1, a1, a2, a3, a4⟩ := pb_D_17_143 d L h (by omega)
      rw [a1, p_xV, p_w (by omega) (by omega)]
      have e24 : h1 322 = h 322 := a3.cell 322 rfl rfl
      have e23 : h1 254 110 = h 254 110 := a3 254 110 rfl rfl
      have ok1 : pb_ok (pb_m h1) := by rw [a2]; exact pb_one_ok _ _ ok (show h 254 120 < 1500 by omega)
      obtain ⟨h2, b1, b2, b3, b4, b5, b6⟩ := ih h1 (x2 + 1) (by omega) (by omega) e3 ok1 (by rw [e23]; exact hw)
      rw [e24, e23, a2] at b1 b2 b5
      have eg : pb_go (h 322) (h 254 110) (n + 1) (pb_m h) = ((pb_go (h 322) (h 254 110) n (pb_one (h 322 (h 254 120).toNat) (pb_m h))).1 + 1, (pb_go (h 322) (h 254 110) n (pb_one (h 322 (h 254 120).toNat) (pb_m h))).2) := by
        rw [pb_go, if_pos (show (pb_m h).2.2.1 < h 254 110 from hn)]; rfl
      rw [eg]
      dsimp only
      have ez : x2 + ((pb_go (h 322) (h 254 110) n (pb_one (h 322 (h 254 120).toNat) (pb_m h))).1 + 1 : Nat) = x2 + 1 + (pb_go (h 322) (h 254 110) n (pb_one (h 322 (h 254 120).toNat) (pb_m h))).1 := by omega
      rw [ez]
      refine ⟨h2, b1, b2, b3, a3.trans b4, ?_, fun _ => b6 (by rw [a4]; exact (p_w_id _).symm)⟩
      rw [b5, a4, p_w_w]
      congr 1
      omega
    · rw [if_neg hn]
      have eg : pb_go (h 322) (h 254 110) (n + 1) (pb_m h) = (0, pb_m h) := by rw [pb_go, if_neg (show ¬ (pb_m h).2.2.1 < h 254 110 from hn)]
      rw [eg]
      dsimp only
      exact ⟨_, by rw [Int.natCast_zero, Int.add_zero], rfl, ok, p_fr.refl h, by rw [Int.natCast_zero, Int.add_zero], fun z => z.symm⟩
/-- all zero again -/
theorem pb_begin_c : ∀ (n : Nat) (h : am_H) (x : Nat), x + n = 32768 → ∃ h', am_E (am_D d) m_1_1 (.inl 1) [some (am_r (am_a 34)), some (am_i x)] [] (zS L, h) = pV L h' ∧ (∀ k, h' 35 k = if x ≤ k ∧ k < 32768 then 0 else h 35 k) ∧ (h' 34 2 = 0 ∧ h' 34 3 = 0 ∧ h' 34 4 = 0 ∧ h' 34 5 = 0) ∧ p_fr pb_cF [] h h' := by
  intro n
  induction n with
  | zero =>
    intro h x e
    rw [q_1_1_1, if_neg (by omega)]
    refine ⟨_, rfl, fun k => ?_, by simp [p_up], ((((p_fr.refl h).upc _ _ _ rfl).upc _ _ _ rfl).upc _ _ _ rfl).upc _ _ _ rfl⟩
    rw [if_neg (by omega)]; simp [p_up]
  | succ n ih =>
    intro h x e
    rw [q_1_1_1, if_pos (by omega), p_idx (by omega) (by omega), p_w (by omega) (by omega)]
    obtain ⟨h', a1, a2, a3, a4⟩ := ih (am_up h 35 (x : Int).toNat (am_s16 0)) (x + 1) (by omega)
    refine ⟨h', a1, fun k => ?_, a3, ((p_fr.refl h).upc _ _ _ rfl).trans a4⟩
    rw [a2 k, p_up, p_s16 (by omega) (by omega)]
    by_cases h1 : x + 1 ≤ k ∧ k < 32768
    · rw [if_pos h1, if_pos (by omega)]
    · rw [if_neg h1]
      by_cases h2 : k = x
      · rw [if_pos (by omega), if_pos (by omega)]
      · rw [if_neg (by omega), if_neg (by omega)]
theorem pb_begin_m : ∀ (n : Nat) (h : am_H) (x : Nat), x + n = 32768 → ∃ h', am_E (am_D d) m_17_139 (.inl 1) [some (am_r (am_a 254)), some (am_i x)] [] (zS L, h) = pV L h' ∧ (∀ k, h' 327 k = if x ≤ k ∧ k < 32768 then 0 else h 327 k) ∧ (h' 254 118 = 0 ∧ h' 254 119 = 0 ∧ h' 254 120 = 0 ∧ h' 254 121 = 0 ∧ h' 254 110 = 0 ∧ h' 254 112 = 0) ∧ p_fr [327] ((254, 110) :: (254, 112) :: pb_mF) h h' := by
  intro n
  induction n with
  | zero =>
    intro h x e
    rw [q_17_139_1, if_neg (by omega)]
    refine ⟨_, rfl, fun k => ?_, by simp [p_up], ((((((p_fr.refl h).upf _ _ _ rfl).upf _ _ _ rfl).upf _ _ _ rfl).upf _ _ _ rfl).upf _ _ _ rfl).upf _ _ _ rfl⟩
    rw [if_neg (by omega)]; simp [p_up]
  | succ n ih =>
    intro h x e
    rw [q_17_139_1, if_pos (by omega), p_idx (by omega) (by omega), p_w (by omega) (by omega)]
    obtain ⟨h', a1, a2, a3, a4⟩ := ih (am_up h 327 (x : Int).toNat 0) (x + 1) (by omega)
    refine ⟨h', a1, fun k => ?_, a3, ((p_fr.refl h).upc _ _ _ rfl).trans a4⟩
    rw [a2 k, p_up]
    by_cases h1 : x + 1 ≤ k ∧ k < 32768
    · rw [if_pos h1, if_pos (by omega)]
    · rw [if_neg h1]
      by_cases h2 : k = x
      · rw [if_pos (by omega), if_pos (by omega)]
      · rw [if_neg (by omega), if_neg (by omega)]
end
/-- both sides' processors and words agree -/
def pb_R (h : am_H) : Prop := (h 34 2 = h 254 118 ∧ h 34 3 = h 254 119 ∧ h 34 4 = h 254 120 ∧ h 34 5 = am_w (h 254 121) ∧ h 254 121 = am_w (h 254 121)) ∧ (∀ k, k < 32768 → h 35 k = h 327 k) ∧ (0 ≤ h 34 4 ∧ h 34 4 ≤ 40000) ∧ (0 ≤ h 23 12 ∧ h 23 12 ≤ 1500 ∧ h 23 12 = h 254 110) ∧ (∀ k : Nat, k < 1500 → (k : Int) < h 23 12 → h 24 k = h 322 k) ∧ h 23 13 = h 254 112
/-! the calls: what both answer, and that both stay alike -/
def pb_F : List Nat := [34, 35, 327]
theorem pb_go_congr {ws ws' : Nat → Int} {many : Int} (hm : many ≤ 1500) (hw : ∀ k : Nat, k < 1500 → (k : Int) < many → ws k = ws' k) : ∀ (n : Nat) (s s' : pb_S), pb_ok s → s.1 = s'.1 → s.2.1 = s'.2.1 → s.2.2.1 = s'.2.2.1 → (∀ k, k < 32768 → s.2.2.2 k = s'.2.2.2 k) →
    (pb_go ws many n s).1 = (pb_go ws' many n s').1 ∧ (pb_go ws many n s).2.1 = (pb_go ws' many n s').2.1 ∧ (pb_go ws many n s).2.2.1 = (pb_go ws' many n s').2.2.1 ∧ (pb_go ws many n s).2.2.2.1 = (pb_go ws' many n s').2.2.2.1 ∧ ∀ k, k < 32768 → (pb_go ws many n s).2.2.2.2 k = (pb_go ws' many n s').2.2.2.2 k := by
  intro n
  induction n with
  | zero => intro s s' ok e1 e2 e3 e4; exact ⟨rfl, e1, e2, e3, e4⟩
  | succ n ih =>
    intro s s' ok e1 e2 e3 e4
    unfold pb_go
    rw [← e3]
    by_cases hn : s.2.2.1 < many
    · rw [if_pos hn, if_pos hn]
      have ok0 : 0 ≤ s.2.2.1 ∧ s.2.2.1 ≤ 40000 := ok
      have hww : ws s.2.2.1.toNat = ws' s.2.2.1.toNat := hw _ (by omega) (by omega)
      rw [← hww]
      have hm2 := p_and_nn s.1 32767 (by omega)
      have key : (pb_one (ws s.2.2.1.toNat) s).1 = (pb_one (ws s.2.2.1.toNat) s').1 ∧ (pb_one (ws s.2.2.1.toNat) s).2.1 = (pb_one (ws s.2.2.1.toNat) s').2.1 ∧ (pb_one (ws s.2.2.1.toNat) s).2.2.1 = (pb_one (ws s.2.2.1.toNat) s').2.2.1 ∧ ∀ k, k < 32768 → (pb_one (ws s.2.2.1.toNat) s).2.2.2 k = (pb_one (ws s.2.2.1.toNat) s').2.2.2 k := by
        unfold pb_one
        rw [← e1, ← e2, ← e3, ← e4 (am_and s.1 32767).toNat (by omega)]
        by_cases h1 : ws s.2.2.1.toNat < 32768
        · rw [if_pos h1, if_pos h1]; exact ⟨rfl, rfl, rfl, e4⟩
        · rw [if_neg h1, if_neg h1]
          refine ⟨rfl, rfl, rfl, fun k hk => ?_⟩
          dsimp only
          split
          · exact e4 k hk
          · unfold p_set; split
            · rfl
            · exact e4 k hk
      obtain ⟨k1, k2, k3, k4⟩ := key
      obtain ⟨a1, a2, a3, a4, a5⟩ := ih _ _ (pb_one_ok _ s ok (by omega)) k1 k2 k3 k4
      exact ⟨by rw [a1], a2, a3, a4, a5⟩
    · rw [if_neg hn, if_neg hn]; exact ⟨rfl, e1, e2, e3, e4⟩
section
variable (d L : Nat) (h : am_H)
theorem pb_op_go (n : Int) (R : pb_R h) : ∃ r h1 h2, am_D (d + 4) 0 12 [am_r (am_a 1), am_i n] (zS L, h) = pI L r h1 ∧ am_D (d + 4) 17 144 [am_r (am_a 254), am_i n] (zS L, h1) = pI L r h2 ∧ p_fr pb_F pb_mF h h2 ∧ pb_R h2 := by
  obtain ⟨⟨r1, r2, r3, r4, r5⟩, r6, r7, ⟨r8, r9, r10⟩, r11, r12⟩ := R
  rw [D_0_12]
  by_cases c1 : n < 0
  · rw [if_pos c1]
    exact ⟨_, _, _, rfl, by rw [D_17_144, if_pos c1], p_fr.refl h, ⟨r1, r2, r3, r4, r5⟩, r6, r7, ⟨r8, r9, r10⟩, r11, r12⟩
  · rw [if_neg c1]
    by_cases c2 : 20000 < n
    · rw [if_pos c2]
      exact ⟨_, _, _, rfl, by rw [D_17_144, if_neg c1, if_pos c2], p_fr.refl h, ⟨r1, r2, r3, r4, r5⟩, r6, r7, ⟨r8, r9, r10⟩, r11, r12⟩
    · rw [if_neg c2]
      obtain ⟨k, rfl⟩ := Int.eq_ofNat_of_zero_le (show 0 ≤ n by omega)
      obtain ⟨h1, a1, a2, a3, a4, a5⟩ := pb_go_c d L k k h 0 (by omega) (by omega) (by omega) r7 r9
      rw [Int.zero_add] at a1 a5
      have b0 : am_D (d + 3) 1 2 [am_r (am_a 34), am_i (k : Int)] (zS L, h) = pI L (pb_go (h 24) (h 23 12) k (pb_c h)).1 h1 := by rw [D_1_2]; exact a1
      rw [b0, p_xI]
      have f1 : ∀ j, h1 254 j = h 254 j := fun j => a4 254 j rfl rfl
      have f2 : h1 322 = h 322 := a4.cell 322 rfl rfl
      have f3 : h1 327 = h 327 := a4.cell 327 rfl rfl
      have f4 : h1 23 = h 23 := a4.cell 23 rfl rfl
      have f5 : h1 24 = h 24 := a4.cell 24 rfl rfl
      have em : pb_m h1 = pb_m h := by unfold pb_m; rw [f1, f1, f1, f3]
      have hokm : pb_ok (pb_m h1) := by rw [em]; show 0 ≤ h 254 120 ∧ h 254 120 ≤ 40000; rw [← r3]; exact r7
      obtain ⟨h2, b1, b2, b3, b4, b5, b6⟩ := pb_go_m (d + 1) L k k h1 0 (by omega) (by omega) (by omega) hokm (by rw [f1, ← r10]; exact r9)
      rw [Int.zero_add, f2, f1, em, ← r10] at b1
      rw [f2, f1, em, ← r10] at b2
      rw [f1, f2, f1, em, ← r10] at b5
      obtain ⟨g1, g2, g3, g4, g5⟩ := pb_go_congr r9 r11 k (pb_c h) (pb_m h) r7 r1 r2 r3 r6
      refine ⟨_, h1, h2, rfl, ?_, (a4.mono rfl rfl).trans (b4.mono rfl rfl), ?_⟩
      · rw [D_17_144, if_neg c1, if_neg c2, g1]; exact b1
      · have x34 : h2 34 = h1 34 := b4.cell 34 rfl rfl
        have x35 : h2 35 = h1 35 := b4.cell 35 rfl rfl
        have x23 : h2 23 = h1 23 := b4.cell 23 rfl rfl
        have x24 : h2 24 = h1 24 := b4.cell 24 rfl rfl
        have x322 : h2 322 = h1 322 := b4.cell 322 rfl rfl
        have x110 : h2 254 110 = h 254 110 := (b4 254 110 rfl rfl).trans (f1 110)
        have x112 : h2 254 112 = h 254 112 := (b4 254 112 rfl rfl).trans (f1 112)
        have y1 := congrArg (fun s => s.1) a2
        have y2 := congrArg (fun s => s.2.1) a2
        have y3 := congrArg (fun s => s.2.2.1) a2
        have y4 := congrArg (fun s => s.2.2.2) a2
        have z1 := congrArg (fun s => s.1) b2
        have z2 := congrArg (fun s => s.2.1) b2
        have z3 := congrArg (fun s => s.2.2.1) b2
        have z4 := congrArg (fun s => s.2.2.2) b2
        dsimp only [pb_c, pb_m] at y1 y2 y3 y4 z1 z2 z3 z4
        refine ⟨⟨?_, ?_, ?_, ?_, ?_⟩, fun j hj => ?_, ?_, ⟨?_, ?_, ?_⟩, fun j hj hj2 => ?_, ?_⟩
        · rw [x34, y1, z1]; exact g2
        · rw [x34, y2, z2]; exact g3
        · rw [x34, y3, z3]; exact g4
        · rw [x34, a5, b5, r4, p_w_w, g1]
        · exact (b6 (by rw [f1]; exact r5)).symm
        · rw [x35, y4, z4]; exact g5 j hj
        · rw [x34]; exact a3
        · rw [x23, f4]; exact r8
        · rw [x23, f4]; exact r9
        · rw [x23, f4, x110]; exact r10
        · rw [x24, f5, x322, f2]; rw [x23, f4] at hj2; exact r11 j hj hj2
        · rw [x23, f4, x112]; exact r12
end
section
variable (d L : Nat) (h : am_H)
theorem pb_op_set (a v : Int) (R : pb_R h) : ∃ r h1 h2, am_D (d + 2) 0 14 [am_r (am_a 1), am_i a, am_i v] (zS L, h) = pI L r h1 ∧ am_D (d + 2) 17 145 [am_r (am_a 254), am_i a, am_i v] (zS L, h1) = pI L r h2 ∧ p_fr pb_F pb_mF h h2 ∧ pb_R h2 := by
  rw [D_0_14, D_0_13]
  simp only [D_17_145]
  by_cases c1 : a < 0
  · simp only [if_pos c1, p_bit0, p_xI, if_true]
    exact ⟨_, _, _, rfl, rfl, p_fr.refl h, R⟩
  · by_cases c2 : a < 32768
    · simp only [if_neg c1, if_pos c2, p_bit1, p_xI, if_neg (show ¬ (1 : Int) = 0 by decide), if_neg (show ¬ (32767 : Int) < a by omega), p_idx (show 0 ≤ a by omega) (show a < (32768 : Nat) by omega)]
      refine ⟨_, _, _, rfl, rfl, ((p_fr.refl h).upc _ _ _ rfl).upc _ _ _ rfl, ?_⟩
      obtain ⟨r1, r6, r7, r8, r11, r12⟩ := R
      refine ⟨?_, fun k hk => ?_, ?_, ?_, ?_, ?_⟩
      · simpa [p_up] using r1
      · have := r6 k hk
        simp only [p_up, p_s16_s16]
        by_cases hk2 : k = a.toNat
        · simp [hk2]
        · simp [hk2, this]
      · simpa [p_up] using r7
      · simpa [p_up] using r8
      · simpa [p_up] using r11
      · simpa [p_up] using r12
    · simp only [if_neg c1, if_neg c2, p_bit0, p_xI, if_true, if_pos (show (32767 : Int) < a by omega)]
      exact ⟨_, _, _, rfl, rfl, p_fr.refl h, R⟩
theorem pb_op_store (a : Int) (R : pb_R h) : ∃ r, am_D (d + 2) 0 15 [am_r (am_a 1), am_i a] (zS L, h) = pI L r h ∧ am_D (d + 2) 17 146 [am_r (am_a 254), am_i a] (zS L, h) = pI L r h := by
  rw [D_0_15, D_0_13, D_17_146]
  by_cases c1 : a < 0
  · simp only [if_pos c1, p_bit0, p_xI, if_true]
    exact ⟨_, rfl, rfl⟩
  · by_cases c2 : a < 32768
    · simp only [if_neg c1, if_pos c2, p_bit1, p_xI, if_neg (show ¬ (1 : Int) = 0 by decide), if_neg (show ¬ (32767 : Int) < a by omega), p_idx (show 0 ≤ a by omega) (show a < (32768 : Nat) by omega)]
      exact ⟨_, rfl, by rw [R.2.1 a.toNat (by omega)]⟩
    · simp only [if_neg c1, if_neg c2, p_bit0, p_xI, if_true, if_pos (show (32767 : Int) < a by omega)]
      exact ⟨_, rfl, rfl⟩
theorem pb_op_register (a : Int) (R : pb_R h) : ∃ r, am_D (d + 1) 0 16 [am_r (am_a 1), am_i a] (zS L, h) = pI L r h ∧ am_D (d + 1) 17 147 [am_r (am_a 254), am_i a] (zS L, h) = pI L r h := by
  obtain ⟨⟨r1, r2, r3, r4, r5⟩, r6, r7, ⟨r8, r9, r10⟩, r11, r12⟩ := R
  rw [← r5] at r4
  rw [D_0_16, D_17_147, r1, r2, r3, r4, r10, r12]
  repeat' split
  all_goals exact ⟨_, rfl, rfl⟩
theorem pb_op_code (i : Int) (R : pb_R h) : ∃ r, am_D (d + 1) 0 11 [am_r (am_a 1), am_i i] (zS L, h) = pI L r h ∧ am_D (d + 1) 17 141 [am_r (am_a 254), am_i i] (zS L, h) = pI L r h := by
  obtain ⟨⟨r1, r2, r3, r4, r5⟩, r6, r7, ⟨r8, r9, r10⟩, r11, r12⟩ := R
  rw [D_0_11, D_17_141, ← r10]
  by_cases c1 : i < 0
  · simp only [if_pos c1]; exact ⟨_, rfl, rfl⟩
  · by_cases c2 : i < h 23 12
    · simp only [if_neg c1, if_pos c2, p_idx (show 0 ≤ i by omega) (show i < (1500 : Nat) by omega), p_idx (show 0 ≤ i by omega) (show i < (2000 : Nat) by omega)]
      exact ⟨_, rfl, by rw [r11 i.toNat (by omega) (by omega)]⟩
    · simp only [if_neg c1, if_neg c2]; exact ⟨_, rfl, rfl⟩
end
