/-! SIGNS, 15: signs() of both sides -/
/-- what signs() changes -/
def sjC : List Nat := [3, 24, 25, 26, 27, 34, 35, 256, 322, 323, 324, 325, 326, 327]
def sjF : List (Nat × Nat) := [(1, 2), (1, 3), (254, 1), (254, 3), (254, 4), (254, 110), (254, 112), (254, 118), (254, 119), (254, 120), (254, 121), (23, 11), (23, 12), (23, 13), (23, 14), (23, 15), (23, 16)]
section
variable {d e L : Nat} {h : am_H}
theorem sg_join (R : pt_R h) (G : SGC h) (x : Int) : ∃ r h1 h2, am_D (d + 8) 0 9 [am_r (am_a 1), am_i x] (zS L, h) = pI L r h1 ∧ am_D (e + 7) 17 140 [am_r (am_a 254), am_i x] (zS L, h1) = pI L r h2 ∧ p_fr sjC sjF h h2 ∧ pt_R h2 ∧ ((r = -1 ∧ h2 = h) ∨ (pb_R h2 ∧ h2 1 3 = h2 254 4)) := by
  obtain ⟨T1, T2, T3, T4⟩ := R
  by_cases cx : x < 0 ∨ h 1 2 < x
  · refine ⟨-1, h, h, ?_, ?_, p_fr.refl h, ⟨T1, T2, T3, T4⟩, Or.inl ⟨rfl, rfl⟩⟩
    · rw [D_0_9]
      by_cases z : x < 0
      · rw [if_pos z]
      · rw [if_neg z, if_pos (by omega)]
    · rw [D_17_140, D_17_3]
      by_cases z : x < 0
      · rw [if_pos z, p_bit0]
        show am_xI (zS L) (pI L 0 h) _ _ = _
        rw [p_xI, if_pos rfl]
      · rw [if_neg z, if_pos (by omega), p_bit0]
        show am_xI (zS L) (pI L 0 h) _ _ = _
        rw [p_xI, if_pos rfl]
  obtain ⟨n, rfl⟩ : ∃ n : Nat, x = (n : Int) := ⟨x.toNat, by omega⟩
  have hn : n ≤ 4000 := by omega
  have tr : ∀ k, k < n → (-128 ≤ h 2 k ∧ h 2 k ≤ 127) ∧ h 2 k % 256 = h 255 k := fun k hk => T4 k (by omega)
  -- the component
  obtain ⟨a1, ra1, a12, a13, fa1⟩ := pt_take_c (d := d + 6) (L := L) (n := n) n h 0 (by omega) hn (fun k hk => (tr k hk).1)
  have ra1 : am_E (am_D (d + 6)) m_0_10 (.inl 1) [some (am_r (am_a 1)), some (am_i (n : Int)), some (am_i 0)] [] (zS L, h) = pV L a1 := ra1
  obtain ⟨a2, ra2, a22, a23, fa2⟩ := pb_begin_c (d := d + 6) (L := L) 32768 a1 0 (by omega)
  have ra2 : am_E (am_D (d + 6)) m_1_1 (.inl 1) [some (am_r (am_a 34)), some (am_i 0)] [] (zS L, a1) = pV L a2 := ra2
  have tx2 : ∀ k, k < n → (-128 ≤ a2 3 k ∧ a2 3 k ≤ 127) ∧ a2 3 k % 256 = h 255 k := fun k hk => by
    rw [fa2.cell 3 rfl rfl, a13, if_pos ⟨Nat.zero_le _, hk⟩]; exact tr k hk
  obtain ⟨r, a3, ra3, fa3, o3⟩ := sc_read (d := d) (L := L) (h := a2) (t := h 255) hn tx2 (G.fr (by rw [fa2.cell 29 rfl rfl, fa1.cell 29 rfl rfl]) (by rw [fa2.cell 31 rfl rfl, fa1.cell 31 rfl rfl]))
  obtain ⟨h1, hh1⟩ : ∃ h1, h1 = am_up a3 1 3 (a3 23 14) := ⟨_, rfl⟩
  have eC : am_D (d + 8) 0 9 [am_r (am_a 1), am_i (n : Int)] (zS L, h) = pI L r h1 := by
    rw [D_0_9, if_neg (by omega), if_neg (by omega), D_0_10, ra1, p_xV, D_1_1, ra2, p_xV, ra3, p_xI, ← hh1]
  have F1 : p_fr sjC sjF h h1 := by
    rw [hh1]
    exact (((fa1.mono rfl rfl).trans (fa2.mono rfl rfl)).trans (fa3.mono rfl rfl)).upf _ _ _ rfl
  have Fm : p_fr [3, 24, 25, 26, 27, 34, 35] [(1, 2), (1, 3), (23, 11), (23, 12), (23, 13), (23, 14), (23, 15), (23, 16)] h h1 := by
    rw [hh1]
    exact (((fa1.mono rfl rfl).trans (fa2.mono rfl rfl)).trans (fa3.mono rfl rfl)).upf _ _ _ rfl
  -- the model
  obtain ⟨b1, hb1⟩ : ∃ b1, b1 = am_up h1 254 3 (n : Int) := ⟨_, rfl⟩
  obtain ⟨b2, rb2, b22, b23, fb2⟩ := pt_take_m (d := e + 5) (L := L) (n := n) n b1 0 (by omega) hn
  have rb2 : am_E (am_D (e + 5)) m_17_3 (.inl 3) [some (am_r (am_a 254)), some (am_i (n : Int)), some (am_i 0)] [] (zS L, b1) = pI L 1 b2 := rb2
  obtain ⟨b3, rb3, b32, b33, fb3⟩ := pb_begin_m (d := e + 5) (L := L) 32768 b2 0 (by omega)
  have rb3 : am_E (am_D (e + 5)) m_17_139 (.inl 1) [some (am_r (am_a 254)), some (am_i 0)] [] (zS L, b2) = pV L b3 := rb3
  obtain ⟨b4, hb4⟩ : ∃ b4, b4 = am_up b3 254 4 (-1) := ⟨_, rfl⟩
  have eM : am_D (e + 7) 17 140 [am_r (am_a 254), am_i (n : Int)] (zS L, h1) = am_E (am_D (e + 6)) m_17_140 (.inl 2) [some (am_r (am_a 254)), some (am_i (n : Int)), some (am_i 0), some (am_i 0), none, none, none] [] (zS L, b4) := by
    rw [D_17_140, D_17_3, if_neg (by omega), Fm.cell 254 rfl rfl, if_neg (by omega), ← hb1, rb2, p_xI, if_neg (by decide), D_17_139, rb3, p_xV, ← hb4]
  have fB : p_fr [256, 327] [(254, 1), (254, 3), (254, 4), (254, 110), (254, 112), (254, 118), (254, 119), (254, 120), (254, 121)] h1 b4 := by
    rw [hb4]
    have f0 : p_fr [256, 327] [(254, 1), (254, 3), (254, 4), (254, 110), (254, 112), (254, 118), (254, 119), (254, 120), (254, 121)] h1 b1 := by rw [hb1]; exact (p_fr.refl h1).upf _ _ _ rfl
    exact ((f0.trans (fb2.mono rfl rfl)).trans (fb3.mono rfl rfl)).upf _ _ _ rfl
  have e4c : ∀ c, c ≠ 254 → b4 c = b3 c := fun c hc => by rw [hb4, p_up_c _ _ _ _ _ hc]
  have e4f : ∀ k, k ≠ 4 → b4 254 k = b3 254 k := fun k hk => by rw [hb4, p_up_n _ _ _ _ _ _ (Or.inr hk)]
  have H4 : lm_T (h 255) n b4 := by
    refine ⟨?_, hn, fun k hk => ⟨?_, ?_⟩⟩
    · rw [e4f 3 (by decide), fb3 254 3 rfl rfl, fb2 254 3 rfl rfl, hb1, p_up_s]
    · rw [e4c 256 (by decide), fb3.cell 256 rfl rfl, b23, if_pos ⟨Nat.zero_le _, hk⟩, hb1, p_up_c _ _ _ _ _ (by decide), Fm.cell 255 rfl rfl]
    · have := (tr k hk).2; omega
  have P4 : mP (h 255) ([], []) b4 := ⟨by rw [e4f 110 (by decide)]; exact b33.2.2.2.2.1, by decide, fun i w hw => (by cases hw), by rw [e4f 112 (by decide)]; exact b33.2.2.2.2.2, by decide, fun i q hq => (by cases hq)⟩
  obtain ⟨b5, f5, o5⟩ := sd_go (d := e) (L := L) (u1 := some (am_i (n : Int))) (n + 1) 0 false ([], []) none none none (h := b4) (by omega) (Nat.zero_le _) H4 P4
  -- the bare processors
  have bare : ∀ h2 : am_H, p_fr miC ((254, 4) :: siF) b4 h2 → (h2 23 12 = h2 254 110 ∧ 0 ≤ h2 23 12 ∧ h2 23 12 ≤ 1500) → (∀ k : Nat, k < 1500 → (k : Int) < h2 23 12 → h2 24 k = h2 322 k) → h2 23 13 = h2 254 112 → pb_R h2 := fun h2 f2 w1 w2 w3 => by
    have c34 : ∀ k, k = 2 ∨ k = 3 ∨ k = 4 ∨ k = 5 → h2 34 k = 0 := fun k hk => by
      rw [f2 34 k rfl rfl, fB 34 k rfl rfl, hh1, p_up_c _ _ _ _ _ (by decide), fa3 34 k rfl rfl]
      rcases hk with rfl | rfl | rfl | rfl
      · exact a23.1
      · exact a23.2.1
      · exact a23.2.2.1
      · exact a23.2.2.2
    have m0 : h2 254 118 = 0 ∧ h2 254 119 = 0 ∧ h2 254 120 = 0 ∧ h2 254 121 = 0 := by
      rw [f2 254 118 rfl rfl, f2 254 119 rfl rfl, f2 254 120 rfl rfl, f2 254 121 rfl rfl, e4f 118 (by decide), e4f 119 (by decide), e4f 120 (by decide), e4f 121 (by decide)]
      exact ⟨b33.1, b33.2.1, b33.2.2.1, b33.2.2.2.1⟩
    refine ⟨⟨by rw [c34 2 (by omega), m0.1], by rw [c34 3 (by omega), m0.2.1], by rw [c34 4 (by omega), m0.2.2.1], by rw [c34 5 (by omega), m0.2.2.2]; rfl, by rw [m0.2.2.2]; rfl⟩, fun k hk => ?_, by rw [c34 4 (by omega)]; decide, ⟨w1.2.1, w1.2.2, w1.1⟩, w2, w3⟩
    rw [f2.cell 35 rfl rfl, fB.cell 35 rfl rfl, hh1, p_up_c _ _ _ _ _ (by decide), fa3.cell 35 rfl rfl, a22, if_pos ⟨Nat.zero_le _, hk⟩, f2.cell 327 rfl rfl, e4c 327 (by decide), b32, if_pos ⟨Nat.zero_le _, hk⟩]
  have tape : ∀ h2 : am_H, p_fr miC ((254, 4) :: siF) b4 h2 → pt_R h2 := fun h2 f2 => by
    have z1 : h2 1 2 = 0 := by rw [f2 1 2 rfl rfl, fB 1 2 rfl rfl, hh1, p_up_n _ _ _ _ _ _ (Or.inr (by decide)), fa3 1 2 rfl rfl, fa2 1 2 rfl rfl]; exact a12
    have z2 : h2 254 1 = 0 := by rw [f2 254 1 rfl rfl, e4f 1 (by decide), fb3 254 1 rfl rfl]; exact b22
    exact ⟨by rw [z1, z2], by rw [z1]; decide, by rw [z1]; decide, fun k hk => by rw [z1] at hk; omega⟩
  have F2 : ∀ h2 : am_H, p_fr miC ((254, 4) :: siF) b4 h2 → p_fr sjC sjF h h2 := fun h2 f2 => (F1.trans (fB.mono rfl rfl)).trans (f2.mono rfl rfl)
  have c23 : ∀ h2 : am_H, p_fr miC ((254, 4) :: siF) b4 h2 → (∀ k, h2 23 k = a3 23 k) ∧ h2 24 = a3 24 ∧ h2 1 3 = a3 23 14 := fun h2 f2 => by
    refine ⟨fun k => ?_, ?_, ?_⟩
    · rw [f2.cell 23 rfl rfl, fB.cell 23 rfl rfl, hh1, p_up_c _ _ _ _ _ (by decide)]
    · rw [f2.cell 24 rfl rfl, fB.cell 24 rfl rfl, hh1, p_up_c _ _ _ _ _ (by decide)]
    · rw [f2 1 3 rfl rfl, fB 1 3 rfl rfl, hh1, p_up_s]
  cases ho : sgo (h 255) n (n + 1) 0 false ([], []) with
  | inl q =>
    rw [ho] at o3 o5
    dsimp only at o3 o5
    obtain ⟨y1, y2, y3, y4, y5⟩ := o3
    obtain ⟨x1, x2, x3, x4, x5⟩ := o5
    have x1 : am_E (am_D (e + 6)) m_17_140 (.inl 2) [some (am_r (am_a 254)), some (am_i (n : Int)), some (am_i 0), some (am_i 0), none, none, none] [] (zS L, b4) = pI L q.1 b5 := x1
    obtain ⟨w1, w2, w3⟩ := c23 b5 f5
    refine ⟨r, h1, b5, eC, by rw [eM, x1, y1], F2 b5 f5, tape b5 f5, Or.inr ⟨bare b5 f5 ⟨by rw [w1, y3, x4], by rw [w1, y3]; decide, by rw [w1, y3]; decide⟩ (fun k _ hk => by rw [w1, y3] at hk; omega) (by rw [w1, y4, x5]), by rw [w3, y5, x3]⟩⟩
  | inr s =>
    rw [ho] at o3 o5
    dsimp only at o3 o5
    obtain ⟨y1, y2, y3, y4, y5, y6⟩ := o3
    obtain ⟨⟨x2, x3, z6, x1⟩, P5, x4⟩ := o5
    have x1 : am_E (am_D (e + 6)) m_17_140 (.inl 2) [some (am_r (am_a 254)), some (am_i (n : Int)), some (am_i 0), some (am_i 0), none, none, none] [] (zS L, b4) = _ := x1
    obtain ⟨p1, p2, p3, p4⟩ := P5
    obtain ⟨v', b6, r6, S6, f6⟩ := sd_fill (d := e + 6) (L := L) (u1 := some (am_i (n : Int))) (u2 := x2) (u3 := x3) (u6 := z6) s.2 [] 16 p4 (by decide) (by decide)
    have r6 : am_E (am_D (e + 6)) m_17_140 (.inl 13) [some (am_r (am_a 254)), some (am_i (n : Int)), x2, x3, some (am_i 16), some (am_i 0), z6] [] (zS L, b5) = _ := r6
    rw [List.nil_append] at S6
    have W := sgo_ok (t := h 255) (n := n) (n + 1) 0 false ho (by decide) (fun w hw => by cases hw)
    obtain ⟨b7, r7, f7, c7⟩ := sd_codes (t := h 255) (d := e + 6) (L := L) (u1 := some (am_i (n : Int))) (u2 := x2) (u3 := x3) (u4 := some (am_i v')) (u6 := z6) (F := sfill 16 s.2) p2 (fun w hw => by rw [sfill_len]; exact W w hw) s.1.length 0 (h := b6) (by omega) (by rw [f6 254 110 rfl rfl]; exact p1) S6 (fun i w hw => by
      rw [f6.cell 326 rfl rfl, f6.cell 322 rfl rfl, if_neg (Nat.not_lt_zero _)]
      exact ⟨(p3 i w hw).2, (p3 i w hw).1⟩)
    have r7 : am_E (am_D (e + 6)) m_17_140 (.inl 17) [some (am_r (am_a 254)), some (am_i (n : Int)), x2, x3, some (am_i v'), some (am_i 0), z6] [] (zS L, b6) = pI L 0 b7 := r7
    have f57 : p_fr miC ((254, 4) :: siF) b4 b7 := (f5.trans (f6.mono rfl rfl)).trans (f7.mono rfl rfl)
    obtain ⟨w1, w2, w3⟩ := c23 b7 f57
    have m110 : b7 254 110 = (s.1.length : Int) := by rw [f7 254 110 rfl rfl, f6 254 110 rfl rfl]; exact p1
    have m112 : b7 254 112 = (s.2.length : Int) := by
      rw [f7 254 112 rfl rfl, S6.1, sfill_len]
    refine ⟨r, h1, b7, eC, by rw [eM, x1, r6, r7, y1], F2 b7 f57, tape b7 f57, Or.inr ⟨bare b7 f57 ⟨by rw [w1, y2, m110], by rw [w1, y2]; omega, by rw [w1, y2]; omega⟩ (fun k _ hk => ?_) (by rw [w1, y4, m112]), ?_⟩⟩
    · rw [w1, y2] at hk
      have hw := List.getElem?_eq_getElem (show k < s.1.length by omega)
      rw [w2, y6 k _ hw, c7 k _ hw]
    · rw [w3, y5, f7 254 4 rfl rfl, f6 254 4 rfl rfl, x4, hb4, p_up_s]
end
