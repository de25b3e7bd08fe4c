/-! PURE LAYER, 3: the tape; a text is taken from it -/
section
variable (d L : Nat) (w : Int) (b : Nat)
theorem pt_put_c : ∀ (n : Nat) (h : am_H) (x : Nat), x + n = 4 → h 1 2 = b + x → b + 4 ≤ 4000 → ∃ h', am_E (am_D d) m_0_5 (.inl 1) [some (am_r (am_a 1)), some (am_i w), some (am_i x)] [] (zS L, h) = pV L h' ∧ h' 1 2 = b + 4 ∧ (∀ j, h' 2 j = if b + x ≤ j ∧ j < b + 4 then am_s8 (am_shr w (24 - 8 * (j - b : Nat) : Int)) else h 2 j) ∧ p_fr [2] [(1, 2)] h h' := by
  intro n
  induction n with
  | zero =>
    intro h x e e2 hb
    rw [q_0_5_1, if_neg (by omega)]
    exact ⟨_, rfl, by omega, fun j => by rw [if_neg (by omega)], p_fr.refl h⟩
  | succ n ih =>
    intro h x e e2 hb
    rw [q_0_5_1, if_pos (by omega), p_idx (by omega) (by omega), p_w (x := (x : Int) + 1) (by omega) (by omega), p_w (x := 8 * (x : Int)) (by omega) (by omega), p_w (x := 24 - 8 * (x : Int)) (by omega) (by omega), p_w (x := h 1 2 + 1) (by omega) (by omega), p_s8_s8]
    obtain ⟨h', a1, a2, a3, a4⟩ := ih (am_up (am_up h 2 (h 1 2).toNat (am_s8 (am_shr w (24 - 8 * (x : Int))))) 1 2 (h 1 2 + 1)) (x + 1) (by omega) (by rw [p_up_s]; omega) hb
    refine ⟨h', a1, a2, fun j => ?_, (((p_fr.refl h).upc _ _ _ rfl).upf _ _ _ rfl).trans a4⟩
    rw [a3 j, p_up_n _ _ _ _ _ _ (Or.inl (by decide)), p_up]
    by_cases c : b + (x + 1) ≤ j ∧ j < b + 4
    · rw [if_pos c, if_pos (by omega)]
    · rw [if_neg c]
      by_cases c2 : j = b + x
      · rw [if_pos ⟨rfl, by omega⟩, if_pos (by omega)]
        congr 2
        omega
      · rw [if_neg (by omega), if_neg (by omega)]
theorem pt_put_m : ∀ (n : Nat) (h : am_H) (x : Nat), x + n = 4 → h 254 1 = b → b + 4 ≤ 4000 → ∃ h', am_E (am_D d) m_17_1 (.inl 1) [some (am_r (am_a 254)), some (am_i w), some (am_i x)] [] (zS L, h) = pV L h' ∧ h' 254 1 = b + 4 ∧ (∀ j, h' 255 j = if b + x ≤ j ∧ j < b + 4 then am_and (am_shr w (24 - 8 * (j - b : Nat) : Int)) 255 else h 255 j) ∧ p_fr [255] [(254, 1)] h h' := by
  intro n
  induction n with
  | zero =>
    intro h x e e2 hb
    rw [q_17_1_1, if_neg (by omega), e2, p_w (by omega) (by omega)]
    exact ⟨_, rfl, by rw [p_up_s], fun j => by rw [if_neg (by omega), p_up_n _ _ _ _ _ _ (Or.inl (by decide))], (p_fr.refl h).upf _ _ _ rfl⟩
  | succ n ih =>
    intro h x e e2 hb
    rw [q_17_1_1, if_pos (by omega), p_w (x := h 254 1 + x) (by omega) (by omega), p_idx (by omega) (by omega), p_w (x := (x : Int) + 1) (by omega) (by omega), p_w (x := 8 * (x : Int)) (by omega) (by omega), p_w (x := 24 - 8 * (x : Int)) (by omega) (by omega)]
    obtain ⟨h', a1, a2, a3, a4⟩ := ih (am_up h 255 (h 254 1 + x).toNat (am_and (am_shr w (24 - 8 * (x : Int))) 255)) (x + 1) (by omega) (by rw [p_up_n _ _ _ _ _ _ (Or.inl (by decide))]; exact e2) hb
    refine ⟨h', a1, a2, fun j => ?_, ((p_fr.refl h).upc _ _ _ rfl).trans a4⟩
    rw [a3 j, p_up]
    by_cases c : b + (x + 1) ≤ j ∧ j < b + 4
    · rw [if_pos c, if_pos (by omega)]
    · rw [if_neg c]
      by_cases c2 : j = b + x
      · rw [if_pos ⟨rfl, by omega⟩, if_pos (by omega)]
        congr 2
        omega
      · rw [if_neg (by omega), if_neg (by omega)]
end
/-- the tapes are alike: n bytes -/
def pt_R (h : am_H) : Prop := h 1 2 = h 254 1 ∧ 0 ≤ h 1 2 ∧ h 1 2 ≤ 4000 ∧ ∀ k : Nat, (k : Int) < h 1 2 → (-128 ≤ h 2 k ∧ h 2 k ≤ 127) ∧ h 2 k % 256 = h 255 k
/-- one word, on both sides -/
theorem pt_word (d L : Nat) (w : Int) {h : am_H} (R : pt_R h) (hb : h 1 2 + 4 ≤ 4000) : ∃ h1, am_D (d + 1) 0 5 [am_r (am_a 1), am_i w] (zS L, h) = pV L h1 ∧ h1 1 2 = h 1 2 + 4 ∧ (∀ j : Nat, h1 2 j = if h 1 2 ≤ j ∧ (j : Int) < h 1 2 + 4 then am_s8 (am_shr w (24 - 8 * ((j : Int) - h 1 2))) else h 2 j) ∧ p_fr [2] [(1, 2)] h h1 := by
  obtain ⟨r1, r2, r3, r4⟩ := R
  obtain ⟨b, eb⟩ := Int.eq_ofNat_of_zero_le r2
  obtain ⟨h1, a1, a2, a3, a4⟩ := pt_put_c d L w b 4 h 0 (by omega) (by omega) (by omega)
  refine ⟨h1, by rw [D_0_5]; exact a1, by omega, fun j => ?_, a4⟩
  rw [a3 j, eb]
  by_cases c : b + 0 ≤ j ∧ j < b + 4
  · rw [if_pos c, if_pos (by omega)]; congr 2; omega
  · rw [if_neg c, if_neg (by omega)]
theorem pt_lay (d L : Nat) (w : Int) {h : am_H} (r2 : 0 ≤ h 254 1) (hb : h 254 1 + 4 ≤ 4000) : ∃ h1, am_D (d + 1) 17 1 [am_r (am_a 254), am_i w] (zS L, h) = pV L h1 ∧ h1 254 1 = h 254 1 + 4 ∧ (∀ j : Nat, h1 255 j = if h 254 1 ≤ j ∧ (j : Int) < h 254 1 + 4 then am_and (am_shr w (24 - 8 * ((j : Int) - h 254 1))) 255 else h 255 j) ∧ p_fr [255] [(254, 1)] h h1 := by
  obtain ⟨b, eb⟩ := Int.eq_ofNat_of_zero_le r2
  obtain ⟨h1, a1, a2, a3, a4⟩ := pt_put_m d L w b 4 h 0 (by omega) (by omega) (by omega)
  refine ⟨h1, by rw [D_17_1]; exact a1, by omega, fun j => ?_, a4⟩
  rw [a3 j, eb]
  by_cases c : b + 0 ≤ j ∧ j < b + 4
  · rw [if_pos c, if_pos (by omega)]; congr 2; omega
  · rw [if_neg c, if_neg (by omega)]
def pt_F : List Nat := [2, 255]
def pt_P : List (Nat × Nat) := [(1, 2), (254, 1)]
theorem pt_op_feed (d L : Nat) (x1 x2 x3 x4 x5 : Int) {h : am_H} (R : pt_R h) : ∃ r h1 h2, am_D (d + 2) 0 6 [am_r (am_a 1), am_i x1, am_i x2, am_i x3, am_i x4, am_i x5] (zS L, h) = pI L r h1 ∧ am_D (d + 2) 17 2 [am_r (am_a 254), am_i x1, am_i x2, am_i x3, am_i x4, am_i x5] (zS L, h1) = pI L r h2 ∧ p_fr pt_F pt_P h h2 ∧ pt_R h2 := by
  obtain ⟨r1, r2, r3, r4⟩ := R
  rw [D_0_6, p_w (by omega) (by omega)]
  by_cases c : 4000 < h 1 2 + 20
  · rw [if_pos c, p_bit0]
    exact ⟨_, _, _, rfl, by rw [D_17_2, p_w (by omega) (by omega), if_pos (by omega), p_bit0], p_fr.refl h, r1, r2, r3, r4⟩
  · rw [if_neg c]
    have st : ∀ (w : Int) (g : am_H), 0 ≤ g 1 2 → g 1 2 + 4 ≤ 4000 → ∃ h1, am_D (d + 1) 0 5 [am_r (am_a 1), am_i w] (zS L, g) = pV L h1 ∧ h1 1 2 = g 1 2 + 4 ∧ (∀ j : Nat, h1 2 j = if g 1 2 ≤ j ∧ (j : Int) < g 1 2 + 4 then am_s8 (am_shr w (24 - 8 * ((j : Int) - g 1 2))) else g 2 j) ∧ p_fr [2] [(1, 2)] g h1 := by
      intro w g hg hg4
      obtain ⟨b, eb⟩ := Int.eq_ofNat_of_zero_le hg
      obtain ⟨h1, a1, a2, a3, a4⟩ := pt_put_c d L w b 4 g 0 (by omega) (by omega) (by omega)
      refine ⟨h1, by rw [D_0_5]; exact a1, by omega, fun j => ?_, a4⟩
      rw [a3 j, eb]
      by_cases c : b + 0 ≤ j ∧ j < b + 4
      · rw [if_pos c, if_pos (by omega)]; congr 2; omega
      · rw [if_neg c, if_neg (by omega)]
    obtain ⟨g1, p1, p2, p3, p4⟩ := st x1 h (by omega) (by omega)
    obtain ⟨g2, q1, q2, q3, q4⟩ := st x2 g1 (by omega) (by omega)
    obtain ⟨g3, s1, s2, s3, s4⟩ := st x3 g2 (by omega) (by omega)
    obtain ⟨g4, t1, t2, t3, t4⟩ := st x4 g3 (by omega) (by omega)
    obtain ⟨g5, u1, u2, u3, u4⟩ := st x5 g4 (by omega) (by omega)
    rw [p1, p_xV, q1, p_xV, s1, p_xV, t1, p_xV, u1, p_xV, p_bit1]
    have fc : p_fr [2] [(1, 2)] h g5 := (((p4.trans q4).trans s4).trans t4).trans u4
    have m0 : g5 254 1 = h 1 2 := (fc 254 1 rfl rfl).trans r1.symm
    obtain ⟨h1, a1, a2, a3, a4⟩ := pt_lay d L x1 (h := g5) (by omega) (by omega)
    obtain ⟨h2, b1, b2, b3, b4⟩ := pt_lay d L x2 (h := h1) (by omega) (by omega)
    obtain ⟨h3, c1, c2, c3, c4⟩ := pt_lay d L x3 (h := h2) (by omega) (by omega)
    obtain ⟨h4, d1, d2, d3, d4⟩ := pt_lay d L x4 (h := h3) (by omega) (by omega)
    obtain ⟨h5, e1, e2, e3, e4⟩ := pt_lay d L x5 (h := h4) (by omega) (by omega)
    have fm : p_fr [255] [(254, 1)] g5 h5 := (((a4.trans b4).trans c4).trans d4).trans e4
    have y2 : h5 2 = g5 2 := fm.cell 2 rfl rfl
    have y1 : h5 1 2 = g5 1 2 := fm 1 2 rfl rfl
    have y5 : g5 255 = h 255 := fc.cell 255 rfl rfl
    refine ⟨_, g5, h5, rfl, ?_, (fc.mono rfl rfl).trans (fm.mono rfl rfl), ?_, ?_, ?_, fun k hk => ?_⟩
    · rw [D_17_2, p_w (by omega) (by omega), if_neg (by omega), a1, p_xV, b1, p_xV, c1, p_xV, d1, p_xV, e1, p_xV, p_bit1]
    · rw [y1]; omega
    · rw [y1]; omega
    · rw [y1]; omega
    · rw [y2]
      rw [y1] at hk
      have key : ∀ y : Int, (-128 ≤ am_s8 y ∧ am_s8 y ≤ 127) ∧ am_s8 y % 256 = am_and y 255 := fun y => ⟨p_s8_rg y, by rw [p_s8_mod, p_and255]⟩
      rw [e3 k, u3 k]
      by_cases k5 : g4 1 2 ≤ k
      · rw [if_pos ⟨k5, by omega⟩, if_pos ⟨by omega, by omega⟩, show h4 254 1 = g4 1 2 by omega]; exact key _
      · rw [if_neg (by omega), if_neg (by omega), d3 k, t3 k]
        by_cases k4 : g3 1 2 ≤ k
        · rw [if_pos ⟨k4, by omega⟩, if_pos ⟨by omega, by omega⟩, show h3 254 1 = g3 1 2 by omega]; exact key _
        · rw [if_neg (by omega), if_neg (by omega), c3 k, s3 k]
          by_cases k3 : g2 1 2 ≤ k
          · rw [if_pos ⟨k3, by omega⟩, if_pos ⟨by omega, by omega⟩, show h2 254 1 = g2 1 2 by omega]; exact key _
          · rw [if_neg (by omega), if_neg (by omega), b3 k, q3 k]
            by_cases k2 : g1 1 2 ≤ k
            · rw [if_pos ⟨k2, by omega⟩, if_pos ⟨by omega, by omega⟩, show h1 254 1 = g1 1 2 by omega]; exact key _
            · rw [if_neg (by omega), if_neg (by omega), a3 k, p3 k, y5]
              by_cases k1 : h 1 2 ≤ k
              · rw [if_pos ⟨k1, by omega⟩, if_pos ⟨by omega, by omega⟩, show g5 254 1 = h 1 2 by omega]; exact key _
              · rw [if_neg (by omega), if_neg (by omega)]
                exact r4 k (by omega)
/-! a text is taken -/
section
variable (d L : Nat) (n : Nat)
theorem pt_take_c : ∀ (m : Nat) (h : am_H) (x : Nat), x + m = n → n ≤ 4000 → (∀ k, k < n → -128 ≤ h 2 k ∧ h 2 k ≤ 127) → ∃ h', am_E (am_D d) m_0_10 (.inl 1) [some (am_r (am_a 1)), some (am_i n), some (am_i x)] [] (zS L, h) = pV L h' ∧ h' 1 2 = 0 ∧ (∀ j, h' 3 j = if x ≤ j ∧ j < n then h 2 j else h 3 j) ∧ p_fr [3] [(1, 2)] h h' := by
  intro m
  induction m with
  | zero =>
    intro h x e hn hr
    rw [q_0_10_1, if_neg (by omega)]
    exact ⟨_, rfl, by rw [p_up_s], fun j => by rw [if_neg (by omega), p_up_n _ _ _ _ _ _ (Or.inl (by decide))], (p_fr.refl h).upf _ _ _ rfl⟩
  | succ m ih =>
    intro h x e hn hr
    rw [q_0_10_1, if_pos (by omega), p_idx (by omega) (by omega), p_idx (by omega) (by omega), p_w (by omega) (by omega), Int.toNat_natCast, p_s8 (hr x (by omega)).1 (hr x (by omega)).2]
    obtain ⟨h', a1, a2, a3, a4⟩ := ih (am_up h 3 x (h 2 x)) (x + 1) (by omega) hn (fun k hk => by rw [p_up_n _ _ _ _ _ _ (Or.inl (by decide))]; exact hr k hk)
    refine ⟨h', a1, a2, fun j => ?_, ((p_fr.refl h).upc _ _ _ rfl).trans a4⟩
    rw [a3 j, p_up_n h 3 x (h 2 x) 2 j (Or.inl (by decide)), p_up h 3 x (h 2 x) 3 j]
    by_cases c : x + 1 ≤ j ∧ j < n
    · rw [if_pos c, if_pos (by omega)]
    · rw [if_neg c]
      by_cases c2 : j = x
      · rw [if_pos ⟨rfl, c2⟩, if_pos (by omega), c2]
      · rw [if_neg (by omega), if_neg (by omega)]
theorem pt_take_m : ∀ (m : Nat) (h : am_H) (x : Nat), x + m = n → n ≤ 4000 → ∃ h', am_E (am_D d) m_17_3 (.inl 3) [some (am_r (am_a 254)), some (am_i n), some (am_i x)] [] (zS L, h) = pI L 1 h' ∧ h' 254 1 = 0 ∧ (∀ j, h' 256 j = if x ≤ j ∧ j < n then h 255 j else h 256 j) ∧ p_fr [256] [(254, 1)] h h' := by
  intro m
  induction m with
  | zero =>
    intro h x e hn
    rw [q_17_3_3, if_neg (by omega), p_bit1]
    exact ⟨_, rfl, by rw [p_up_s], fun j => by rw [if_neg (by omega), p_up_n _ _ _ _ _ _ (Or.inl (by decide))], (p_fr.refl h).upf _ _ _ rfl⟩
  | succ m ih =>
    intro h x e hn
    rw [q_17_3_3, if_pos (by omega), p_idx (by omega) (by omega), p_idx (by omega) (by omega), p_w (by omega) (by omega), Int.toNat_natCast]
    obtain ⟨h', a1, a2, a3, a4⟩ := ih (am_up h 256 x (h 255 x)) (x + 1) (by omega) hn
    refine ⟨h', a1, a2, fun j => ?_, ((p_fr.refl h).upc _ _ _ rfl).trans a4⟩
    rw [a3 j, p_up_n h 256 x (h 255 x) 255 j (Or.inl (by decide)), p_up h 256 x (h 255 x) 256 j]
    by_cases c : x + 1 ≤ j ∧ j < n
    · rw [if_pos c, if_pos (by omega)]
    · rw [if_neg c]
      by_cases c2 : j = x
      · rw [if_pos ⟨rfl, c2⟩, if_pos (by omega), c2]
      · rw [if_neg (by omega), if_neg (by omega)]
end
