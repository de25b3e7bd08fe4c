/-! PURE LAYER, 145: the model's commands, item by item -/
section
variable {h h' : am_H} {L d : Nat}
theorem cm_item {k : Nat} (M : MK h k) (h0 : 0 ≤ h 254 76) (h1 : h 254 76 + (lM h k).length ≤ 12000) : CW L (d + 3) 73 [am_r (am_a 254), am_i (k : Int)] h (lM h k) := by
  obtain ⟨m1, m2, m3, m4, m5, m6⟩ := M
  have one : ∀ (a b c : Int) {g : am_H}, 0 ≤ g 254 76 → g 254 76 < 12000 → ∃ h', am_D (d + 2) 17 69 [am_r (am_a 254), am_i a, am_i b, am_i c] (zS L, g) = pV L h' ∧ CM g h' [(a, b, c)] := fun a b c g q1 q2 => cm_one a b c q1 q2
  show ∃ h', _ ∧ _
  unfold lM at h1 ⊢
  rw [D_17_73, p_idx (by omega) (by omega), p_idx (by omega) (by omega), Int.toNat_natCast]
  by_cases c0 : h 277 k = 0
  · rw [if_pos c0] at h1
    rw [if_pos c0, if_pos c0]
    by_cases z : h 278 k < 0
    · rw [if_pos z] at h1
      rw [if_pos z, if_pos z]
      have h1 : h 254 76 + ((2 : Nat) : Int) ≤ 12000 := h1
      obtain ⟨g1, r1, C1⟩ := one 0 0 0 (g := h) (by omega) (by omega)
      have s1 : g1 254 76 = h 254 76 + 1 := C1.1
      obtain ⟨g2, r2, C2⟩ := one 7 0 0 (g := g1) (by omega) (by omega)
      have s2 : g2 254 76 = g1 254 76 + 1 := C2.1
      exact ⟨g2, by rw [r1, p_xV, if_pos z, r2, p_xV], (C1.app (by omega) C2)⟩
    · rw [if_neg z] at h1
      rw [if_neg z, if_neg z]
      have h1 : h 254 76 + ((1 : Nat) : Int) ≤ 12000 := h1
      obtain ⟨g1, r1, C1⟩ := one 0 0 (h 278 k) (g := h) (by omega) (by omega)
      have s1 : g1 254 76 = h 254 76 + 1 := C1.1
      exact ⟨g1, by rw [r1, p_xV, if_neg z], C1⟩
  rw [if_neg c0] at h1
  rw [if_neg c0, if_neg c0]
  by_cases c1 : h 277 k = 1
  · rw [if_pos c1] at h1
    rw [if_pos c1, if_pos c1]
    obtain ⟨⟨y1, y2⟩, y3⟩ := m2 c1
    rw [List.length_cons, List.length_cons, chM_len] at h1
    obtain ⟨g1, r1, C1⟩ := one 0 0 (h 279 k) (g := h) (by omega) (by omega)
    have s1 : g1 254 76 = h 254 76 + 1 := C1.1
    obtain ⟨g2, r2, C2⟩ := one 15 300 1 (g := g1) (by omega) (by omega)
    have s2 : g2 254 76 = g1 254 76 + 1 := C2.1
    have CC := C1.app h0 C2
    have ee : ∀ c, c ≠ 254 → c < 305 → g2 c = h c := fun c h1 h2 => CC.fr h1 h2
    obtain ⟨g3, r3, C3⟩ := cm_ch (L := L) (d := d) (u2 := some (am_i (h 278 k))) m1 (h 279 k).toNat 0 (h := g2) (by rw [ee 279 (by decide) (by decide)]; omega) (by rw [ee 303 (by decide) (by decide)]; exact y2) (by rw [ee 303 (by decide) (by decide), ee 279 (by decide) (by decide)]; exact y3) (by omega) (by omega)
    rw [chM_fr ee, ee 303 (by decide) (by decide)] at C3
    exact ⟨g3, by rw [p_idx (by omega) (by omega), Int.toNat_natCast, r1, p_xV, r2, p_xV]; exact r3, CC.app h0 C3⟩
  rw [if_neg c1] at h1
  rw [if_neg c1, if_neg c1]
  by_cases c2 : h 277 k = 2
  · rw [if_pos c2] at h1
    rw [if_pos c2, if_pos c2]
    exact ⟨h, rfl, CM.nil h⟩
  rw [if_neg c2] at h1
  rw [if_neg c2, if_neg c2]
  by_cases c3 : h 277 k = 3
  · rw [if_pos c3] at h1
    rw [if_pos c3, if_pos c3]
    have h1 : h 254 76 + ((1 : Nat) : Int) ≤ 12000 := h1
    obtain ⟨g1, r1, C1⟩ := one 0 6 0 (g := h) (by omega) (by omega)
    have s1 : g1 254 76 = h 254 76 + 1 := C1.1
    exact ⟨g1, by rw [r1, p_xV], C1⟩
  rw [if_neg c3] at h1
  rw [if_neg c3, if_neg c3]
  by_cases c4 : h 277 k = 4
  · rw [if_pos c4] at h1
    rw [if_pos c4, if_pos c4]
    have h1 : h 254 76 + ((1 : Nat) : Int) ≤ 12000 := h1
    obtain ⟨g1, r1, C1⟩ := cm_var (L := L) (d := d) 0 (h 278 k) (m3 (by omega)) h0 (by omega)
    exact ⟨g1, by rw [r1, p_xV], C1⟩
  rw [if_neg c4] at h1
  rw [if_neg c4, if_neg c4]
  by_cases c5 : h 277 k = 5
  · rw [if_pos c5] at h1
    rw [if_pos c5, if_pos c5]
    have h1 : h 254 76 + ((3 : Nat) : Int) ≤ 12000 := h1
    obtain ⟨g1, r1, C1⟩ := one 2 0 0 (g := h) (by omega) (by omega)
    have s1 : g1 254 76 = h 254 76 + 1 := C1.1
    obtain ⟨g2, r2, C2⟩ := one 1 6 1 (g := g1) (by omega) (by omega)
    have s2 : g2 254 76 = g1 254 76 + 1 := C2.1
    obtain ⟨g3, r3, C3⟩ := one 0 5 0 (g := g2) (by omega) (by omega)
    have s3 : g3 254 76 = g2 254 76 + 1 := C3.1
    exact ⟨g3, by rw [r1, p_xV, r2, p_xV, r3, p_xV], (C1.app (by omega) (C2.app (by omega) C3))⟩
  rw [if_neg c5] at h1
  rw [if_neg c5, if_neg c5]
  by_cases c6 : h 277 k = 6
  · rw [if_pos c6] at h1
    rw [if_pos c6, if_pos c6]
    have ol : (opM (h 278 k)).length = 1 := by unfold opM; repeat' split
                                               all_goals rfl
    obtain ⟨g1, r1, C1⟩ := cm_op (L := L) (d := d) (h 278 k) h0 (by omega)
    exact ⟨g1, by rw [r1, p_xV], C1⟩
  rw [if_neg c6] at h1
  rw [if_neg c6, if_neg c6]
  by_cases c7 : h 277 k = 7
  · rw [if_pos c7] at h1
    rw [if_pos c7, if_pos c7]
    have h1 : h 254 76 + ((1 : Nat) : Int) ≤ 12000 := h1
    obtain ⟨g1, r1, C1⟩ := one 4 0 0 (g := h) (by omega) (by omega)
    have s1 : g1 254 76 = h 254 76 + 1 := C1.1
    exact ⟨g1, by rw [r1, p_xV], C1⟩
  rw [if_neg c7] at h1
  rw [if_neg c7, if_neg c7]
  by_cases c8 : h 277 k = 8
  · rw [if_pos c8] at h1
    rw [if_pos c8, if_pos c8]
    have h1 : h 254 76 + ((1 : Nat) : Int) ≤ 12000 := h1
    obtain ⟨g1, r1, C1⟩ := one 7 0 0 (g := h) (by omega) (by omega)
    have s1 : g1 254 76 = h 254 76 + 1 := C1.1
    exact ⟨g1, by rw [r1, p_xV], C1⟩
  rw [if_neg c8] at h1
  rw [if_neg c8, if_neg c8]
  by_cases c9 : h 277 k = 9
  · rw [if_pos c9] at h1
    rw [if_pos c9, if_pos c9]
    obtain ⟨y1, y2⟩ := m4 (Or.inl c9)
    rw [p_idx y1 y2]
    have E15 : ∀ {g : am_H}, g 285 = h 285 → 0 ≤ g 254 76 → g 254 76 + ((if h 285 (h 278 k).toNat = 2 then [((0 : Int), (6 : Int), (0 : Int))] else []).length : Int) ≤ 12000 → ∃ h', am_E (am_D (d + 2)) m_17_73 (.inl 15) [some (am_r (am_a 254)), some (am_i (k : Int)), some (am_i (h 278 k)), none] [] (zS L, g) = pV L h' ∧ CM g h' (if h 285 (h 278 k).toNat = 2 then [((0 : Int), (6 : Int), (0 : Int))] else []) := fun {g} eg q0 q1 => by
      rw [q_17_73_15, p_idx y1 y2, eg]
      by_cases z : h 285 (h 278 k).toNat = 2
      · rw [if_pos z] at q1
        rw [if_pos z, if_pos z]
        have q1 : g 254 76 + ((1 : Nat) : Int) ≤ 12000 := q1
        obtain ⟨g1, r1, C1⟩ := one 0 6 0 (g := g) q0 (by omega)
        exact ⟨g1, by rw [r1, p_xV], C1⟩
      · rw [if_neg z, if_neg z]; exact ⟨g, rfl, CM.nil g⟩
    by_cases z : h 285 (h 278 k).toNat = 1
    · rw [if_pos z, List.length_append] at h1
      rw [if_pos z, if_pos z, p_idx y1 y2]
      have h1 : h 254 76 + ((1 + (if h 285 (h 278 k).toNat = 2 then [((0 : Int), (6 : Int), (0 : Int))] else []).length : Nat) : Int) ≤ 12000 := h1
      obtain ⟨g1, r1, C1⟩ := cm_var (L := L) (d := d) 0 (h 286 (h 278 k).toNat) (m5 c9 z) h0 (by omega)
      have s1 : g1 254 76 = h 254 76 + 1 := C1.1
      obtain ⟨g2, r2, C2⟩ := E15 (g := g1) (C1.fr (by decide) (by decide)) (by omega) (by omega)
      exact ⟨g2, by rw [r1, p_xV]; exact r2, C1.app h0 C2⟩
    · rw [if_neg z, List.nil_append] at h1
      rw [if_neg z, if_neg z, List.nil_append]
      exact E15 rfl h0 h1
  rw [if_neg c9] at h1
  rw [if_neg c9, if_neg c9]
  by_cases c10 : h 277 k = 10
  · rw [if_pos c10] at h1
    rw [if_pos c10, if_pos c10]
    obtain ⟨y1, y2⟩ := m4 (Or.inr c10)
    obtain ⟨y3, y4, y5⟩ := m6 c10
    have h1 : h 254 76 + ((1 : Nat) : Int) ≤ 12000 := h1
    rw [p_idx y1 y2, p_idx y1 y2, cm_cl (d := d + 1) _ _ y3, p_xI, p_idx y1 y2, p_idx y1 y2]
    by_cases z : 0 < h 285 (h 278 k).toNat
    · rw [if_pos z, if_pos z, p_w (by omega) (by omega)]
      obtain ⟨g1, r1, C1⟩ := one 15 (clM h (h 287 (h 278 k).toNat) (h 288 (h 278 k).toNat)) (h 284 (h 278 k).toNat + 1) (g := h) h0 (by omega)
      exact ⟨g1, by rw [r1, p_xV], C1⟩
    · rw [if_neg z, if_neg z, p_w (x := h 284 (h 278 k).toNat + 0) (by omega) (by omega), Int.add_zero]
      obtain ⟨g1, r1, C1⟩ := one 15 (clM h (h 287 (h 278 k).toNat) (h 288 (h 278 k).toNat)) (h 284 (h 278 k).toNat) (g := h) h0 (by omega)
      exact ⟨g1, by rw [r1, p_xV], C1⟩
  rw [if_neg c10] at h1
  rw [if_neg c10, if_neg c10]
  by_cases c11 : h 277 k = 11
  · rw [if_pos c11] at h1
    rw [if_pos c11, if_pos c11]
    exact ⟨h, rfl, CM.nil h⟩
  rw [if_neg c11] at h1
  rw [if_neg c11, if_neg c11]
  by_cases c12 : h 277 k = 12
  · rw [if_pos c12] at h1
    rw [if_pos c12, if_pos c12]
    exact ⟨h, rfl, CM.nil h⟩
  rw [if_neg c12] at h1
  rw [if_neg c12, if_neg c12]
  by_cases c13 : h 277 k = 13
  · rw [if_pos c13] at h1
    rw [if_pos c13, if_pos c13]
    have h1 : h 254 76 + ((1 : Nat) : Int) ≤ 12000 := h1
    obtain ⟨g1, r1, C1⟩ := cm_var (L := L) (d := d) 1 (h 278 k) (m3 (by omega)) h0 (by omega)
    exact ⟨g1, by rw [r1, p_xV], C1⟩
  rw [if_neg c13] at h1
  rw [if_neg c13, if_neg c13]
  by_cases c14 : h 277 k = 14
  · rw [if_pos c14] at h1
    rw [if_pos c14, if_pos c14]
    have h1 : h 254 76 + ((4 : Nat) : Int) ≤ 12000 := h1
    obtain ⟨g1, r1, C1⟩ := one 1 7 0 (g := h) (by omega) (by omega)
    have s1 : g1 254 76 = h 254 76 + 1 := C1.1
    obtain ⟨g2, r2, C2⟩ := one 1 6 1 (g := g1) (by omega) (by omega)
    have s2 : g2 254 76 = g1 254 76 + 1 := C2.1
    obtain ⟨g3, r3, C3⟩ := one 0 7 0 (g := g2) (by omega) (by omega)
    have s3 : g3 254 76 = g2 254 76 + 1 := C3.1
    obtain ⟨g4, r4, C4⟩ := one 1 5 0 (g := g3) (by omega) (by omega)
    have s4 : g4 254 76 = g3 254 76 + 1 := C4.1
    exact ⟨g4, by rw [r1, p_xV, r2, p_xV, r3, p_xV, r4, p_xV], (C1.app (by omega) (C2.app (by omega) (C3.app (by omega) C4)))⟩
  rw [if_neg c14] at h1
  rw [if_neg c14, if_neg c14]
  by_cases c15 : h 277 k = 15
  · rw [if_pos c15] at h1
    rw [if_pos c15, if_pos c15]
    have h1 : h 254 76 + ((3 : Nat) : Int) ≤ 12000 := h1
    obtain ⟨g1, r1, C1⟩ := one 0 0 0 (g := h) (by omega) (by omega)
    have s1 : g1 254 76 = h 254 76 + 1 := C1.1
    obtain ⟨g2, r2, C2⟩ := one 8 0 0 (g := g1) (by omega) (by omega)
    have s2 : g2 254 76 = g1 254 76 + 1 := C2.1
    have e279 : g2 279 = h 279 := (C1.app h0 C2).fr (by decide) (by decide)
    obtain ⟨g3, r3, C3⟩ := one 13 (h 279 k) 0 (g := g2) (by omega) (by omega)
    exact ⟨g3, by rw [r1, p_xV, r2, p_xV, p_idx (by omega) (by omega), Int.toNat_natCast, e279, r3, p_xV], C1.app (by omega) (C2.app (by omega) C3)⟩
  rw [if_neg c15] at h1
  rw [if_neg c15, if_neg c15]
  by_cases c16 : h 277 k = 16
  · rw [if_pos c16] at h1
    rw [if_pos c16, if_pos c16]
    have h1 : h 254 76 + ((1 : Nat) : Int) ≤ 12000 := h1
    obtain ⟨g1, r1, C1⟩ := one 12 (h 279 k) 0 (g := h) (by omega) (by omega)
    have s1 : g1 254 76 = h 254 76 + 1 := C1.1
    exact ⟨g1, by rw [p_idx (by omega) (by omega), Int.toNat_natCast, r1, p_xV], C1⟩
  rw [if_neg c16] at h1
  rw [if_neg c16, if_neg c16]
  by_cases c17 : h 277 k = 17
  · rw [if_pos c17] at h1
    rw [if_pos c17, if_pos c17]
    exact ⟨h, rfl, CM.nil h⟩
  rw [if_neg c17] at h1
  rw [if_neg c17, if_neg c17]
  by_cases c18 : h 277 k = 18
  · rw [if_pos c18] at h1
    rw [if_pos c18, if_pos c18]
    have h1 : h 254 76 + ((1 : Nat) : Int) ≤ 12000 := h1
    obtain ⟨g1, r1, C1⟩ := one 16 0 0 (g := h) (by omega) (by omega)
    have s1 : g1 254 76 = h 254 76 + 1 := C1.1
    exact ⟨g1, by rw [r1, p_xV], C1⟩
  rw [if_neg c18] at h1
  rw [if_neg c18, if_neg c18]
  by_cases c19 : h 277 k = 19
  · rw [if_pos c19] at h1
    rw [if_pos c19, if_pos c19]
    have h1 : h 254 76 + ((1 : Nat) : Int) ≤ 12000 := h1
    obtain ⟨g1, r1, C1⟩ := one 1 7 0 (g := h) (by omega) (by omega)
    have s1 : g1 254 76 = h 254 76 + 1 := C1.1
    exact ⟨g1, by rw [r1, p_xV], C1⟩
  rw [if_neg c19] at h1
  rw [if_neg c19, if_neg c19]
  by_cases c20 : h 277 k = 20
  · rw [if_pos c20] at h1
    rw [if_pos c20, if_pos c20]
    have h1 : h 254 76 + ((1 : Nat) : Int) ≤ 12000 := h1
    obtain ⟨g1, r1, C1⟩ := one 11 (h 278 k) 0 (g := h) (by omega) (by omega)
    have s1 : g1 254 76 = h 254 76 + 1 := C1.1
    exact ⟨g1, by rw [r1, p_xV], C1⟩
  rw [if_neg c20] at h1
  rw [if_neg c20, if_neg c20]
  exact ⟨h, rfl, CM.nil h⟩
end
