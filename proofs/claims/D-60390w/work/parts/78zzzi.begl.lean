/-! LOAD, 8: the lines with which a run begins -/
/-- lines put behind the code -/
def VA (h h' : am_H) (l : List vl) : Prop :=
  h' 8 3 = h 8 3 + (l.length : Int) ∧ (∀ j e, l[j]? = some e → h' 9 ((h 8 3).toNat + j) = (e.1 : Int) ∧ h' 10 ((h 8 3).toNat + j) = (e.2.1 : Int) ∧ h' 11 ((h 8 3).toNat + j) = (e.2.2 : Int)) ∧ (∀ c k, c = 9 ∨ c = 10 ∨ c = 11 → k < (h 8 3).toNat → h' c k = h c k) ∧ (∀ j, j ≠ 3 → h' 8 j = h 8 j) ∧ ∀ c, c ≠ 8 → c ≠ 9 → c ≠ 10 → c ≠ 11 → h' c = h c
theorem VA.app {h h1 h2 : am_H} {l l' : List vl} (h0 : 0 ≤ h 8 3) (a : VA h h1 l) (b : VA h1 h2 l') : VA h h2 (l ++ l') := by
  obtain ⟨a1, a2, a3, a4, a5⟩ := a
  obtain ⟨b1, b2, b3, b4, b5⟩ := b
  have e : (h1 8 3).toNat = (h 8 3).toNat + l.length := by omega
  refine ⟨by rw [b1, a1, List.length_append]; omega, fun j x hj => ?_, fun c k hc hk => by rw [b3 c k hc (by omega), a3 c k hc hk], fun j hj => by rw [b4 j hj, a4 j hj], fun c c1 c2 c3 c4 => by rw [b5 c c1 c2 c3 c4, a5 c c1 c2 c3 c4]⟩
  by_cases z : j < l.length
  · rw [List.getElem?_append_left z] at hj
    rw [b3 9 _ (by omega) (by omega), b3 10 _ (by omega) (by omega), b3 11 _ (by omega) (by omega)]
    exact a2 j x hj
  · rw [List.getElem?_append_right (by omega)] at hj
    have := b2 _ x hj
    rw [e, show (h 8 3).toNat + l.length + (j - l.length) = (h 8 3).toNat + j by omega] at this
    exact this
section
variable {L d : Nat} {h : am_H}
theorem va_add {o a b : Nat} (ho : o ≤ 127) (ha : a ≤ 32767) (hb : b ≤ 32767) (h0 : 0 ≤ h 8 3) (h1 : h 8 3 < 9000) : ∃ h', am_D (d + 1) 16 1 [am_r (am_a 8), am_i (o : Int), am_i (a : Int), am_i (b : Int)] (zS L, h) = pV L h' ∧ VA h h' [(o, a, b)] := by
  have e8 : am_s8 (am_s8 (o : Int)) = (o : Int) := by
    have : am_s8 (o : Int) = (o : Int) := Int.bmod_eq_of_le (by omega) (by omega)
    rw [this, this]
  refine ⟨_, by rw [D_16_1, p_idx h0 h1, p_idx h0 h1, p_idx h0 h1, e8, p_s16_s16, p_s16_s16, s16_id ⟨by omega, by omega⟩, s16_id ⟨by omega, by omega⟩, p_w (by omega) (by omega)], ?_, fun j e hj => ?_, fun c k hc hk => ?_, fun j hj => ?_, fun c c1 c2 c3 c4 => ?_⟩
  · rw [p_up_s]; rfl
  · have : j = 0 := by
      have := (List.getElem?_eq_some_iff.1 hj).1
      rw [List.length_singleton] at this; omega
    subst this
    cases hj
    rw [Nat.add_zero]
    refine ⟨?_, ?_, ?_⟩
    · rw [p_up_c _ _ _ _ _ (by decide), p_up_c _ _ _ _ _ (by decide), p_up_c _ _ _ _ _ (by decide), p_up_s]
    · rw [p_up_c _ _ _ _ _ (by decide), p_up_c _ _ _ _ _ (by decide), p_up_s]
    · rw [p_up_c _ _ _ _ _ (by decide), p_up_s]
  · rcases hc with rfl | rfl | rfl
    · rw [p_up_c _ _ _ _ _ (by decide), p_up_c _ _ _ _ _ (by decide), p_up_c _ _ _ _ _ (by decide), p_up_n _ _ _ _ _ _ (Or.inr (by omega))]
    · rw [p_up_c _ _ _ _ _ (by decide), p_up_c _ _ _ _ _ (by decide), p_up_n _ _ _ _ _ _ (Or.inr (by omega)), p_up_c _ _ _ _ _ (by decide)]
    · rw [p_up_c _ _ _ _ _ (by decide), p_up_n _ _ _ _ _ _ (Or.inr (by omega)), p_up_c _ _ _ _ _ (by decide), p_up_c _ _ _ _ _ (by decide)]
  · rw [p_up_n _ _ _ _ _ _ (Or.inr hj), p_up_c _ _ _ _ _ (by decide), p_up_c _ _ _ _ _ (by decide), p_up_c _ _ _ _ _ (by decide)]
  · rw [p_up_c _ _ _ _ _ c1, p_up_c _ _ _ _ _ c4, p_up_c _ _ _ _ _ c3, p_up_c _ _ _ _ _ c2]
theorem va_call {o x : Int} {u : Nat} (hw : h 212 24 = 1) (h5 : 0 ≤ h 217 5 ∧ h 217 5 ≤ 130) (hu : ce_sub h o x = (u : Int)) (hu2 : u ≤ 32767) (h0 : 0 ≤ h 8 3) (h1 : h 8 3 < 9000) : ∃ h', am_D (d + 2) 7 25 [am_r (am_a 212), am_i o, am_i x, am_i 0] (zS L, h) = pV L h' ∧ VA h h' [(15, u, 0)] := by
  obtain ⟨h', r, A⟩ := va_add (L := L) (d := d) (h := h) (o := 15) (a := u) (b := 0) (by decide) hu2 (by decide) h0 h1
  have r : am_D (d + 1) 16 1 [am_r (am_a 8), am_i 15, am_i (u : Int), am_i 0] (zS L, h) = pV L h' := r
  exact ⟨h', by rw [D_7_25, hw, if_neg (by decide), fi_sub _ _ o x h5, p_xI, hu, r, p_xV], A⟩
theorem va_pop (hw : h 212 24 = 1) (h0 : 0 ≤ h 8 3) (h1 : h 8 3 < 9000) : ∃ h', am_D (d + 3) 7 15 [am_r (am_a 212), am_i 5, am_i 0] (zS L, h) = pV L h' ∧ VA h h' [(1, 5, 0)] := by
  obtain ⟨h', r, A⟩ := va_add (L := L) (d := d) (h := h) (o := 1) (a := 5) (b := 0) (by decide) (by decide) (by decide) h0 h1
  have r : am_D (d + 1) 16 1 [am_r (am_a 8), am_i 1, am_i 5, am_i 0] (zS L, h) = pV L h' := r
  exact ⟨h', by rw [D_7_15, hw, if_neg (by decide), D_16_4, r, p_xV, p_xV], A⟩
/-- names of the beginnings -/
def BGN (h : am_H) (m : Nat) : Prop := ce_sub h (ce_cls h (h 212 28)) (h 211 10) = 0 ∧ ce_sub h (ce_cls h (h 211 11)) (h 211 10) = 37 ∧ ce_sub h (ce_own h (h 212 26)) (h 212 27) = (m : Int) ∧ ce_sub h (ce_cls h (h 211 12)) (h 211 13) = 46
theorem ce_t_eq {h' : am_H} (e : ∀ c, c ≠ 8 → c ≠ 9 → c ≠ 10 → c ≠ 11 → h' c = h c) : (∀ x, ce_cls h' x = ce_cls h x) ∧ (∀ o x, ce_sub h' o x = ce_sub h o x) ∧ ∀ x, ce_own h' x = ce_own h x := by
  refine ⟨fun x => ?_, fun o x => ?_, fun x => ?_⟩
  · unfold ce_cls; rw [e 213 (by decide) (by decide) (by decide) (by decide), e 214 (by decide) (by decide) (by decide) (by decide)]
  · unfold ce_sub; rw [e 217 (by decide) (by decide) (by decide) (by decide), e 218 (by decide) (by decide) (by decide) (by decide), e 219 (by decide) (by decide) (by decide) (by decide)]
  · unfold ce_own; rw [e 212 (by decide) (by decide) (by decide) (by decide), e 213 (by decide) (by decide) (by decide) (by decide), e 214 (by decide) (by decide) (by decide) (by decide)]
theorem c_beg {m : Nat} (B : BGN (am_up h 212 24 1) m) (hm : m ≤ 32767) (h3 : 0 ≤ h 213 3 ∧ h 213 3 ≤ 24) (h20 : 0 ≤ h 212 20 ∧ h 212 20 ≤ h 213 3) (h5 : 0 ≤ h 217 5 ∧ h 217 5 ≤ 130) (h0 : 0 ≤ h 8 3) (h1 : h 8 3 + 7 ≤ 9000) : ∃ h', am_D (d + 4) 7 27 [am_r (am_a 212), am_r (am_a 211)] (zS L, h) = pV L h' ∧ VA (am_up h 212 24 1) h' (begN m) := by
  obtain ⟨g, hg⟩ : ∃ g, g = am_up h 212 24 1 := ⟨_, rfl⟩
  rw [← hg] at B
  have gc : ∀ c, c ≠ 212 → g c = h c := fun c hc => by rw [hg, p_up_c _ _ _ _ _ hc]
  have g24 : g 212 24 = 1 := by rw [hg, p_up_s]
  have gn : ∀ j, j ≠ 24 → g 212 j = h 212 j := fun j hj => by rw [hg, p_up_n _ _ _ _ _ _ (Or.inr hj)]
  obtain ⟨B1, B2, B3, B4⟩ := B
  have g3 : 0 ≤ g 213 3 ∧ g 213 3 ≤ 24 := by rw [gc 213 (by decide)]; exact h3
  have g5 : 0 ≤ g 217 5 ∧ g 217 5 ≤ 130 := by rw [gc 217 (by decide)]; exact h5
  have g20 : 0 ≤ g 212 20 ∧ g 212 20 ≤ g 213 3 := by rw [gn 20 (by decide), gc 213 (by decide)]; exact h20
  have g8 : g 8 3 = h 8 3 := by rw [gc 8 (by decide)]
  -- a step keeps the tables
  have st : ∀ {x : am_H} {l : List vl}, VA g x l → x 212 24 = 1 ∧ (0 ≤ x 213 3 ∧ x 213 3 ≤ 24) ∧ (0 ≤ x 217 5 ∧ x 217 5 ≤ 130) ∧ (0 ≤ x 212 20 ∧ x 212 20 ≤ x 213 3) ∧ x 211 = g 211 ∧ (∀ j, x 212 j = g 212 j) ∧ (∀ y, ce_cls x y = ce_cls g y) ∧ (∀ o y, ce_sub x o y = ce_sub g o y) ∧ ∀ y, ce_own x y = ce_own g y := by
    intro x l A
    have e : ∀ c, c ≠ 8 → c ≠ 9 → c ≠ 10 → c ≠ 11 → x c = g c := A.2.2.2.2
    rw [e 212 (by decide) (by decide) (by decide) (by decide), e 213 (by decide) (by decide) (by decide) (by decide), e 217 (by decide) (by decide) (by decide) (by decide), e 211 (by decide) (by decide) (by decide) (by decide)]
    obtain ⟨t1, t2, t3⟩ := ce_t_eq e
    exact ⟨g24, g3, g5, g20, rfl, fun _ => rfl, t1, t2, t3⟩
  obtain ⟨x1, r1, A1⟩ := va_call (L := L) (d := d + 1) (h := g) (o := ce_cls g (g 212 28)) (x := g 211 10) (u := 0) g24 g5 B1 (by decide) (by omega) (by omega)
  have s1 := A1.1
  have s1 : x1 8 3 = g 8 3 + ((1 : Nat) : Int) := s1
  obtain ⟨f1, f2, f3, f4, f5, f6, f7, f8, f9⟩ := st A1
  obtain ⟨x2, r2, A2⟩ := va_pop (L := L) (d := d) (h := x1) f1 (by omega) (by omega)
  have A2 := A1.app (by omega) A2
  have s2 : x2 8 3 = g 8 3 + ((2 : Nat) : Int) := A2.1
  obtain ⟨k1, k2, k3, k4, k5, k6, k7, k8, k9⟩ := st A2
  obtain ⟨x3, r3, A3⟩ := va_call (L := L) (d := d + 1) (h := x2) (o := ce_cls g (g 211 11)) (x := g 211 10) (u := 37) k1 k3 (by rw [k8]; exact B2) (by decide) (by omega) (by omega)
  have A3 := A2.app (by omega) A3
  have s3 : x3 8 3 = g 8 3 + ((3 : Nat) : Int) := A3.1
  obtain ⟨l1, l2, l3, l4, l5, l6, l7, l8, l9⟩ := st A3
  obtain ⟨x4, r4, A4⟩ := va_pop (L := L) (d := d) (h := x3) l1 (by omega) (by omega)
  have A4 := A3.app (by omega) A4
  have s4 : x4 8 3 = g 8 3 + ((4 : Nat) : Int) := A4.1
  obtain ⟨m1, m2, m3, m4, m5, m6, m7, m8, m9⟩ := st A4
  obtain ⟨x5, r5, A5⟩ := va_call (L := L) (d := d + 1) (h := x4) (o := ce_own g (g 212 26)) (x := g 212 27) (u := m) m1 m3 (by rw [m8]; exact B3) hm (by omega) (by omega)
  have A5 := A4.app (by omega) A5
  have s5 : x5 8 3 = g 8 3 + ((5 : Nat) : Int) := A5.1
  obtain ⟨n1, n2, n3, n4, n5, n6, n7, n8, n9⟩ := st A5
  obtain ⟨x6, r6, A6⟩ := va_pop (L := L) (d := d) (h := x5) n1 (by omega) (by omega)
  have A6 := A5.app (by omega) A6
  have s6 : x6 8 3 = g 8 3 + ((6 : Nat) : Int) := A6.1
  obtain ⟨o1, o2, o3, o4, o5, o6, o7, o8, o9⟩ := st A6
  obtain ⟨x7, r7, A7⟩ := va_call (L := L) (d := d + 1) (h := x6) (o := ce_cls g (g 211 12)) (x := g 211 13) (u := 46) o1 o3 (by rw [o8]; exact B4) (by decide) (by omega) (by omega)
  have A7 := A6.app (by omega) A7
  refine ⟨x7, ?_, by rw [← hg]; exact A7⟩
  have a211 : ∀ (x : am_H) (k : Nat → Nat → List am_R → Option am_O), am_arr (zS L, x) (am_a 211) 1 k = k 211 14 [] := fun x k => rfl
  have t10 : Int.toNat 10 = 10 := rfl
  have t11 : Int.toNat 11 = 11 := rfl
  have t12 : Int.toNat 12 = 12 := rfl
  have t13 : Int.toNat 13 = 13 := rfl
  rw [D_7_27, p_bit1, ← hg, ← gn 28 (by decide), fi_cls _ _ _ g3, p_xI, a211, p_idx (by decide) (by decide), t10, r1, p_xV, r2, p_xV, a211, p_idx (by decide) (by decide), t11, k5, fi_cls _ _ _ k2, p_xI, k7, a211, p_idx (by decide) (by decide), t10, k5, r3, p_xV, r4, p_xV, m6, fi_own _ _ _ m2 m4, p_xI, m9, m6, r5, p_xV, r6, p_xV, a211, p_idx (by decide) (by decide), t12, o5, fi_cls _ _ _ o2, p_xI, o7, a211, p_idx (by decide) (by decide), t13, o5, r7, p_xV]
end
