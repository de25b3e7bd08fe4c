/-! RUN, 8: a call of the system, on both sides -/
/-- class, number within it, sub of the machine, values given -/
def sysT : List (Nat × Nat × Nat × Nat) := [(0, 0, 7, 1), (0, 1, 8, 2), (0, 2, 9, 2), (0, 3, 10, 2), (0, 4, 11, 2), (0, 5, 12, 1), (1, 0, 1, 1), (1, 1, 2, 2), (1, 2, 3, 1), (1, 3, 4, 1), (2, 0, 13, 1), (2, 1, 14, 1), (3, 0, 15, 1), (3, 1, 17, 1), (3, 2, 18, 2), (3, 3, 19, 3), (3, 4, 20, 2), (3, 5, 21, 1), (3, 6, 22, 1), (3, 7, 23, 2), (3, 8, 16, 1), (3, 9, 25, 0), (3, 10, 26, 0), (3, 11, 27, 0), (4, 0, 28, 1), (4, 1, 30, 1), (4, 2, 31, 1), (4, 3, 29, 0), (5, 0, 33, 0), (5, 1, 34, 0), (5, 2, 36, 1), (6, 0, 39, 0), (6, 1, 38, 1), (6, 2, 41, 2), (6, 3, 43, 4), (6, 4, 44, 4), (6, 5, 45, 3), (7, 0, 46, 0), (7, 1, 47, 1), (7, 2, 48, 1)]
/-- what both sides answer -/
def JS (ky : List Int) (L d c s u : Nat) (as : List Int) (G : vG) (h : am_H) : Prop := ∃ o h' r, vD ky 9 u as G = some o ∧ am_D (d + 9) 17 109 [am_r (am_a 254), am_i (c : Int), am_i (s : Int)] (zS L, h) = pI L r h' ∧ JO ky G h o h' ∧ (∀ v, o.1 = .inl v → am_s16 r = v)
section
variable (d L : Nat) {ky : List Int} {G : vG} {h : am_H}
theorem vD_u {a b s : Nat} {as : List Int} {o o' : vO} (h1 : vD ky a s as G = some o) (h2 : vD ky b s as G = some o') : o = o' := by
  have g1 := vD_mono (Nat.le_max_left a b) h1
  have g2 := vD_mono (Nat.le_max_right a b) h2
  rw [g1] at g2; exact Option.some.inj g2
theorem JO.rg {o : vO} {h' : am_H} (J : JO ky G h o h') {v : Int} (hv : o.1 = .inl v) : rg16 v := by
  obtain ⟨x, G1⟩ := o
  dsimp only at hv
  subst hv
  exact J.2.2.2.2.2
theorem j_math (R : MR ky G h) (e : h 254 99 = -1) (s u n : Nat) (hT : (0, s, u, n) ∈ sysT) (as : List Int) (hl : as.length = n) (ha : ∀ i v, as[i]? = some v → h 321 i = v ∧ rg16 v) : JS ky L d 0 s u as G h := by
  unfold JS
  have E : ∀ x2, am_D (d + 9) 17 109 [am_r (am_a 254), am_i ((0 : Nat) : Int), am_i x2] (zS L, h) = am_xI (zS L) (am_D (d + 8) 17 103 [am_r (am_a 254), am_i x2] (zS L, h)) (am_up1 (zS L)) fun v2 h1 => pI L v2 h1 := fun x2 => by rw [D_17_109, if_pos (show ((0 : Nat) : Int) = 0 from rfl)]
  rw [E, D_17_103, p_idx (by decide) (by decide), p_idx (by decide) (by decide), show (0 : Int).toNat = 0 from rfl, show (1 : Int).toNat = 1 from rfl]
  have cs : s = 0 ∧ u = 7 ∧ n = 1 ∨ s = 1 ∧ u = 8 ∧ n = 2 ∨ s = 2 ∧ u = 9 ∧ n = 2 ∨ s = 3 ∧ u = 10 ∧ n = 2 ∨ s = 4 ∧ u = 11 ∧ n = 2 ∨ s = 5 ∧ u = 12 ∧ n = 1 := by simp [sysT] at hT; omega
  rcases cs with ⟨rfl, rfl, rfl⟩ | ⟨rfl, rfl, rfl⟩ | ⟨rfl, rfl, rfl⟩ | ⟨rfl, rfl, rfl⟩ | ⟨rfl, rfl, rfl⟩ | ⟨rfl, rfl, rfl⟩
  · match as, hl with
    | [x], _ =>
      obtain ⟨h0, r0⟩ := ha 0 x rfl
      rw [v_abs, h0, if_pos (show ((0 : Nat) : Int) = 0 from rfl)]
      by_cases c : x < 0
      · rw [if_pos c, if_pos c, p_xI]
        exact ⟨_, _, _, rfl, rfl, JO_ret R e (rg16_s _), fun v hv => by injection hv with hv; rw [← hv, s16_w]⟩
      · rw [if_neg c, if_neg c, p_xI]
        exact ⟨_, _, _, rfl, rfl, JO_ret R e r0, fun v hv => by injection hv with hv; rw [← hv, s16_id r0]⟩
  · match as, hl with
    | [x, y], _ =>
      obtain ⟨h0, r0⟩ := ha 0 x rfl
      obtain ⟨h1, r1⟩ := ha 1 y rfl
      rw [w_8, h0, h1, if_neg (show ¬ ((1 : Nat) : Int) = 0 by decide), if_pos (show ((1 : Nat) : Int) = 1 from rfl)]
      by_cases c : x < y
      · rw [v_if_t c, if_pos c, p_xI]
        exact ⟨_, _, _, rfl, rfl, JO_ret R e r0, fun v hv => by injection hv with hv; rw [← hv, s16_id r0]⟩
      · rw [v_if_f c, if_neg c, p_xI]
        exact ⟨_, _, _, rfl, rfl, JO_ret R e r1, fun v hv => by injection hv with hv; rw [← hv, s16_id r1]⟩
  · match as, hl with
    | [x, y], _ =>
      obtain ⟨h0, r0⟩ := ha 0 x rfl
      obtain ⟨h1, r1⟩ := ha 1 y rfl
      rw [w_9, h0, h1, if_neg (show ¬ ((2 : Nat) : Int) = 0 by decide), if_neg (show ¬ ((2 : Nat) : Int) = 1 by decide), if_pos (show ((2 : Nat) : Int) = 2 from rfl)]
      by_cases c : y < x
      · rw [v_if_t c, if_pos c, p_xI]
        exact ⟨_, _, _, rfl, rfl, JO_ret R e r0, fun v hv => by injection hv with hv; rw [← hv, s16_id r0]⟩
      · rw [v_if_f c, if_neg c, p_xI]
        exact ⟨_, _, _, rfl, rfl, JO_ret R e r1, fun v hv => by injection hv with hv; rw [← hv, s16_id r1]⟩
  · match as, hl with
    | [x, y], _ =>
      obtain ⟨h0, r0⟩ := ha 0 x rfl
      obtain ⟨h1, r1⟩ := ha 1 y rfl
      rw [v_mul ky 8 G x y r0 r1, h0, h1, if_neg (show ¬ ((3 : Nat) : Int) = 0 by decide), if_neg (show ¬ ((3 : Nat) : Int) = 1 by decide), if_neg (show ¬ ((3 : Nat) : Int) = 2 by decide), if_pos (show ((3 : Nat) : Int) = 3 from rfl), p_xI]
      exact ⟨_, _, _, rfl, rfl, JO_ret R e (rg16_s _), fun v hv => by injection hv with hv; rw [← hv, s16_w]⟩
  · match as, hl with
    | [x, y], _ =>
      obtain ⟨h0, r0⟩ := ha 0 x rfl
      obtain ⟨h1, r1⟩ := ha 1 y rfl
      rw [h0, h1, if_neg (show ¬ ((4 : Nat) : Int) = 0 by decide), if_neg (show ¬ ((4 : Nat) : Int) = 1 by decide), if_neg (show ¬ ((4 : Nat) : Int) = 2 by decide), if_neg (show ¬ ((4 : Nat) : Int) = 3 by decide), if_pos (show ((4 : Nat) : Int) = 4 from rfl)]
      by_cases c : y = 0
      · rw [if_pos c, m_err, p_xV, if_pos c, p_xI, c, v_div0]
        exact ⟨_, _, _, rfl, rfl, JO_err R e 3, fun v hv => (by cases hv)⟩
      · rw [if_neg c, if_neg c, if_neg c, p_xI, v_div ky 8 G x y r0 r1 c]
        exact ⟨_, _, _, rfl, rfl, JO_ret R e (rg16_s _), fun v hv => by injection hv with hv; rw [← hv, s16_w]⟩
  · match as, hl with
    | [x], _ =>
      obtain ⟨h0, r0⟩ := ha 0 x rfl
      rw [h0, if_neg (show ¬ ((5 : Nat) : Int) = 0 by decide), if_neg (show ¬ ((5 : Nat) : Int) = 1 by decide), if_neg (show ¬ ((5 : Nat) : Int) = 2 by decide), if_neg (show ¬ ((5 : Nat) : Int) = 3 by decide), if_neg (show ¬ ((5 : Nat) : Int) = 4 by decide)]
      by_cases c : x < 0
      · rw [if_pos c, m_err, p_xV, if_pos c, p_xI, v_sqrtn _ _ _ x c]
        exact ⟨_, _, _, rfl, rfl, JO_err R e 4, fun v hv => (by cases hv)⟩
      · obtain ⟨r, q1, q2, q3⟩ := v_sqrt ky 7 G x (by omega) r0.2
        obtain ⟨r', q1', q3'⟩ := m_root (d + 6) L (h := h) x (by omega) (by have := r0.2; omega)
        have := isq_u q1' q1
        subst this
        have rr : rg16 r' := ⟨by have := q1.1; omega, by omega⟩
        rw [if_neg c, if_neg c, q3', p_xI, p_xI, q3]
        exact ⟨_, _, _, rfl, rfl, JO_ret R e rr, fun v hv => by injection hv with hv; rw [← hv, s16_id rr]⟩
theorem j_mems (R : MR ky G h) (e : h 254 99 = -1) (s u n : Nat) (hT : (1, s, u, n) ∈ sysT) (as : List Int) (hl : as.length = n) (ha : ∀ i v, as[i]? = some v → h 321 i = v ∧ rg16 v) : JS ky L d 1 s u as G h := by
  unfold JS
  have E : ∀ x2, am_D (d + 9) 17 109 [am_r (am_a 254), am_i ((1 : Nat) : Int), am_i x2] (zS L, h) = am_xI (zS L) (am_D (d + 8) 17 104 [am_r (am_a 254), am_i x2] (zS L, h)) (am_up1 (zS L)) fun v2 h1 => pI L v2 h1 := fun x2 => by rw [D_17_109, if_neg (show ¬ ((1 : Nat) : Int) = 0 by decide), if_pos (show ((1 : Nat) : Int) = 1 from rfl)]
  rw [E, D_17_104]
  have cs : s = 0 ∧ u = 1 ∧ n = 1 ∨ s = 1 ∧ u = 2 ∧ n = 2 ∨ s = 2 ∧ u = 3 ∧ n = 1 ∨ s = 3 ∧ u = 4 ∧ n = 1 := by simp [sysT] at hT; omega
  rcases cs with ⟨rfl, rfl, rfl⟩ | ⟨rfl, rfl, rfl⟩ | ⟨rfl, rfl, rfl⟩ | ⟨rfl, rfl, rfl⟩
  · match as, hl with
    | [x], _ =>
      obtain ⟨h0, r0⟩ := ha 0 x rfl
      rw [if_pos (show ((0 : Nat) : Int) = 0 from rfl), p_idx (by decide) (by decide), show (0 : Int).toNat = 0 from rfl, h0, w_1, w_5, Int.add_zero, s16_id r0]
      by_cases c : v_pl x
      · rw [v_rc_t c, v_cl_i, m_read_t (d + 5) L (by rw [s16_id r0]; exact c), p_xI, p_xI, s16_id r0, R.rd c]
        exact ⟨_, _, _, rfl, rfl, JO_ret R e (R.rg _), fun v hv => by injection hv with hv; rw [← hv, s16_id (R.rg _)]⟩
      · rw [v_rc_f c, v_cl_r, m_read_f (d + 5) L (by rw [s16_id r0]; exact c), p_xI, p_xI]
        exact ⟨_, _, _, rfl, rfl, JO_err R e 20, fun v hv => (by cases hv)⟩
  · match as, hl with
    | [x, y], _ =>
      obtain ⟨h0, r0⟩ := ha 0 x rfl
      obtain ⟨h1, r1⟩ := ha 1 y rfl
      rw [if_neg (show ¬ ((1 : Nat) : Int) = 0 by decide), if_pos (show ((1 : Nat) : Int) = 1 from rfl), p_idx (by decide) (by decide), p_idx (by decide) (by decide), show (0 : Int).toNat = 0 from rfl, show (1 : Int).toNat = 1 from rfl, h0, h1, w_2, w_6, Int.add_zero, s16_id r0]
      by_cases c : v_pl x
      · rw [v_wc_t c, v_cl_i, m_write_t (d + 5) L e (by rw [s16_id r0]; exact c), p_xV, p_xI, s16_id r0, s16_id r1]
        exact ⟨_, _, _, rfl, rfl, ⟨R.wr c r1, vfr_wr c y, jfr_wr _ _, by rw [up_99]; exact e, by rw [p_up_c _ _ _ _ _ (by decide)], by decide, by decide⟩, fun v hv => by cases hv; decide⟩
      · rw [v_wc_f c, v_cl_r, m_write_f (d + 5) L e (by rw [s16_id r0]; exact c), p_xV, p_xI]
        exact ⟨_, _, _, rfl, rfl, JO_err R e 20, fun v hv => (by cases hv)⟩
  · match as, hl with
    | [x], _ =>
      obtain ⟨h0, r0⟩ := ha 0 x rfl
      rw [if_neg (show ¬ ((2 : Nat) : Int) = 0 by decide), if_neg (show ¬ ((2 : Nat) : Int) = 1 by decide), if_pos (show ((2 : Nat) : Int) = 2 from rfl), p_idx (by decide) (by decide), show (0 : Int).toNat = 0 from rfl, h0]
      obtain ⟨o, h', r, a1, a2, a3, a4, -⟩ := j_alloc 5 L R e x r0
      obtain ⟨o', h'', r', b1, b2, b3, b4, -⟩ := j_alloc (d + 5) L R e x r0
      have := vD_u b1 a1
      subst this
      rw [vD_mono (show 5 + 2 ≤ 9 by omega) a1, b2, p_xI, p_xI]
      exact ⟨_, _, _, rfl, rfl, b3, fun v hv => by rw [(b4 v hv).1, s16_id (b3.rg hv)]⟩
  · match as, hl with
    | [x], _ =>
      obtain ⟨h0, r0⟩ := ha 0 x rfl
      rw [if_neg (show ¬ ((3 : Nat) : Int) = 0 by decide), if_neg (show ¬ ((3 : Nat) : Int) = 1 by decide), if_neg (show ¬ ((3 : Nat) : Int) = 2 by decide), p_idx (by decide) (by decide), show (0 : Int).toNat = 0 from rfl, h0]
      obtain ⟨o, h', a1, a2, a3, a4⟩ := j_free 5 L R e x r0
      obtain ⟨o', h'', b1, b2, b3, b4⟩ := j_free (d + 5) L R e x r0
      have := vD_u b1 a1
      subst this
      rw [vD_mono (show 5 + 2 ≤ 9 by omega) a1, b2, p_xV, p_xI]
      exact ⟨_, _, _, rfl, rfl, b3, fun v hv => by rw [b4 v hv]; try decide⟩
theorem j_arrs (R : MR ky G h) (e : h 254 99 = -1) (s u n : Nat) (hT : (2, s, u, n) ∈ sysT) (as : List Int) (hl : as.length = n) (ha : ∀ i v, as[i]? = some v → h 321 i = v ∧ rg16 v) : JS ky L d 2 s u as G h := by
  unfold JS
  have cs : s = 0 ∧ u = 13 ∧ n = 1 ∨ s = 1 ∧ u = 14 ∧ n = 1 := by simp [sysT] at hT; omega
  rw [D_17_109, if_neg (show ¬ ((2 : Nat) : Int) = 0 by decide), if_neg (show ¬ ((2 : Nat) : Int) = 1 by decide), if_pos (show ((2 : Nat) : Int) = 2 from rfl)]
  rcases cs with ⟨rfl, rfl, rfl⟩ | ⟨rfl, rfl, rfl⟩
  · match as, hl with
    | [x], _ =>
      obtain ⟨h0, r0⟩ := ha 0 x rfl
      rw [if_neg (show ¬ ((0 : Nat) : Int) = 1 by decide), p_idx (by decide) (by decide), show (0 : Int).toNat = 0 from rfl, h0, w_13]
      by_cases c : x < 1
      · rw [v_if_t c, v_err, v_cl_r, if_pos c, m_err, p_xV, q_17_109_5, if_pos (show ((0 : Nat) : Int) = 0 from rfl), if_neg (e3 2 e)]
        exact ⟨_, _, _, rfl, rfl, JO_err R e 2, fun v hv => (by cases hv)⟩
      · rw [v_if_f c, if_neg c, q_17_109_5, if_pos (show ((0 : Nat) : Int) = 0 from rfl), if_pos e, p_idx (by decide) (by decide), show (0 : Int).toNat = 0 from rfl, h0]
        obtain ⟨o, h', r, a1, a2, a3, a4, -⟩ := j_alloc 5 L R e x r0
        obtain ⟨o', h'', r', b1, b2, b3, b4, -⟩ := j_alloc (d + 6) L R e x r0
        have := vD_u b1 a1
        subst this
        rw [vD_mono (show 5 + 2 ≤ 8 by omega) a1, b2, p_xI]
        obtain ⟨x', G1⟩ := o'
        rcases x' with v | q
        · exact ⟨_, _, _, rfl, rfl, b3, fun v hv => by rw [(b4 v hv).1, s16_id (b3.rg hv)]⟩
        · exact ⟨_, _, _, rfl, rfl, b3, fun v hv => (by cases hv)⟩
  · match as, hl with
    | [x], _ =>
      obtain ⟨h0, r0⟩ := ha 0 x rfl
      rw [if_pos (show ((1 : Nat) : Int) = 1 from rfl), p_idx (by decide) (by decide), show (0 : Int).toNat = 0 from rfl, h0, w_14]
      obtain ⟨o, h', a1, a2, a3, a4⟩ := j_free 5 L R e x r0
      obtain ⟨o', h'', b1, b2, b3, b4⟩ := j_free (d + 6) L R e x r0
      have := vD_u b1 a1
      subst this
      rw [vD_mono (show 5 + 2 ≤ 8 by omega) a1, b2, p_xV, q_17_109_5, if_neg (show ¬ ((1 : Nat) : Int) = 0 by decide)]
      obtain ⟨x', G1⟩ := o'
      rcases x' with v | q
      · exact ⟨_, _, _, rfl, rfl, ⟨b3.1, b3.2.1, b3.2.2.1, b3.2.2.2.1, b3.2.2.2.2.1, by decide, by decide⟩, fun v hv => by cases hv; decide⟩
      · exact ⟨_, _, _, rfl, rfl, b3, fun v hv => (by cases hv)⟩
theorem j_strs (R : MR ky G h) (e : h 254 99 = -1) (s u n : Nat) (hT : (3, s, u, n) ∈ sysT) (as : List Int) (hl : as.length = n) (ha : ∀ i v, as[i]? = some v → h 321 i = v ∧ rg16 v) : JS ky L d 3 s u as G h := by
  unfold JS
  have cs : s = 0 ∧ u = 15 ∧ n = 1 ∨ s = 1 ∧ u = 17 ∧ n = 1 ∨ s = 2 ∧ u = 18 ∧ n = 2 ∨ s = 3 ∧ u = 19 ∧ n = 3 ∨ s = 4 ∧ u = 20 ∧ n = 2 ∨ s = 5 ∧ u = 21 ∧ n = 1 ∨ s = 6 ∧ u = 22 ∧ n = 1 ∨ s = 7 ∧ u = 23 ∧ n = 2 ∨ s = 8 ∧ u = 16 ∧ n = 1 ∨ s = 9 ∧ u = 25 ∧ n = 0 ∨ s = 10 ∧ u = 26 ∧ n = 0 ∨ s = 11 ∧ u = 27 ∧ n = 0 := by simp [sysT] at hT; omega
  rw [D_17_109, if_neg (show ¬ ((3 : Nat) : Int) = 0 by decide), if_neg (show ¬ ((3 : Nat) : Int) = 1 by decide), if_neg (show ¬ ((3 : Nat) : Int) = 2 by decide), if_pos (show ((3 : Nat) : Int) = 3 from rfl)]
  have E := D_17_105 (d + 7) L h
  rcases cs with ⟨rfl, rfl, rfl⟩ | ⟨rfl, rfl, rfl⟩ | ⟨rfl, rfl, rfl⟩ | ⟨rfl, rfl, rfl⟩ | ⟨rfl, rfl, rfl⟩ | ⟨rfl, rfl, rfl⟩ | ⟨rfl, rfl, rfl⟩ | ⟨rfl, rfl, rfl⟩ | ⟨rfl, rfl, rfl⟩ | ⟨rfl, rfl, rfl⟩ | ⟨rfl, rfl, rfl⟩ | ⟨rfl, rfl, rfl⟩
  · match as, hl with
    | [x], _ =>
      obtain ⟨h0, r0⟩ := ha 0 x rfl
      rw [E, p_idx (by decide) (by decide), if_pos (show ((0 : Nat) : Int) = 0 from rfl), show (0 : Int).toNat = 0 from rfl, h0]
      obtain ⟨o, h', r, a1, a2, a3, a4⟩ := j_new 5 L R e x r0
      obtain ⟨o', h'', r', b1, b2, b3, b4⟩ := j_new (d + 4) L R e x r0
      have := vD_u b1 a1
      subst this
      rw [vD_mono (show 5 + 3 ≤ 9 by omega) a1, b2, p_xI, p_xI]
      exact ⟨_, _, _, rfl, rfl, b3, fun v hv => by rw [b4 v hv, s16_id (b3.rg hv)]⟩
  · match as, hl with
    | [x], _ =>
      obtain ⟨h0, r0⟩ := ha 0 x rfl
      rw [E, p_idx (by decide) (by decide), if_neg (show ¬ ((1 : Nat) : Int) = 0 by decide), if_pos (show ((1 : Nat) : Int) = 1 from rfl), show (0 : Int).toNat = 0 from rfl, h0]
      obtain ⟨o, h', r, a1, a2, a3, a4, -⟩ := j_length 5 L R e x
      obtain ⟨o', h'', r', b1, b2, b3, b4, -⟩ := j_length (d + 4) L R e x
      have := vD_u b1 a1
      subst this
      rw [vD_mono (show 5 + 2 ≤ 9 by omega) a1, b2, p_xI, p_xI]
      exact ⟨_, _, _, rfl, rfl, b3, fun v hv => by rw [b4 v hv, s16_id (b3.rg hv)]⟩
  · match as, hl with
    | [x, y], _ =>
      obtain ⟨h0, r0⟩ := ha 0 x rfl
      obtain ⟨h1, r1⟩ := ha 1 y rfl
      rw [E, p_idx (by decide) (by decide), if_neg (show ¬ ((2 : Nat) : Int) = 0 by decide), if_neg (show ¬ ((2 : Nat) : Int) = 1 by decide), if_pos (show ((2 : Nat) : Int) = 2 from rfl), p_idx (by decide) (by decide), show (0 : Int).toNat = 0 from rfl, show (1 : Int).toNat = 1 from rfl, h0, h1]
      obtain ⟨o, h', r, a1, a2, a3, a4, -⟩ := j_charAt 5 L R e x y r0 r1
      obtain ⟨o', h'', r', b1, b2, b3, b4, -⟩ := j_charAt (d + 4) L R e x y r0 r1
      have := vD_u b1 a1
      subst this
      rw [vD_mono (show 5 + 2 ≤ 9 by omega) a1, b2, p_xI, p_xI]
      exact ⟨_, _, _, rfl, rfl, b3, fun v hv => by rw [b4 v hv, s16_id (b3.rg hv)]⟩
  · match as, hl with
    | [x, y, z], _ =>
      obtain ⟨h0, r0⟩ := ha 0 x rfl
      obtain ⟨h1, r1⟩ := ha 1 y rfl
      obtain ⟨h2, r2⟩ := ha 2 z rfl
      obtain ⟨o, h', r, a1, a2, a3, a4⟩ := j_setChar 5 L R e x y z r0 r1 r2 h0 h1 h2
      obtain ⟨o', h'', r', b1, b2, b3, b4⟩ := j_setChar (d + 5) L R e x y z r0 r1 r2 h0 h1 h2
      have := vD_u b1 a1
      subst this
      rw [vD_mono (show 5 + 2 ≤ 9 by omega) a1]
      rw [show ((3 : Nat) : Int) = 3 from rfl, show d + 8 = d + 5 + 3 by omega, b2, p_xI]
      exact ⟨_, _, _, rfl, rfl, b3, fun v hv => by rw [b4 v hv, s16_id (b3.rg hv)]⟩
  · match as, hl with
    | [x, y], _ =>
      obtain ⟨h0, r0⟩ := ha 0 x rfl
      obtain ⟨h1, r1⟩ := ha 1 y rfl
      rw [E, p_idx (by decide) (by decide), if_neg (show ¬ ((4 : Nat) : Int) = 0 by decide), if_neg (show ¬ ((4 : Nat) : Int) = 1 by decide), if_neg (show ¬ ((4 : Nat) : Int) = 2 by decide), if_neg (show ¬ ((4 : Nat) : Int) = 3 by decide), if_pos (show ((4 : Nat) : Int) = 4 from rfl), p_idx (by decide) (by decide), show (0 : Int).toNat = 0 from rfl, show (1 : Int).toNat = 1 from rfl, h0, h1]
      obtain ⟨o, h', a1, a2, a3, a4⟩ := j_append 5 L R e x y r0 r1
      obtain ⟨o', h'', b1, b2, b3, b4⟩ := j_append (d + 4) L R e x y r0 r1
      have := vD_u b1 a1
      subst this
      rw [vD_mono (show 5 + 2 ≤ 9 by omega) a1, b2, p_xV, p_xI]
      exact ⟨_, _, _, rfl, rfl, b3, fun v hv => by rw [b4 v hv, s16_id r0]⟩
  · match as, hl with
    | [x], _ =>
      obtain ⟨h0, r0⟩ := ha 0 x rfl
      obtain ⟨o, h', r, a1, a2, a3, a4⟩ := j_erase 5 L R e x r0 h0
      obtain ⟨o', h'', r', b1, b2, b3, b4⟩ := j_erase (d + 5) L R e x r0 h0
      have := vD_u b1 a1
      subst this
      rw [vD_mono (show 5 + 2 ≤ 9 by omega) a1]
      rw [show ((5 : Nat) : Int) = 5 from rfl, show d + 8 = d + 5 + 3 by omega, b2, p_xI]
      exact ⟨_, _, _, rfl, rfl, b3, fun v hv => by rw [b4 v hv, s16_id (b3.rg hv)]⟩
  · match as, hl with
    | [x], _ =>
      obtain ⟨h0, r0⟩ := ha 0 x rfl
      rw [E, p_idx (by decide) (by decide), if_neg (show ¬ ((6 : Nat) : Int) = 0 by decide), if_neg (show ¬ ((6 : Nat) : Int) = 1 by decide), if_neg (show ¬ ((6 : Nat) : Int) = 2 by decide), if_neg (show ¬ ((6 : Nat) : Int) = 3 by decide), if_neg (show ¬ ((6 : Nat) : Int) = 4 by decide), if_neg (show ¬ ((6 : Nat) : Int) = 5 by decide), if_pos (show ((6 : Nat) : Int) = 6 from rfl), show (0 : Int).toNat = 0 from rfl, h0]
      obtain ⟨o, h', r, a1, a2, a3, a4⟩ := j_intV 5 L R e x r0
      obtain ⟨o', h'', r', b1, b2, b3, b4⟩ := j_intV (d + 4) L R e x r0
      have := vD_u b1 a1
      subst this
      rw [vD_mono (show 5 + 2 ≤ 9 by omega) a1, b2, p_xI, p_xI]
      exact ⟨_, _, _, rfl, rfl, b3, b4⟩
  · match as, hl with
    | [x, y], _ =>
      obtain ⟨h0, r0⟩ := ha 0 x rfl
      obtain ⟨h1, r1⟩ := ha 1 y rfl
      rw [E, p_idx (by decide) (by decide), if_neg (show ¬ ((7 : Nat) : Int) = 0 by decide), if_neg (show ¬ ((7 : Nat) : Int) = 1 by decide), if_neg (show ¬ ((7 : Nat) : Int) = 2 by decide), if_neg (show ¬ ((7 : Nat) : Int) = 3 by decide), if_neg (show ¬ ((7 : Nat) : Int) = 4 by decide), if_neg (show ¬ ((7 : Nat) : Int) = 5 by decide), if_neg (show ¬ ((7 : Nat) : Int) = 6 by decide), if_pos (show ((7 : Nat) : Int) = 7 from rfl), p_idx (by decide) (by decide), show (0 : Int).toNat = 0 from rfl, show (1 : Int).toNat = 1 from rfl, h0, h1]
      obtain ⟨o, h', a1, a2, a3, a4⟩ := j_setInt 1 L R e x y r0 r1
      obtain ⟨o', h'', b1, b2, b3, b4⟩ := j_setInt (d + 3) L R e x y r0 r1
      have := vD_u b1 a1
      subst this
      rw [vD_mono (show 1 + 8 ≤ 9 by omega) a1, b2, p_xV, p_xI]
      exact ⟨_, _, _, rfl, rfl, b3, fun v hv => by rw [b4 v hv]; try decide⟩
  · match as, hl with
    | [x], _ =>
      obtain ⟨h0, r0⟩ := ha 0 x rfl
      rw [E, p_idx (by decide) (by decide), if_neg (show ¬ ((8 : Nat) : Int) = 0 by decide), if_neg (show ¬ ((8 : Nat) : Int) = 1 by decide), if_neg (show ¬ ((8 : Nat) : Int) = 2 by decide), if_neg (show ¬ ((8 : Nat) : Int) = 3 by decide), if_neg (show ¬ ((8 : Nat) : Int) = 4 by decide), if_neg (show ¬ ((8 : Nat) : Int) = 5 by decide), if_neg (show ¬ ((8 : Nat) : Int) = 6 by decide), if_neg (show ¬ ((8 : Nat) : Int) = 7 by decide), if_pos (show ((8 : Nat) : Int) = 8 from rfl), show (0 : Int).toNat = 0 from rfl, h0, w_16]
      obtain ⟨o, h', a1, a2, a3, a4⟩ := j_free 5 L R e x r0
      obtain ⟨o', h'', b1, b2, b3, b4⟩ := j_free (d + 5) L R e x r0
      have := vD_u b1 a1
      subst this
      rw [vD_mono (show 5 + 2 ≤ 8 by omega) a1, b2, p_xV, p_xI]
      obtain ⟨x', G1⟩ := o'
      rcases x' with v | q
      · exact ⟨_, _, _, rfl, rfl, ⟨b3.1, b3.2.1, b3.2.2.1, b3.2.2.2.1, b3.2.2.2.2.1, by decide, by decide⟩, fun v hv => by cases hv; decide⟩
      · exact ⟨_, _, _, rfl, rfl, b3, fun v hv => (by cases hv)⟩
  · match as, hl with
    | [], _ =>
      rw [E, p_idx (by decide) (by decide), w_25, if_neg (show ¬ ((9 : Nat) : Int) = 0 by decide), if_neg (show ¬ ((9 : Nat) : Int) = 1 by decide), if_neg (show ¬ ((9 : Nat) : Int) = 2 by decide), if_neg (show ¬ ((9 : Nat) : Int) = 3 by decide), if_neg (show ¬ ((9 : Nat) : Int) = 4 by decide), if_neg (show ¬ ((9 : Nat) : Int) = 5 by decide), if_neg (show ¬ ((9 : Nat) : Int) = 6 by decide), if_neg (show ¬ ((9 : Nat) : Int) = 7 by decide), if_neg (show ¬ ((9 : Nat) : Int) = 8 by decide), if_pos (show ((9 : Nat) : Int) = 9 from rfl), p_xI]
      exact ⟨_, _, _, rfl, rfl, JO_ret R e ⟨by decide, by decide⟩, fun v hv => by cases hv; decide⟩
  · match as, hl with
    | [], _ =>
      rw [E, p_idx (by decide) (by decide), w_26, if_neg (show ¬ ((10 : Nat) : Int) = 0 by decide), if_neg (show ¬ ((10 : Nat) : Int) = 1 by decide), if_neg (show ¬ ((10 : Nat) : Int) = 2 by decide), if_neg (show ¬ ((10 : Nat) : Int) = 3 by decide), if_neg (show ¬ ((10 : Nat) : Int) = 4 by decide), if_neg (show ¬ ((10 : Nat) : Int) = 5 by decide), if_neg (show ¬ ((10 : Nat) : Int) = 6 by decide), if_neg (show ¬ ((10 : Nat) : Int) = 7 by decide), if_neg (show ¬ ((10 : Nat) : Int) = 8 by decide), if_neg (show ¬ ((10 : Nat) : Int) = 9 by decide), if_pos (show ((10 : Nat) : Int) = 10 from rfl), p_xI]
      exact ⟨_, _, _, rfl, rfl, JO_ret R e ⟨by decide, by decide⟩, fun v hv => by cases hv; decide⟩
  · match as, hl with
    | [], _ =>
      rw [E, p_idx (by decide) (by decide), w_27, if_neg (show ¬ ((11 : Nat) : Int) = 0 by decide), if_neg (show ¬ ((11 : Nat) : Int) = 1 by decide), if_neg (show ¬ ((11 : Nat) : Int) = 2 by decide), if_neg (show ¬ ((11 : Nat) : Int) = 3 by decide), if_neg (show ¬ ((11 : Nat) : Int) = 4 by decide), if_neg (show ¬ ((11 : Nat) : Int) = 5 by decide), if_neg (show ¬ ((11 : Nat) : Int) = 6 by decide), if_neg (show ¬ ((11 : Nat) : Int) = 7 by decide), if_neg (show ¬ ((11 : Nat) : Int) = 8 by decide), if_neg (show ¬ ((11 : Nat) : Int) = 9 by decide), if_neg (show ¬ ((11 : Nat) : Int) = 10 by decide), p_xI]
      exact ⟨_, _, _, rfl, rfl, JO_ret R e ⟨by decide, by decide⟩, fun v hv => by cases hv; decide⟩
theorem j_outs (R : MR ky G h) (e : h 254 99 = -1) (s u n : Nat) (hT : (4, s, u, n) ∈ sysT) (as : List Int) (hl : as.length = n) (ha : ∀ i v, as[i]? = some v → h 321 i = v ∧ rg16 v) : JS ky L d 4 s u as G h := by
  unfold JS
  have cs : s = 0 ∧ u = 28 ∧ n = 1 ∨ s = 1 ∧ u = 30 ∧ n = 1 ∨ s = 2 ∧ u = 31 ∧ n = 1 ∨ s = 3 ∧ u = 29 ∧ n = 0 := by simp [sysT] at hT; omega
  rw [D_17_109, if_neg (show ¬ ((4 : Nat) : Int) = 0 by decide), if_neg (show ¬ ((4 : Nat) : Int) = 1 by decide), if_neg (show ¬ ((4 : Nat) : Int) = 2 by decide), if_neg (show ¬ ((4 : Nat) : Int) = 3 by decide), if_pos (show ((4 : Nat) : Int) = 4 from rfl), D_17_106]
  rcases cs with ⟨rfl, rfl, rfl⟩ | ⟨rfl, rfl, rfl⟩ | ⟨rfl, rfl, rfl⟩ | ⟨rfl, rfl, rfl⟩
  · match as, hl with
    | [x], _ =>
      obtain ⟨h0, r0⟩ := ha 0 x rfl
      rw [if_pos (show ((0 : Nat) : Int) = 0 from rfl), p_idx (by decide) (by decide), show (0 : Int).toNat = 0 from rfl, h0, v_putc]
      obtain ⟨h', b2, b3⟩ := j_print (d + 6) L R e x
      rw [b2, p_xV, if_neg (show ¬ ((0 : Nat) : Int) = 1 by decide), q_17_106_2, if_neg (show ¬ ((0 : Nat) : Int) = 2 by decide), if_neg (show ¬ ((0 : Nat) : Int) = 3 by decide), p_xV]
      exact ⟨_, _, _, rfl, rfl, b3, fun v hv => by cases hv; decide⟩
  · match as, hl with
    | [x], _ =>
      obtain ⟨h0, r0⟩ := ha 0 x rfl
      rw [if_neg (show ¬ ((1 : Nat) : Int) = 0 by decide), if_pos (show ((1 : Nat) : Int) = 1 from rfl), p_idx (by decide) (by decide), show (0 : Int).toNat = 0 from rfl, h0]
      obtain ⟨o, h', a1, a2, a3, a4⟩ := j_printS 5 L x r0 R e
      obtain ⟨o', h'', b1, b2, b3, b4⟩ := j_printS (d + 2) L x r0 R e
      have := vD_u b1 a1
      subst this
      rw [vD_mono (show 5 + 4 ≤ 9 by omega) a1, b2, p_xV, q_17_106_2, if_neg (show ¬ ((1 : Nat) : Int) = 2 by decide), if_neg (show ¬ ((1 : Nat) : Int) = 3 by decide), p_xV]
      exact ⟨_, _, _, rfl, rfl, b3, fun v hv => by rw [b4 v hv]; try decide⟩
  · match as, hl with
    | [x], _ =>
      obtain ⟨h0, r0⟩ := ha 0 x rfl
      rw [if_neg (show ¬ ((2 : Nat) : Int) = 0 by decide), if_neg (show ¬ ((2 : Nat) : Int) = 1 by decide), q_17_106_2, if_pos (show ((2 : Nat) : Int) = 2 from rfl), p_idx (by decide) (by decide), show (0 : Int).toNat = 0 from rfl, h0]
      obtain ⟨o, h', a1, a2, a3, a4⟩ := j_printI 1 L R e x r0
      obtain ⟨o', h'', b1, b2, b3, b4⟩ := j_printI (d + 5) L R e x r0
      have := vD_u b1 a1
      subst this
      rw [vD_mono (show 1 + 8 ≤ 9 by omega) a1, b2, p_xV, if_neg (show ¬ ((2 : Nat) : Int) = 3 by decide), p_xV]
      exact ⟨_, _, _, rfl, rfl, b3, fun v hv => by rw [b4 v hv]; try decide⟩
  · match as, hl with
    | [], _ =>
      rw [if_neg (show ¬ ((3 : Nat) : Int) = 0 by decide), if_neg (show ¬ ((3 : Nat) : Int) = 1 by decide), q_17_106_2, if_neg (show ¬ ((3 : Nat) : Int) = 2 by decide), if_pos (show ((3 : Nat) : Int) = 3 from rfl), w_29, v_putc, v_cl_i]
      obtain ⟨h', b2, b3⟩ := j_print (d + 6) L R e 10
      rw [b2, p_xV, p_xV]
      exact ⟨_, _, _, rfl, rfl, b3, fun v hv => by cases hv; decide⟩
theorem j_keys (R : MR ky G h) (e : h 254 99 = -1) (s u n : Nat) (hT : (5, s, u, n) ∈ sysT) (as : List Int) (hl : as.length = n) (ha : ∀ i v, as[i]? = some v → h 321 i = v ∧ rg16 v) : JS ky L d 5 s u as G h := by
  unfold JS
  have cs : s = 0 ∧ u = 33 ∧ n = 0 ∨ s = 1 ∧ u = 34 ∧ n = 0 ∨ s = 2 ∧ u = 36 ∧ n = 1 := by simp [sysT] at hT; omega
  rw [D_17_109, if_neg (show ¬ ((5 : Nat) : Int) = 0 by decide), if_neg (show ¬ ((5 : Nat) : Int) = 1 by decide), if_neg (show ¬ ((5 : Nat) : Int) = 2 by decide), if_neg (show ¬ ((5 : Nat) : Int) = 3 by decide), if_neg (show ¬ ((5 : Nat) : Int) = 4 by decide), if_pos (show ((5 : Nat) : Int) = 5 from rfl), D_17_107]
  obtain ⟨k1, k2, k3, k4, k5⟩ := R.2.2.2.1
  rcases cs with ⟨rfl, rfl, rfl⟩ | ⟨rfl, rfl, rfl⟩ | ⟨rfl, rfl, rfl⟩
  · match as, hl with
    | [], _ =>
      rw [if_neg (show ¬ ((0 : Nat) : Int) = 2 by decide), w_33, show am_s16 (32003 + 0) = 32003 by decide]
      have ev : v_rd ky 32003 G (fun v1 G2 => some (.inl v1, G2)) = some (.inl (ky.getD G.2.1 0), G) := rfl
      rw [ev]
      by_cases c : h 254 103 < h 254 102
      · have hg := List.getElem?_eq_getElem (show G.2.1 < ky.length by omega)
        obtain ⟨g1, g2, g3⟩ := k5 _ _ hg
        rw [if_pos c, p_idx (by omega) (by omega), q_17_107_3, if_neg (show ¬ ((0 : Nat) : Int) = 1 by decide), p_xI, show (h 254 103).toNat = G.2.1 by omega, g1]
        have : ky.getD G.2.1 0 = ky[G.2.1] := by rw [List.getD_eq_getElem?_getD, hg]; rfl
        rw [this]
        exact ⟨_, _, _, rfl, rfl, JO_ret R e ⟨by omega, by omega⟩, fun v hv => by injection hv with hv; rw [← hv, s16_id ⟨by omega, by omega⟩]⟩
      · have : ky.getD G.2.1 0 = 0 := by rw [List.getD_eq_getElem?_getD, List.getElem?_eq_none (by omega)]; rfl
        rw [if_neg c, q_17_107_3, if_neg (show ¬ ((0 : Nat) : Int) = 1 by decide), p_xI, this]
        exact ⟨_, _, _, rfl, rfl, JO_ret R e ⟨by decide, by decide⟩, fun v hv => by cases hv; decide⟩
  · match as, hl with
    | [], _ =>
      rw [if_neg (show ¬ ((1 : Nat) : Int) = 2 by decide), v_take]
      by_cases c : h 254 103 < h 254 102
      · have hg := List.getElem?_eq_getElem (show G.2.1 < ky.length by omega)
        obtain ⟨g1, g2, g3⟩ := k5 _ _ hg
        rw [if_pos c, p_idx (by omega) (by omega), q_17_107_3, if_pos (show ((1 : Nat) : Int) = 1 from rfl), if_pos c, p_xI, show (h 254 103).toNat = G.2.1 by omega, g1, hg, p_w (by omega) (by omega)]
        exact ⟨_, _, _, rfl, rfl, ⟨R.key (by omega), vfr_refl _, (p_fr.refl h).upf _ _ _ rfl, by rw [p_up_n _ _ _ _ _ _ (Or.inr (by decide))]; exact e, p_up_n _ _ _ _ _ _ (Or.inr (by decide)), by omega, by omega⟩, fun v hv => by injection hv with hv; rw [← hv, s16_id ⟨by omega, by omega⟩]⟩
      · rw [if_neg c, q_17_107_3, if_pos (show ((1 : Nat) : Int) = 1 from rfl), if_neg c, p_xI, List.getElem?_eq_none (by omega)]
        exact ⟨_, _, _, rfl, rfl, JO_ret R e ⟨by decide, by decide⟩, fun v hv => by cases hv; decide⟩
  · match as, hl with
    | [x], _ =>
      obtain ⟨h0, r0⟩ := ha 0 x rfl
      rw [if_pos (show ((2 : Nat) : Int) = 2 from rfl), p_idx (by decide) (by decide), show (0 : Int).toNat = 0 from rfl, h0]
      obtain ⟨o, h', r, a1, a2, a3, a4⟩ := j_readL 3 L R e x r0
      obtain ⟨o', h'', r', b1, b2, b3, b4⟩ := j_readL (d + 1) L R e x r0
      have := vD_u b1 a1
      subst this
      rw [vD_mono (show 3 + 6 ≤ 9 by omega) a1, b2, p_xI, p_xI]
      exact ⟨_, _, _, rfl, rfl, b3, fun v hv => by rw [b4 v hv, s16_id (b3.rg hv)]⟩
theorem j_scrs (R : MR ky G h) (e : h 254 99 = -1) (s u n : Nat) (hT : (6, s, u, n) ∈ sysT) (as : List Int) (hl : as.length = n) (ha : ∀ i v, as[i]? = some v → h 321 i = v ∧ rg16 v) : JS ky L d 6 s u as G h := by
  unfold JS
  have cs : s = 0 ∧ u = 39 ∧ n = 0 ∨ s = 1 ∧ u = 38 ∧ n = 1 ∨ s = 2 ∧ u = 41 ∧ n = 2 ∨ s = 3 ∧ u = 43 ∧ n = 4 ∨ s = 4 ∧ u = 44 ∧ n = 4 ∨ s = 5 ∧ u = 45 ∧ n = 3 := by simp [sysT] at hT; omega
  rw [D_17_109, if_neg (show ¬ ((6 : Nat) : Int) = 0 by decide), if_neg (show ¬ ((6 : Nat) : Int) = 1 by decide), if_neg (show ¬ ((6 : Nat) : Int) = 2 by decide), if_neg (show ¬ ((6 : Nat) : Int) = 3 by decide), if_neg (show ¬ ((6 : Nat) : Int) = 4 by decide), if_neg (show ¬ ((6 : Nat) : Int) = 5 by decide), if_pos (show ((6 : Nat) : Int) = 6 from rfl)]
  have E := D_17_108 (d + 7) L h
  rcases cs with ⟨rfl, rfl, rfl⟩ | ⟨rfl, rfl, rfl⟩ | ⟨rfl, rfl, rfl⟩ | ⟨rfl, rfl, rfl⟩ | ⟨rfl, rfl, rfl⟩ | ⟨rfl, rfl, rfl⟩
  · match as, hl with
    | [], _ =>
      obtain ⟨o, h', a1, a2, a3, a4⟩ := j_clear 5 L R e
      obtain ⟨o', h'', b1, b2, b3, b4⟩ := j_clear (d + 5) L R e
      have := vD_u b1 a1
      subst this
      rw [vD_mono (show 5 + 2 ≤ 9 by omega) a1, show ((0 : Nat) : Int) = 0 from rfl, show d + 8 = d + 5 + 3 by omega, b2, p_xV]
      exact ⟨_, _, _, rfl, rfl, b3, fun v hv => by rw [b4 v hv]; try decide⟩
  · match as, hl with
    | [x], _ =>
      obtain ⟨h0, r0⟩ := ha 0 x rfl
      obtain ⟨o, h', a1, a2, a3, a4⟩ := j_color 5 L R e x r0 h0
      obtain ⟨o', h'', b1, b2, b3, b4⟩ := j_color (d + 5) L R e x r0 h0
      have := vD_u b1 a1
      subst this
      rw [vD_mono (show 5 + 2 ≤ 9 by omega) a1, show ((1 : Nat) : Int) = 1 from rfl, show d + 8 = d + 5 + 3 by omega, b2, p_xV]
      exact ⟨_, _, _, rfl, rfl, b3, fun v hv => by rw [b4 v hv]; try decide⟩
  · match as, hl with
    | [x, y], _ =>
      obtain ⟨h0, r0⟩ := ha 0 x rfl
      obtain ⟨h1, r1⟩ := ha 1 y rfl
      obtain ⟨o, h', a1, a2, a3, a4⟩ := j_pixel 5 L R e x y h0 h1
      obtain ⟨o', h'', b1, b2, b3, b4⟩ := j_pixel (d + 5) L R e x y h0 h1
      have := vD_u b1 a1
      subst this
      rw [vD_mono (show 5 + 2 ≤ 9 by omega) a1, show ((2 : Nat) : Int) = 2 from rfl, show d + 8 = d + 5 + 3 by omega, b2, p_xV]
      exact ⟨_, _, _, rfl, rfl, b3, fun v hv => by rw [b4 v hv]; try decide⟩
  · match as, hl with
    | [x, y, z, w], _ =>
      obtain ⟨h0, r0⟩ := ha 0 x rfl
      obtain ⟨h1, r1⟩ := ha 1 y rfl
      obtain ⟨h2, r2⟩ := ha 2 z rfl
      obtain ⟨h3, r3⟩ := ha 3 w rfl
      rw [E, if_neg (show ¬ ((3 : Nat) : Int) = 0 by decide), if_neg (show ¬ ((3 : Nat) : Int) = 1 by decide), if_neg (show ¬ ((3 : Nat) : Int) = 2 by decide), if_pos (show ((3 : Nat) : Int) = 3 from rfl), p_idx (by decide) (by decide), p_idx (by decide) (by decide), p_idx (by decide) (by decide), p_idx (by decide) (by decide), show (0 : Int).toNat = 0 from rfl, show (1 : Int).toNat = 1 from rfl, show (2 : Int).toNat = 2 from rfl, show (3 : Int).toNat = 3 from rfl, h0, h1, h2, h3]
      obtain ⟨o, h', a1, a2, a3, a4⟩ := j_line 5 L R e x y z w
      obtain ⟨o', h'', b1, b2, b3, b4⟩ := j_line (d + 4) L R e x y z w
      have := vD_u b1 a1
      subst this
      rw [vD_mono (show 5 + 2 ≤ 9 by omega) a1, b2, p_xV, p_xV]
      exact ⟨_, _, _, rfl, rfl, b3, fun v hv => by rw [b4 v hv]; try decide⟩
  · match as, hl with
    | [x, y, z, w], _ =>
      obtain ⟨h0, r0⟩ := ha 0 x rfl
      obtain ⟨h1, r1⟩ := ha 1 y rfl
      obtain ⟨h2, r2⟩ := ha 2 z rfl
      obtain ⟨h3, r3⟩ := ha 3 w rfl
      rw [E, if_neg (show ¬ ((4 : Nat) : Int) = 0 by decide), if_neg (show ¬ ((4 : Nat) : Int) = 1 by decide), if_neg (show ¬ ((4 : Nat) : Int) = 2 by decide), if_neg (show ¬ ((4 : Nat) : Int) = 3 by decide), if_pos (show ((4 : Nat) : Int) = 4 from rfl), p_idx (by decide) (by decide), p_idx (by decide) (by decide), p_idx (by decide) (by decide), p_idx (by decide) (by decide), show (0 : Int).toNat = 0 from rfl, show (1 : Int).toNat = 1 from rfl, show (2 : Int).toNat = 2 from rfl, show (3 : Int).toNat = 3 from rfl, h0, h1, h2, h3]
      obtain ⟨o, h', a1, a2, a3, a4⟩ := j_rect 5 L R e x y z w
      obtain ⟨o', h'', b1, b2, b3, b4⟩ := j_rect (d + 4) L R e x y z w
      have := vD_u b1 a1
      subst this
      rw [vD_mono (show 5 + 2 ≤ 9 by omega) a1, b2, p_xV, p_xV]
      exact ⟨_, _, _, rfl, rfl, b3, fun v hv => by rw [b4 v hv]; try decide⟩
  · match as, hl with
    | [x, y, z], _ =>
      obtain ⟨h0, r0⟩ := ha 0 x rfl
      obtain ⟨h1, r1⟩ := ha 1 y rfl
      obtain ⟨h2, r2⟩ := ha 2 z rfl
      rw [E, if_neg (show ¬ ((5 : Nat) : Int) = 0 by decide), if_neg (show ¬ ((5 : Nat) : Int) = 1 by decide), if_neg (show ¬ ((5 : Nat) : Int) = 2 by decide), if_neg (show ¬ ((5 : Nat) : Int) = 3 by decide), if_neg (show ¬ ((5 : Nat) : Int) = 4 by decide), p_idx (by decide) (by decide), p_idx (by decide) (by decide), p_idx (by decide) (by decide), show (0 : Int).toNat = 0 from rfl, show (1 : Int).toNat = 1 from rfl, show (2 : Int).toNat = 2 from rfl, h0, h1, h2]
      obtain ⟨o, h', a1, a2, a3, a4⟩ := j_circle 5 L R e x y z r0 r1
      obtain ⟨o', h'', b1, b2, b3, b4⟩ := j_circle (d + 4) L R e x y z r0 r1
      have := vD_u b1 a1
      subst this
      rw [vD_mono (show 5 + 4 ≤ 9 by omega) a1, b2, p_xV, p_xV]
      exact ⟨_, _, _, rfl, rfl, b3, fun v hv => by rw [b4 v hv]; try decide⟩
theorem j_syss (R : MR ky G h) (e : h 254 99 = -1) (s u n : Nat) (hT : (7, s, u, n) ∈ sysT) (as : List Int) (hl : as.length = n) (ha : ∀ i v, as[i]? = some v → h 321 i = v ∧ rg16 v) : JS ky L d 7 s u as G h := by
  unfold JS
  have cs : s = 0 ∧ u = 46 ∧ n = 0 ∨ s = 1 ∧ u = 47 ∧ n = 1 ∨ s = 2 ∧ u = 48 ∧ n = 1 := by simp [sysT] at hT; omega
  rw [D_17_109, if_neg (show ¬ ((7 : Nat) : Int) = 0 by decide), if_neg (show ¬ ((7 : Nat) : Int) = 1 by decide), if_neg (show ¬ ((7 : Nat) : Int) = 2 by decide), if_neg (show ¬ ((7 : Nat) : Int) = 3 by decide), if_neg (show ¬ ((7 : Nat) : Int) = 4 by decide), if_neg (show ¬ ((7 : Nat) : Int) = 5 by decide), if_neg (show ¬ ((7 : Nat) : Int) = 6 by decide)]
  rcases cs with ⟨rfl, rfl, rfl⟩ | ⟨rfl, rfl, rfl⟩ | ⟨rfl, rfl, rfl⟩
  · match as, hl with
    | [], _ =>
      rw [if_pos (show ((0 : Nat) : Int) = 0 from rfl), if_pos e, if_neg (show ¬ ((0 : Nat) : Int) = 1 by decide), q_17_109_14, if_neg (show ¬ ((0 : Nat) : Int) = 2 by decide), w_46, show am_s16 (32000 + 0) = 32000 by decide]
      refine ⟨(.inr (0, 0), G), _, _, rfl, rfl, ⟨R.same (fun a ha => p_up_c _ _ _ _ _ (by omega)) (fun k hk => p_up_n _ _ _ _ _ _ (Or.inr (by omega))), vfr_refl _, (p_fr.refl h).upf _ _ _ rfl, p_up_s _ _ _ _, Int.le_refl _, ?_⟩, fun v hv => (by cases hv)⟩
      rw [if_neg (by decide)]; exact p_up_n _ _ _ _ _ _ (Or.inr (by decide))
  · match as, hl with
    | [x], _ =>
      obtain ⟨h0, r0⟩ := ha 0 x rfl
      rw [if_neg (show ¬ ((1 : Nat) : Int) = 0 by decide), if_pos (show ((1 : Nat) : Int) = 1 from rfl), p_idx (by decide) (by decide), show (0 : Int).toNat = 0 from rfl, h0, m_err, p_xV, q_17_109_14, if_neg (show ¬ ((1 : Nat) : Int) = 2 by decide), v_err]
      exact ⟨_, _, _, rfl, rfl, JO_err R e x, fun v hv => (by cases hv)⟩
  · match as, hl with
    | [x], _ =>
      obtain ⟨h0, r0⟩ := ha 0 x rfl
      rw [if_neg (show ¬ ((2 : Nat) : Int) = 0 by decide), if_neg (show ¬ ((2 : Nat) : Int) = 1 by decide), q_17_109_14, if_pos (show ((2 : Nat) : Int) = 2 from rfl), p_idx (by decide) (by decide), show (0 : Int).toNat = 0 from rfl, h0, w_48]
      by_cases c : x < 1
      · rw [v_if_t c, v_err, v_cl_r, if_pos c, m_err, p_xV]
        exact ⟨_, _, _, rfl, rfl, JO_err R e 1, fun v hv => (by cases hv)⟩
      · rw [v_if_f c, if_neg c]
        exact ⟨_, _, _, rfl, rfl, JO_ret R e ⟨by decide, by decide⟩, fun v hv => by cases hv; decide⟩
/-- every call of the system -/
theorem j_sys (R : MR ky G h) (e : h 254 99 = -1) (c s u n : Nat) (hT : (c, s, u, n) ∈ sysT) (as : List Int) (hl : as.length = n) (ha : ∀ i v, as[i]? = some v → h 321 i = v ∧ rg16 v) : JS ky L d c s u as G h := by
  have hc : c ≤ 7 := by
    have : ∀ q ∈ sysT, q.1 ≤ 7 := by decide
    exact this _ hT
  have : c = 0 ∨ c = 1 ∨ c = 2 ∨ c = 3 ∨ c = 4 ∨ c = 5 ∨ c = 6 ∨ c = 7 := by omega
  rcases this with rfl | rfl | rfl | rfl | rfl | rfl | rfl | rfl
  · exact j_math d L R e s u n hT as hl ha
  · exact j_mems d L R e s u n hT as hl ha
  · exact j_arrs d L R e s u n hT as hl ha
  · exact j_strs d L R e s u n hT as hl ha
  · exact j_outs d L R e s u n hT as hl ha
  · exact j_keys d L R e s u n hT as hl ha
  · exact j_scrs d L R e s u n hT as hl ha
  · exact j_syss d L R e s u n hT as hl ha
end
