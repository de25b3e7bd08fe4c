/-! RUN, 2: strings, on both sides -/
section
variable (d L : Nat) {ky : List Int} {G : vG} {h : am_H}
theorem v_rc_t {a : Int} {k : Int → vG → Option vO} (c : v_pl a) : v_rc a G k = k (G.1 a.toNat) G := if_pos c
theorem v_rc_f {a : Int} {k : Int → vG → Option vO} (c : ¬ v_pl a) : v_rc a G k = some (.inr (3, 20), G) := if_neg c
theorem v_wc_t {a v : Int} {k : vG → Option vO} (c : v_pl a) : v_wc a v G k = k (p_set G.1 a.toNat v, G.2) := if_pos c
theorem v_wc_f {a v : Int} {k : vG → Option vO} (c : ¬ v_pl a) : v_wc a v G k = some (.inr (3, 20), G) := if_neg c
theorem v_cl_i {v : Int} {k : Int → vG → Option vO} : v_cl (some (.inl v, G)) k = k v G := rfl
theorem v_cl_r {e : Int × Int} {k : Int → vG → Option vO} : v_cl (some (.inr e, G)) k = some (.inr e, G) := rfl
theorem m_read_t {a : Int} (c : v_pl (am_s16 a)) : am_D (d + 2) 17 79 [am_r (am_a 254), am_i a] (zS L, h) = pI L (h 308 (am_s16 a).toNat) h := by rw [m_read, if_pos c]
theorem m_read_f {a : Int} (c : ¬ v_pl (am_s16 a)) : am_D (d + 2) 17 79 [am_r (am_a 254), am_i a] (zS L, h) = pI L 0 (erh 20 h) := by rw [m_read, if_neg c]
theorem m_read_x {a : Int} (e : h 254 99 ≠ -1) : ∃ v, am_D (d + 2) 17 79 [am_r (am_a 254), am_i a] (zS L, h) = pI L v h := by
  rw [m_read]; split
  · exact ⟨_, rfl⟩
  · rw [erh_f e]; exact ⟨_, rfl⟩
theorem m_write_t {a v : Int} (e : h 254 99 = -1) (c : v_pl (am_s16 a)) : am_D (d + 2) 17 80 [am_r (am_a 254), am_i a, am_i v] (zS L, h) = pV L (am_up h 308 (am_s16 a).toNat (am_s16 v)) := by rw [m_write, if_pos e, if_pos c]
theorem m_write_f {a v : Int} (e : h 254 99 = -1) (c : ¬ v_pl (am_s16 a)) : am_D (d + 2) 17 80 [am_r (am_a 254), am_i a, am_i v] (zS L, h) = pV L (erh 20 h) := by rw [m_write, if_pos e, if_neg c]
theorem m_write_x {a v : Int} (e : h 254 99 ≠ -1) : am_D (d + 2) 17 80 [am_r (am_a 254), am_i a, am_i v] (zS L, h) = pV L h := by rw [m_write, if_neg e]
theorem m_err_t (n : Int) (e : h 254 99 ≠ -1) : am_D (d + 1) 17 77 [am_r (am_a 254), am_i n] (zS L, h) = pV L h := by rw [m_err, erh_f e]
theorem up_99 {a : Nat} {v : Int} : am_up h 308 a v 254 99 = h 254 99 := by rw [p_up_c _ _ _ _ _ (by decide)]
theorem e3 (n : Int) (e : h 254 99 = -1) : erh n h 254 99 ≠ -1 := by rw [erh_99 e]; decide
/-- String.appendChar and append() -/
theorem j_append (R : MR ky G h) (e : h 254 99 = -1) (o c : Int) (ho : rg16 o) (hc : rg16 c) : ∃ x h', vD ky (d + 2) 20 [o, c] G = some x ∧ am_D (d + 3) 17 89 [am_r (am_a 254), am_i o, am_i c] (zS L, h) = pV L h' ∧ JO ky G h x h' ∧ (∀ v, x.1 = .inl v → v = o) := by
  have er : ∀ x2 x3 : Int, ∀ h1 : am_H, h1 254 99 ≠ -1 → am_E (am_D (d + 2)) m_17_89 (.inl 1) [some (am_r (am_a 254)), some (am_i o), some (am_i x2), some (am_i x3)] [] (zS L, h1) = pV L h1 := fun x2 x3 h1 e1 => by rw [q_17_89_1, if_neg e1]
  have ob := ho
  obtain ⟨ho1, ho2⟩ := ob
  rw [w_20, D_17_89]
  by_cases c1 : v_pl (am_s16 (o + 1))
  · have n1 := R.rg (am_s16 (o + 1)).toNat
    rw [v_rc_t c1, m_read_t d L (a := am_w (o + 1)) (by rw [s16_w]; exact c1), p_xI, s16_w, R.rd c1, Int.add_zero, s16_id ho]
    obtain ⟨n, hn⟩ : ∃ n, n = G.1 (am_s16 (o + 1)).toNat := ⟨_, rfl⟩
    rw [← hn] at n1 ⊢
    obtain ⟨n2, n3⟩ := id n1
    by_cases c0 : v_pl o
    · rw [v_rc_t c0, m_read_t d L (a := o) (by rw [s16_id ho]; exact c0), p_xI, s16_id ho, R.rd c0]
      by_cases c2 : n < G.1 o.toNat
      · rw [v_if_nt c2, w_20_72, if_pos c2, q_17_89_1, if_pos e]
        have ea : am_s16 (am_w (am_w (o + 2) + n)) = am_s16 (o + am_s16 (2 + n)) := by
          rw [s16_w, s16_add_r, p_w (by omega) (by omega)]; exact congrArg am_s16 (by omega)
        by_cases c3 : v_pl (am_s16 (o + am_s16 (2 + n)))
        · rw [v_wc_t c3, m_write_t d L e (by rw [ea]; exact c3), p_xV, ea, s16_id hc, up_99, if_pos e, v_wc_t c1, m_write_t d L (by rw [up_99]; exact e) (by rw [s16_w]; exact c1), p_xV, s16_w, s16_w]
          exact ⟨_, _, rfl, rfl, ⟨(R.wr c3 hc).wr c1 (rg16_s _), (vfr_wr c3 c).trans (vfr_wr c1 _), (jfr_wr _ _).trans (jfr_wr _ _), by rw [up_99, up_99]; exact e, by rw [p_up_c _ _ _ _ _ (by decide), p_up_c _ _ _ _ _ (by decide)], ho⟩, fun v hv => by injection hv with hv; exact hv.symm⟩
        · rw [v_wc_f c3, m_write_f d L e (by rw [ea]; exact c3), p_xV, if_neg (e3 20 e)]
          exact ⟨_, _, rfl, rfl, JO_err R e 20, fun v hv => by cases hv⟩
      · rw [v_if_n c2, v_err, if_neg c2, m_err, p_xV, er _ _ _ (e3 17 e)]
        exact ⟨_, _, rfl, rfl, JO_err R e 17, fun v hv => by cases hv⟩
    · rw [v_rc_f c0, m_read_f d L (a := o) (by rw [s16_id ho]; exact c0), p_xI]
      refine ⟨_, erh 20 h, rfl, ?_, JO_err R e 20, fun v hv => by cases hv⟩
      by_cases c2 : n < 0
      · rw [if_pos c2]; exact er _ _ _ (e3 20 e)
      · rw [if_neg c2, m_err_t _ _ _ (e3 20 e), p_xV]; exact er _ _ _ (e3 20 e)
  · rw [v_rc_f c1, m_read_f d L (a := am_w (o + 1)) (by rw [s16_w]; exact c1), p_xI]
    refine ⟨_, erh 20 h, rfl, ?_, JO_err R e 20, fun v hv => by cases hv⟩
    obtain ⟨v, hv⟩ := m_read_x d L (a := o) (e3 20 e)
    rw [hv, p_xI]
    by_cases c2 : 0 < v
    · rw [if_pos c2]; exact er _ _ _ (e3 20 e)
    · rw [if_neg c2, m_err_t _ _ _ (e3 20 e), p_xV]; exact er _ _ _ (e3 20 e)
/-- String.length -/
theorem j_length (R : MR ky G h) (e : h 254 99 = -1) (o : Int) : ∃ x h' r, vD ky (d + 2) 17 [o] G = some x ∧ am_D (d + 3) 17 79 [am_r (am_a 254), am_i (am_w (o + 1))] (zS L, h) = pI L r h' ∧ JO ky G h x h' ∧ (∀ v, x.1 = .inl v → r = v) ∧ (x.1.isLeft = true → x.2 = G ∧ h' = h) := by
  rw [w_17]
  by_cases c1 : v_pl (am_s16 (o + 1))
  · rw [v_rc_t c1, m_read_t (d + 1) L (a := am_w (o + 1)) (by rw [s16_w]; exact c1), s16_w, R.rd c1]
    exact ⟨_, _, _, rfl, rfl, JO_ret R e (R.rg _), fun v hv => (by injection hv), fun _ => ⟨rfl, rfl⟩⟩
  · rw [v_rc_f c1, m_read_f (d + 1) L (a := am_w (o + 1)) (by rw [s16_w]; exact c1)]
    exact ⟨_, _, _, rfl, rfl, JO_err R e 20, fun v hv => (by cases hv), fun z => (by cases z)⟩
/-- String.charAt and charAt() -/
theorem j_charAt (R : MR ky G h) (e : h 254 99 = -1) (o j : Int) (ho : rg16 o) (hj : rg16 j) : ∃ x h' r, vD ky (d + 2) 18 [o, j] G = some x ∧ am_D (d + 3) 17 90 [am_r (am_a 254), am_i o, am_i j] (zS L, h) = pI L r h' ∧ JO ky G h x h' ∧ (∀ v, x.1 = .inl v → r = v) ∧ (x.1.isLeft = true → x.2 = G ∧ h' = h) := by
  have er : ∀ h1 : am_H, h1 254 99 ≠ -1 → am_E (am_D (d + 2)) m_17_90 (.inl 2) [some (am_r (am_a 254)), some (am_i o), some (am_i j)] [] (zS L, h1) = pI L 0 h1 := fun h1 e1 => by rw [q_17_90_2, if_neg e1]
  have er1 : ∀ h1 : am_H, h1 254 99 ≠ -1 → am_E (am_D (d + 2)) m_17_90 (.inl 1) [some (am_r (am_a 254)), some (am_i o), some (am_i j)] [] (zS L, h1) = pI L 0 h1 := fun h1 e1 => by rw [q_17_90_1, if_neg e1, er h1 e1]
  obtain ⟨ho1, ho2⟩ := id ho
  obtain ⟨hj1, hj2⟩ := id hj
  rw [w_18, D_17_90]
  by_cases c0 : j < 0
  · rw [v_if_t c0, v_err, if_pos c0, m_err, p_xV, er1 _ (e3 15 e)]
    exact ⟨_, _, _, rfl, rfl, JO_err R e 15, fun v hv => (by cases hv), fun z => (by cases z)⟩
  · rw [v_if_f c0, if_neg c0, w_18_64, q_17_90_1, if_pos e]
    by_cases c1 : v_pl (am_s16 (o + 1))
    · rw [v_rc_t c1, m_read_t d L (a := am_w (o + 1)) (by rw [s16_w]; exact c1), p_xI, s16_w, R.rd c1]
      by_cases c2 : j < G.1 (am_s16 (o + 1)).toNat
      · have ea : am_s16 (am_w (am_w (o + 2) + j)) = am_s16 (o + am_s16 (2 + j)) := by
          rw [s16_w, s16_add_r, p_w (by omega) (by omega)]; exact congrArg am_s16 (by omega)
        rw [v_if_nt c2, if_pos c2, w_18_66, q_17_90_2, if_pos e]
        by_cases c3 : v_pl (am_s16 (o + am_s16 (2 + j)))
        · rw [v_rc_t c3, m_read_t d L (by rw [ea]; exact c3), p_xI, ea, R.rd c3]
          exact ⟨_, _, _, rfl, rfl, JO_ret R e (R.rg _), fun v hv => (by injection hv), fun _ => ⟨rfl, rfl⟩⟩
        · rw [v_rc_f c3, m_read_f d L (by rw [ea]; exact c3), p_xI]
          exact ⟨_, _, _, rfl, rfl, JO_err R e 20, fun v hv => (by cases hv), fun z => (by cases z)⟩
      · rw [v_if_n c2, v_err, if_neg c2, m_err, p_xV, er _ (e3 15 e)]
        exact ⟨_, _, _, rfl, rfl, JO_err R e 15, fun v hv => (by cases hv), fun z => (by cases z)⟩
    · rw [v_rc_f c1, m_read_f d L (a := am_w (o + 1)) (by rw [s16_w]; exact c1), p_xI]
      refine ⟨_, erh 20 h, 0, rfl, ?_, JO_err R e 20, fun v hv => (by cases hv), fun z => (by cases z)⟩
      by_cases c2 : j < 0
      · exact absurd c2 c0
      · rw [if_neg c2, m_err_t _ _ _ (e3 20 e), p_xV]; exact er _ (e3 20 e)
/-- String.new and newString() -/
theorem j_new (R : MR ky G h) (e : h 254 99 = -1) (n : Int) (hn : rg16 n) : ∃ x h' r, vD ky (d + 3) 15 [n] G = some x ∧ am_D (d + 3) 17 88 [am_r (am_a 254), am_i n] (zS L, h) = pI L r h' ∧ JO ky G h x h' ∧ (∀ v, x.1 = .inl v → r = v) := by
  have er : ∀ u2, ∀ h1 : am_H, h1 254 99 ≠ -1 → ∀ s0, am_E (am_D (d + 2)) m_17_88 (.inl 3) [some (am_r (am_a 254)), some (am_i n), u2] [am_i s0] (zS L, h1) = pI L 0 h1 := fun u2 h1 e1 s0 => by rw [q_17_88_3, if_neg e1]
  obtain ⟨hn1, hn2⟩ := id hn
  rw [w_15, D_17_88]
  by_cases c0 : n < 0
  · rw [v_if_t c0, v_err, if_pos c0, m_err, p_xV, q_17_88_1, if_neg (e3 14 e), er _ _ (e3 14 e)]
    exact ⟨_, _, _, rfl, rfl, JO_err R e 14, fun v hv => (by cases hv)⟩
  · rw [v_if_f c0, if_neg c0, w_15_62, q_17_88_1, if_pos e, m_s16, p_xI, s16_w]
    obtain ⟨⟨x, G1⟩, h1, r, a1, a2, ⟨J1, J2, J3, J4⟩, a4, a5⟩ := j_alloc d L R e (am_s16 (n + 2)) (rg16_s _)
    rw [a1, a2, p_xI]
    rcases x with v | ⟨q1, q2⟩
    · obtain ⟨f1, f2, f3, f4⟩ := a4 v rfl
      subst f1
      have e2 : am_s16 (n + 2) = n + 2 := by
        by_cases z : n + 2 ≤ 32767
        · exact s16_id ⟨by omega, z⟩
        · rw [s16_hi (by omega) (by omega)] at f4; omega
      rw [e2] at f3 f4
      have pa : v_pl r := Or.inl (by omega)
      have pb : v_pl (r + 1) := Or.inl (by omega)
      have rr : rg16 r := by unfold v_pl at pa; exact ⟨by omega, by omega⟩
      have rr1 : rg16 (r + 1) := by unfold v_pl at pb; exact ⟨by omega, by omega⟩
      rw [v_cl_i, Int.add_zero, s16_id rr, v_wc_t pa, q_17_88_3, if_pos J4.1, m_write_t d L J4.1 (by rw [s16_id rr]; exact pa), p_xV, s16_id rr, s16_id hn, s16_id rr1, v_wc_t pb, m_write_t d L (by rw [up_99]; exact J4.1) (by rw [s16_w, s16_id rr1]; exact pb), p_xV, s16_w, s16_id rr1, s16_id (x := 0) ⟨by decide, by decide⟩]
      exact ⟨_, _, _, rfl, rfl, ⟨(J1.wr pa hn).wr pb ⟨by decide, by decide⟩, (J2.trans (vfr_wr pa n)).trans (vfr_wr pb _), (J3.trans (jfr_wr _ _)).trans (jfr_wr _ _), by rw [up_99, up_99]; exact J4.1, by rw [p_up_c _ _ _ _ _ (by decide), p_up_c _ _ _ _ _ (by decide)]; exact J4.2.1, rr⟩, fun v hv => (by injection hv)⟩
    · rw [v_cl_r, er _ _ (by rw [J4.1]; have := J4.2.1; omega)]
      exact ⟨_, _, _, rfl, rfl, ⟨J1, J2, J3, J4⟩, fun v hv => (by cases hv)⟩
/-- String.setCharAt -/
theorem j_setChar (R : MR ky G h) (e : h 254 99 = -1) (o j c : Int) (ho : rg16 o) (hj : rg16 j) (hc : rg16 c) (h0 : h 321 0 = o) (h1 : h 321 1 = j) (h2 : h 321 2 = c) : ∃ x h' r, vD ky (d + 2) 19 [o, j, c] G = some x ∧ am_D (d + 3) 17 105 [am_r (am_a 254), am_i 3] (zS L, h) = pI L r h' ∧ JO ky G h x h' ∧ (∀ v, x.1 = .inl v → r = v) := by
  have er : ∀ u1 u3, ∀ h1 : am_H, h1 254 99 ≠ -1 → am_E (am_D (d + 2)) m_17_105 (.inl 6) [some (am_r (am_a 254)), u1, some (am_i o), u3] [] (zS L, h1) = pI L 0 h1 := fun u1 u3 h1 e1 => by rw [q_17_105_6, if_neg e1]
  obtain ⟨ho1, ho2⟩ := id ho
  obtain ⟨hj1, hj2⟩ := id hj
  rw [w_19, D_17_105, p_idx (by decide) (by decide), if_neg (show ¬ (3 : Int) = 0 by decide), if_neg (show ¬ (3 : Int) = 1 by decide), if_neg (show ¬ (3 : Int) = 2 by decide), if_pos (show (3 : Int) = 3 from rfl), p_idx (by decide) (by decide), show (0 : Int).toNat = 0 from rfl, show (1 : Int).toNat = 1 from rfl, h0, h1]
  by_cases c0 : j < 0
  · rw [v_if_t c0, v_err, if_pos c0, m_err, p_xV, q_17_105_5, if_neg (e3 16 e), er _ _ _ (e3 16 e)]
    exact ⟨_, _, _, rfl, rfl, JO_err R e 16, fun v hv => (by cases hv)⟩
  · rw [v_if_f c0, if_neg c0, w_19_68, q_17_105_5, if_pos e, p_idx (by decide) (by decide), show (1 : Int).toNat = 1 from rfl]
    by_cases c1 : v_pl (am_s16 (o + 1))
    · rw [v_rc_t c1, m_read_t d L (a := am_w (o + 1)) (by rw [s16_w]; exact c1), p_xI, s16_w, R.rd c1, h1]
      by_cases c2 : j < G.1 (am_s16 (o + 1)).toNat
      · have ea : am_s16 (am_w (am_w (o + 2) + j)) = am_s16 (o + am_s16 (2 + j)) := by
          rw [s16_w, s16_add_r, p_w (by omega) (by omega)]; exact congrArg am_s16 (by omega)
        rw [v_if_nt c2, if_pos c2, w_19_70, q_17_105_6, if_pos e, p_idx (by decide) (by decide), p_idx (by decide) (by decide), show (1 : Int).toNat = 1 from rfl, show (2 : Int).toNat = 2 from rfl, h1, h2]
        by_cases c3 : v_pl (am_s16 (o + am_s16 (2 + j)))
        · rw [v_wc_t c3, m_write_t d L e (by rw [ea]; exact c3), p_xV, ea, s16_id hc]
          exact ⟨_, _, _, rfl, rfl, ⟨R.wr c3 hc, vfr_wr c3 c, jfr_wr _ _, by rw [up_99]; exact e, by rw [p_up_c _ _ _ _ _ (by decide)], by decide, by decide⟩, fun v hv => (by injection hv)⟩
        · rw [v_wc_f c3, m_write_f d L e (by rw [ea]; exact c3), p_xV]
          exact ⟨_, _, _, rfl, rfl, JO_err R e 20, fun v hv => (by cases hv)⟩
      · rw [v_if_n c2, v_err, if_neg c2, m_err, p_xV, er _ _ _ (e3 16 e)]
        exact ⟨_, _, _, rfl, rfl, JO_err R e 16, fun v hv => (by cases hv)⟩
    · rw [v_rc_f c1, m_read_f d L (a := am_w (o + 1)) (by rw [s16_w]; exact c1), p_xI, h1]
      refine ⟨_, erh 20 h, 0, rfl, ?_, JO_err R e 20, fun v hv => (by cases hv)⟩
      rw [if_neg c0, m_err_t _ _ _ (e3 20 e), p_xV]; exact er _ _ _ (e3 20 e)
/-- String.eraseLastChar -/
theorem j_erase (R : MR ky G h) (e : h 254 99 = -1) (o : Int) (ho : rg16 o) (h0 : h 321 0 = o) : ∃ x h' r, vD ky (d + 2) 21 [o] G = some x ∧ am_D (d + 3) 17 105 [am_r (am_a 254), am_i 5] (zS L, h) = pI L r h' ∧ JO ky G h x h' ∧ (∀ v, x.1 = .inl v → r = v) := by
  have er : ∀ u1 x3, ∀ h1 : am_H, h1 254 99 ≠ -1 → am_E (am_D (d + 2)) m_17_105 (.inl 10) [some (am_r (am_a 254)), u1, some (am_i o), some (am_i x3)] [] (zS L, h1) = pI L 0 h1 := fun u1 x3 h1 e1 => by rw [q_17_105_10, if_neg e1]
  rw [w_21, D_17_105, p_idx (by decide) (by decide), if_neg (show ¬ (5 : Int) = 0 by decide), if_neg (show ¬ (5 : Int) = 1 by decide), if_neg (show ¬ (5 : Int) = 2 by decide), if_neg (show ¬ (5 : Int) = 3 by decide), if_neg (show ¬ (5 : Int) = 4 by decide), if_pos (show (5 : Int) = 5 from rfl), show (0 : Int).toNat = 0 from rfl, h0]
  by_cases c1 : v_pl (am_s16 (o + 1))
  · rw [v_rc_t c1, m_read_t d L (a := am_w (o + 1)) (by rw [s16_w]; exact c1), p_xI, s16_w, R.rd c1]
    by_cases c2 : G.1 (am_s16 (o + 1)).toNat < 1
    · rw [v_if_t c2, v_err, if_pos c2, m_err, p_xV, er _ _ _ (e3 18 e)]
      exact ⟨_, _, _, rfl, rfl, JO_err R e 18, fun v hv => (by cases hv)⟩
    · rw [v_if_f c2, if_neg c2, w_21_74, q_17_105_10, if_pos e, v_wc_t c1, m_write_t d L e (by rw [s16_w]; exact c1), p_xV, s16_w, s16_w]
      exact ⟨_, _, _, rfl, rfl, ⟨R.wr c1 (rg16_s _), vfr_wr c1 _, jfr_wr _ _, by rw [up_99]; exact e, by rw [p_up_c _ _ _ _ _ (by decide)], by decide, by decide⟩, fun v hv => (by injection hv)⟩
  · rw [v_rc_f c1, m_read_f d L (a := am_w (o + 1)) (by rw [s16_w]; exact c1), p_xI]
    refine ⟨_, erh 20 h, 0, rfl, ?_, JO_err R e 20, fun v hv => (by cases hv)⟩
    rw [if_pos (by decide), m_err_t _ _ _ (e3 20 e), p_xV]; exact er _ _ _ (e3 20 e)
end
