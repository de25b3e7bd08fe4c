/-! PURE LAYER, 50: the model's let, return, do -/
theorem mi_1 (V : Nat → Int) (c : Int) (s : mi_S) : mi V (1, c, 0, 0) s = mi_h s (mi_add 0 c 0 0 s.1) := rfl
theorem mi_22 (V : Nat → Int) (i : Int) (s : mi_S) : mi V (22, i, 0, 0) s = gx_b (mi_h s (mi_add 13 0 0 i s.1)) fun s1 => mi_h s1 (mi_add 12 0 0 0 s1.1) := by
  show mi_h s (gx_b (mi_add 13 0 0 i s.1) (mi_add 12 0 0 0)) = _
  unfold mi_h
  simp only [gx_b_assoc, gx_b_inr]
theorem mi_23 (V : Nat → Int) (s : mi_S) : mi V (23, 0, 0, 0) s = gx_b (mi_h s (mi_add 14 0 0 0 s.1)) fun s1 => mi_h s1 (mi_add 12 0 0 0 s1.1) := by
  show mi_h s (gx_b (mi_add 14 0 0 0 s.1) (mi_add 12 0 0 0)) = _
  unfold mi_h
  simp only [gx_b_assoc, gx_b_inr]
theorem mi_33 (V : Nat → Int) (s : mi_S) : mi V (33, 0, 0, 0) s = mi_h s (mi_add 18 0 0 0 s.1) := rfl
theorem mi_34 (V : Nat → Int) (s : mi_S) : mi V (34, 0, 0, 0) s = gx_b (mi_h s (mi_add 19 0 0 0 s.1)) fun s1 => mi_h s1 (mi_add 12 0 0 0 s1.1) := by
  show mi_h s (gx_b (mi_add 19 0 0 0 s.1) (mi_add 12 0 0 0)) = _
  unfold mi_h
  simp only [gx_b_assoc, gx_b_inr]
theorem mb.le {L : Nat} {g0 : am_H} {m m1 m2 : Nat} {k : am_H → Option am_O} (h : mb L g0 m1 m2 k) (hm : m ≤ m1) : mb L g0 m m2 k := fun e h1 B => h e h1 (B.le hm)
section
variable {g0 : am_H} (d L : Nat) {m m2 : Nat}
theorem mb_I {m1 : Nat} {D : am_H → Option am_O} {k : Int → am_H → Option am_O} (hD : ∀ e h, mp_B g0 m e h → ∃ v h', D h = pI L v h' ∧ mp_B g0 m1 e h') (hk : ∀ v, mb L g0 m1 m2 (k v)) : mb L g0 m m2 (fun h => am_xI (zS L) (D h) (am_up1 (zS L)) k) := by
  intro e h B
  obtain ⟨v, h', e1, B1⟩ := hD e h B
  obtain ⟨h2, e2, B2⟩ := hk v e h' B1
  exact ⟨h2, by show am_xI (zS L) (D h) (am_up1 (zS L)) k = _; rw [e1, p_xI]; exact e2, B2⟩
theorem mbk_sign (c : Int) : mb L g0 m m (fun h => am_D (d + 3) 17 22 [am_r (am_a 254), am_i c] (zS L, h)) := fun _ h B => ⟨h, mb_needSign d L B c, B⟩
theorem mbk_exp : mb L g0 m m (fun h => am_D (d + 1) 17 45 [am_r (am_a 254)] (zS L, h)) := fun _ h B => ⟨h, mb_exp d L B, B⟩
theorem mbk_close (hm : m ≤ 4999) (c : Int) : mb L g0 m (m + 1) (fun h => am_D (d + 4) 17 28 [am_r (am_a 254), am_i c] (zS L, h)) := fun _ h B => by
  obtain ⟨h', e1, B1, -⟩ := mb_closeSign d L B hm c
  exact ⟨h', e1, B1⟩
theorem mbk_add {k : Int → am_H → Option am_O} {a b c : Int} {t : am_H → Int} (hm : m ≤ 4990) (hk : ∀ v, mb L g0 (m + 1) m2 (k v)) : mb L g0 m m2 (fun h => am_xI (zS L) (am_D (d + 1) 17 25 [am_r (am_a 254), am_i a, am_i b, am_i c, am_i (t h)] (zS L, h)) (am_up1 (zS L)) k) :=
  mb_I L (fun e h B => by obtain ⟨h', e1, B1, -⟩ := mb_add d L B hm a b c (t h); exact ⟨_, h', e1, B1⟩) hk
theorem mbk_ret (hm : m ≤ m2) : mb L g0 m m2 (fun h1 => some (.inl none, (zS L, h1))) := fun _ h1 B => ⟨h1, rfl, B.le hm⟩
end
section
variable {K V P : Nat → Int} {Z : Nat} {g0 : am_H} {i deep st : Nat} {g h : am_H} (d L : Nat) {G : Nat}
/-- needSign, then more -/
theorem mn_sign {α : Type} {m m2 : Nat} {k : am_H → Option am_O} {F : Nat → gx_R α} {ok : α → Option am_O → Prop} {oc : List Int} (N : mp_N K V P Z g0 oc i deep st g h) (c : Int) (hm : 4900 ≤ m) (hb : mb L g0 m m2 k) (hk : ∀ h1, mp_N K V P Z g0 oc (i + 1) deep st g h1 → mo L (k h1) g0 m2 (F (i + 1)) ok) : mo L (am_xV (zS L) (am_D (d + 3) 17 22 [am_r (am_a 254), am_i c] (zS L, h)) (am_up1 (zS L)) k) g0 m2 (gx_b (hx_sign K V P c i) F) ok := by
  refine mo_bV (m := m) (Po := fun j h1 => j = i + 1 ∧ mp_N K V P Z g0 oc j deep st g h1) ?_ hb ?_
  · have t := mp_needSign d L N c
    cases hr : hx_sign K V P c i with
    | inl e =>
      rw [hr] at t
      intro he
      obtain ⟨h', e1, B⟩ := t he
      exact ⟨h', e1, B.le hm⟩
    | inr j =>
      rw [hr] at t
      obtain ⟨h1, e1, e2, N1, -⟩ := t
      exact ⟨h1, e1, e2, N1⟩
  · rintro j h1 - ⟨rfl, N1⟩
    exact hk h1 N1
/-- expression, then more -/
theorem mn_exp {α : Type} {m2 : Nat} {k : am_H → Option am_O} {F : Nat × Nat × mi_S × Nat → gx_R α} {ok : α → Option am_O → Prop} (hG : G ≤ 900000) (N : mp_N K V P Z g0 [] i deep st g h) {ty so : Int} {bs : List (Int × Int × Int × Int)} (hb : mb L g0 4950 m2 k) (hk : ∀ j st2 g2 n h1, mp_N K V P Z g0 [] j deep st2 g2 h1 → mk_kp g g2 → mo L (k h1) g0 m2 (F (j, st2, (g2, ty, so, bs, []), n)) ok) : mo L (am_xV (zS L) (am_D (d + 10) 17 45 [am_r (am_a 254)] (zS L, h)) (am_up1 (zS L)) k) g0 m2 (gx_b (he_e K V P (mi V) G deep st i (g, ty, so, bs, [])) F) ok := by
  refine mo_bV (Po := fun (a : Nat × Nat × mi_S × Nat) (h' : am_H) => mp_N K V P Z g0 [] a.1 deep a.2.1 a.2.2.1.1 h' ∧ a.2.2.1.2 = (ty, so, bs, []) ∧ mk_kp g a.2.2.1.1) (mq_exp d L hG N ty so bs) hb ?_
  rintro ⟨a1, a2, ⟨g2, q2⟩, a4⟩ h1 - ⟨N1, eq, kp⟩
  have eq : q2 = (ty, so, bs, []) := eq
  subst eq
  exact hk a1 a2 g2 a4 h1 N1 kp
/-- let() and the end of the statement -/
theorem mq_let (hG : G ≤ 900000) (N : mp_N K V P Z g0 [] i deep st g h) (ty so : Int) (bs : List (Int × Int × Int × Int)) (t0 : Int) (ht : 0 ≤ t0 ∧ t0 ≤ 1001) : mo L (am_xV (zS L) (am_D (d + 11) 17 39 [am_r (am_a 254)] (zS L, h)) (am_up1 (zS L)) fun h10 => am_xI (zS L) (am_D (d + 11) 17 25 [am_r (am_a 254), am_i 12, am_i 0, am_i 0, am_i t0] (zS L, h10)) (am_up1 (zS L)) fun v12 h11 => some (.inl none, (zS L, h11))) g0 4970 (he_let K V P (mi V) G deep st i (g, ty, so, bs, []))
    (fun a D => ∃ h', D = pV L h' ∧ (mp_N K V P Z g0 [] a.1 deep a.2.1 a.2.2.1 h' ∧ a.2.2.2 = (ty, so, bs, []) ∧ mk_kp g a.2.2.1)) := by
  have lt := N.lt
  -- the end
  have bEnd : ∀ x1 x2 : Int, mb L g0 4960 4970 (fun h1 => am_xV (zS L) (if (x2 : Int) = 0 then am_xI (zS L) (am_D (d + 10) 17 25 [am_r (am_a 254), am_i 13, am_i 0, am_i 0, am_i x1] (zS L, h1)) (am_up1 (zS L)) fun v5 h4 => some (.inl none, (zS L, h4)) else am_xI (zS L) (am_D (d + 10) 17 25 [am_r (am_a 254), am_i 14, am_i 0, am_i 0, am_i x1] (zS L, h1)) (am_up1 (zS L)) fun v7 h6 => some (.inl none, (zS L, h6))) (am_up1 (zS L)) fun h10 => am_xI (zS L) (am_D (d + 11) 17 25 [am_r (am_a 254), am_i 12, am_i 0, am_i 0, am_i t0] (zS L, h10)) (am_up1 (zS L)) fun v12 h11 => some (.inl none, (zS L, h11))) := by
    intro x1 x2
    have b2 : mb L g0 4961 4970 (fun h10 => am_xI (zS L) (am_D (d + 11) 17 25 [am_r (am_a 254), am_i 12, am_i 0, am_i 0, am_i t0] (zS L, h10)) (am_up1 (zS L)) fun v12 h11 => some (.inl none, (zS L, h11))) := mbk_add (t := fun _ => t0) (d + 10) L (by omega) (fun _ => mbk_ret L (by omega))
    by_cases c : x2 = 0
    · simp only [if_pos c]
      exact mb_V (mbk_add (t := fun _ => x1) (d + 9) L (by omega) (fun _ => mbk_ret L (by omega))) b2
    · simp only [if_neg c]
      exact mb_V (mbk_add (t := fun _ => x1) (d + 9) L (by omega) (fun _ => mbk_ret L (by omega))) b2
  have b3 := fun x1 x2 => mb_V (mbk_sign (g0 := g0) (m := 4960) (d + 7) L 59) (bEnd x1 x2)
  have bTail : ∀ x1 x2 : Int, mb L g0 4960 4970 (fun h1 => am_xV (zS L) (am_E (am_D (d + 10)) m_17_39 (.inl 1) [some (am_r (am_a 254)), some (am_i x1), some (am_i x2)] [] (zS L, h1)) (am_up1 (zS L)) fun h10 => am_xI (zS L) (am_D (d + 11) 17 25 [am_r (am_a 254), am_i 12, am_i 0, am_i 0, am_i t0] (zS L, h10)) (am_up1 (zS L)) fun v12 h11 => some (.inl none, (zS L, h11))) := by
    intro x1 x2
    simp only [q_17_39_1, p_xVV]
    exact mb_V (mbk_sign (d + 7) L 61) (mb_V (mbk_exp (d + 9) L) (b3 x1 x2))
  -- from = on
  have tail : ∀ (b : Bool) (g1 h1 : am_H) (j st1 : Nat), mp_N K V P Z g0 [] j deep st1 g1 h1 → mk_kp g g1 → mo L (am_xV (zS L) (am_E (am_D (d + 10)) m_17_39 (.inl 1) [some (am_r (am_a 254)), some (am_i i), some (am_i (pB (b = true)))] [] (zS L, h1)) (am_up1 (zS L)) fun h10 => am_xI (zS L) (am_D (d + 11) 17 25 [am_r (am_a 254), am_i 12, am_i 0, am_i 0, am_i t0] (zS L, h10)) (am_up1 (zS L)) fun v12 h11 => some (.inl none, (zS L, h11))) g0 4970
      (gx_b (hx_sign K V P 61 j) fun j3 => gx_b (he_e K V P (mi V) G deep st1 j3 (g1, ty, so, bs, [])) fun r2 => gx_b (hx_sign K V P 59 r2.1) fun j4 => gx_b (mi V (if b = true then 23 else 22, if b = true then 0 else (i : Int), 0, 0) r2.2.2.1) fun s3 => .inr (j4, r2.2.1, s3)) (fun a D => ∃ h', D = pV L h' ∧ (mp_N K V P Z g0 [] a.1 deep a.2.1 a.2.2.1 h' ∧ a.2.2.2 = (ty, so, bs, []) ∧ mk_kp g a.2.2.1)) := by
    intro b g1 h1 j st1 N1 kp1
    rw [q_17_39_1]
    simp only [p_xVV]
    refine mn_sign (m := 4960) (d + 7) L N1 61 (by omega) (mb_V (mbk_exp (d + 9) L) (b3 i (pB (b = true)))) (fun h2 N2 => ?_)
    refine mn_exp d L hG N2 ((b3 i (pB (b = true))).le (by omega)) (fun j3 st3 g3 n3 h3 N3 kp3 => ?_)
    refine mn_sign (m := 4960) (d + 7) L N3 59 (by omega) (bEnd _ _) (fun h4 N4 => ?_)
    cases b with
    | false =>
      rw [if_pos (by rw [pB_f (by simp)]), p_xVI]
      show mo L _ g0 4970 (gx_b (mi V (22, (i : Int), 0, 0) (g3, ty, so, bs, [])) fun s3 => .inr (j3 + 1, st3, s3)) _
      rw [mi_22, gx_b_assoc]
      refine mn_add (d + 9) L N4 13 0 0 i i (fun _ => rfl) (by omega) (fun h5 N5 _ => ?_)
      rw [p_xV]
      refine mn_add (d + 10) L N5 12 0 0 0 t0 (by unfold mp_rel; omega) ht (fun h6 N6 _ => ?_)
      exact ⟨h6, rfl, N6, rfl, (kp1.trans kp3).trans ((mk_kp_put _ _ _ _ _).trans (mk_kp_put _ _ _ _ _))⟩
    | true =>
      rw [if_neg (by rw [pB_t rfl]; decide), p_xVI]
      show mo L _ g0 4970 (gx_b (mi V (23, 0, 0, 0) (g3, ty, so, bs, [])) fun s3 => .inr (j3 + 1, st3, s3)) _
      rw [mi_23, gx_b_assoc]
      refine mn_add (d + 9) L N4 14 0 0 0 i (by unfold mp_rel; omega) (by omega) (fun h5 N5 _ => ?_)
      rw [p_xV]
      refine mn_add (d + 10) L N5 12 0 0 0 t0 (by unfold mp_rel; omega) ht (fun h6 N6 _ => ?_)
      exact ⟨h6, rfl, N6, rfl, (kp1.trans kp3).trans ((mk_kp_put _ _ _ _ _).trans (mk_kp_put _ _ _ _ _))⟩
  rw [D_17_39]
  unfold he_let
  simp only [p_xVI]
  rcases mp_needName (d + 7) L N with ⟨k2, e1, N1⟩ | ⟨k2, h1, e1, B1⟩
  · rw [hx_name_t k2, gx_b_inr, e1, p_xI, mp_isSign (d + 9) L N1, p_xI]
    by_cases s91 : gx_sg K V 91 (i + 1)
    · rw [if_neg (by rw [pB_t s91]; decide), if_pos s91, N1.fa, if_pos rfl, hx_opens_sg s91, mi_6]
      simp only [p_xVI, p_xVV]
      have t1 : ∀ v : Int, v = pB (gx_sg K V 91 (i + 1)) → ∀ (g1 h1 : am_H) (j st1 : Nat), mp_N K V P Z g0 [] j deep st1 g1 h1 → mk_kp g g1 → mo L (am_xV (zS L) (am_E (am_D (d + 10)) m_17_39 (.inl 1) [some (am_r (am_a 254)), some (am_i i), some (am_i v)] [] (zS L, h1)) (am_up1 (zS L)) fun h10 => am_xI (zS L) (am_D (d + 11) 17 25 [am_r (am_a 254), am_i 12, am_i 0, am_i 0, am_i t0] (zS L, h10)) (am_up1 (zS L)) fun v12 h11 => some (.inl none, (zS L, h11))) g0 4970
          (gx_b (hx_sign K V P 61 j) fun j3 => gx_b (he_e K V P (mi V) G deep st1 j3 (g1, ty, so, bs, [])) fun r2 => gx_b (hx_sign K V P 59 r2.1) fun j4 => gx_b (mi V (23, 0, 0, 0) r2.2.2.1) fun s3 => .inr (j4, r2.2.1, s3)) (fun a D => ∃ h', D = pV L h' ∧ (mp_N K V P Z g0 [] a.1 deep a.2.1 a.2.2.1 h' ∧ a.2.2.2 = (ty, so, bs, []) ∧ mk_kp g a.2.2.1)) := by
        intro v ev g1 h1 j st1 N1 kp1
        have t := tail true g1 h1 j st1 N1 kp1
        rw [ev, pB_t s91]
        rw [pB_t rfl] at t
        exact t
      refine mn_add (d + 9) L N1 4 0 0 i i (fun _ => rfl) (by omega) (fun h5 N5 _ => ?_)
      have bC := mbk_close (g0 := g0) (m := 4950) (d + 6) L (by omega) 93
      have bA : mb L g0 4951 4970 (fun h9 => am_xI (zS L) (am_D (d + 10) 17 25 [am_r (am_a 254), am_i 6, am_i 43, am_i 0, am_i (i : Int)] (zS L, h9)) (am_up1 (zS L)) fun v11 h10 => am_xV (zS L) (am_E (am_D (d + 10)) m_17_39 (.inl 1) [some (am_r (am_a 254)), some (am_i i), some (am_i (pB (gx_sg K V 91 (i + 1))))] [] (zS L, h10)) (am_up1 (zS L)) fun h10 => am_xI (zS L) (am_D (d + 11) 17 25 [am_r (am_a 254), am_i 12, am_i 0, am_i 0, am_i t0] (zS L, h10)) (am_up1 (zS L)) fun v12 h11 => some (.inl none, (zS L, h11))) := mbk_add (t := fun _ => (i : Int)) (d + 9) L (by omega) (fun _ => (bTail _ _).le (by omega))
      have bX := mb_V (mbk_exp (g0 := g0) (m := 4950) (d + 9) L) (mb_V bC bA)
      refine mo_bV (m := 4900) (mp_openSign (d + 7) L N5 91) (bX.le (by omega)) ?_
      rintro j1 h6 - ⟨rfl, hdp, N6, -⟩
      refine mn_exp d L hG N6 (mb_V bC bA) (fun j7 st7 g7 n7 h7 N7 kp7 => ?_)
      refine mo_bV (m := 4901) (mp_closeSign (d + 6) L N7 93) (bA.le (by omega)) ?_
      rintro j8 h8 - ⟨rfl, N8, -⟩
      show mo L _ g0 4970 (gx_b (mi V (8, 43, 0, 0) (g7, ty, so, bs, [])) _) _
      rw [mi_8]
      refine mn_add (d + 9) L N8 6 43 0 0 i (by unfold mp_rel; omega) (by omega) (fun h9 N9 _ => ?_)
      exact t1 _ rfl _ h9 _ _ N9 ((mk_kp_put _ _ _ _ _).trans (kp7.trans (mk_kp_put _ _ _ _ _)))
    · rw [if_pos (by rw [pB_f s91]), if_neg s91]
      show mo L _ g0 4970 (gx_b (.inr (g, ty, so, bs, [])) _) _
      rw [gx_b_inr]
      have t := tail false g _ (i + 1) st N1 (mk_kp.refl g)
      rw [pB_f s91]
      rw [pB_f (by simp)] at t
      exact t
  · rw [hx_name_f k2, e1, p_xI]
    intro _
    obtain ⟨v, e4, hv⟩ := mb_isSign (d + 9) L B1 91
    have b1 := B1.2.1
    rw [e4, p_xI]
    rcases hv with rfl | rfl
    · rw [if_pos rfl]; exact bTail 0 0 _ h1 (B1.le (by omega))
    · rw [if_neg (by decide), if_neg (by rw [B1.2.2.1]; omega)]; exact bTail 0 1 _ h1 (B1.le (by omega))
end
