/-! PURE LAYER, 56: the model's statements -/
theorem mk_kp_34 (V : Nat → Int) (s s1 : mi_S) (h : mi V (34, 0, 0, 0) s = .inr s1) : mk_kp s.1 s1.1 :=
  (show gx_P (mi_h s (gx_b (mi_add 19 0 0 0 s.1) (mi_add 12 0 0 0))) (fun s1 => mk_kp s.1 s1.1) from mk_kp_h (gx_P_b fun a e b e2 => (mk_kp_add _ _ _ _ _ a e).trans (mk_kp_add _ _ _ _ _ b e2))) s1 h
theorem mk_kp_do {K V P : Nat → Int} (f deep st i : Nat) (s : mi_S) : gx_P (he_do K V P (mi V) f deep st i s) (fun a => mk_kp s.1 a.2.2.1) := by
  unfold he_do
  refine gx_P_b fun j _ => ?_
  split
  · exact gx_P_b fun _ _ => gx_P_b fun _ _ => gx_P_b fun s1 e1 => gx_P_b fun _ _ => gx_P_b fun r f1 => gx_P_b fun s2 e2 => gx_P_b fun s3 e3 => gx_P_b fun _ _ => gx_P_i ((mk_kp_ev V _ _ _ (by show 11 ≤ 12; decide) e1).trans ((mk_kp_g f 2 _ _ _ s1 r f1).trans ((mk_kp_ev V _ _ _ (by show 12 ≤ 12; decide) e2).trans (mk_kp_34 V _ _ e3))))
  split
  · exact gx_P_b fun s1 e1 => gx_P_b fun _ _ => gx_P_b fun r f1 => gx_P_b fun s2 e2 => gx_P_b fun s3 e3 => gx_P_b fun _ _ => gx_P_i ((mk_kp_ev V _ _ _ (by show 11 ≤ 12; decide) e1).trans ((mk_kp_g f 2 _ _ _ s1 r f1).trans ((mk_kp_ev V _ _ _ (by show 12 ≤ 12; decide) e2).trans (mk_kp_34 V _ _ e3))))
  · exact gx_P_e
section
variable {K V P : Nat → Int} {Z : Nat} {g0 : am_H} {i deep st : Nat} {g h : am_H} (d L : Nat) {G : Nat} {bs : List (Int × Int × Int × Int)} {ty so : Int}
theorem mi_20 (t : Int) (g : am_H) : mi V (20, t, 0, 0) (g, ty, so, bs, []) = gx_b (mi_add 11 0 0 t g) fun g1 => .inr (g1, ty, so, bs, []) := rfl
theorem mi_24 (g : am_H) : mi V (24, 0, 0, 0) (g, ty, so, bs, []) = ce_q (0 ≤ g 254 50 ∧ g 254 50 < 99990) (.inr (am_up g 254 50 (g 254 50 + 2), ty, so, (1, g 254 50, 0, g 254 33) :: bs, [])) := rfl
theorem mi_30 (t : Int) (g : am_H) : mi V (30, t, 0, 0) (g, ty, so, bs, []) = ce_q (0 ≤ g 254 50 ∧ g 254 50 < 99990) (gx_b (mi_add 20 (g 254 50) 0 0 (am_up g 254 50 (g 254 50 + 2))) fun g1 => gx_b (mi_add 17 0 0 0 g1) fun g2 => .inr (g2, ty, so, (3, g 254 50, 0, g 254 33) :: bs, [])) := rfl
/-- two labels are taken -/
theorem mp_N.lab (N : mp_N K V P Z g0 [] i deep st g h) (hc : 0 ≤ g 254 50 ∧ g 254 50 < 99990) : mp_N K V P Z g0 [] i deep st (am_up g 254 50 (g 254 50 + 2)) (am_up h 254 50 (g 254 50 + 2)) :=
  N.both 254 50 _ rfl rfl rfl (N.ok.f (by decide))
/-- if: behind the word -/
theorem mq_if {α : Type} {F : Nat → Nat → mi_S → gx_R α} {ok : α → Option am_O → Prop} (hG : G ≤ 900000) (t0 : Int) (ht : 0 ≤ t0 ∧ t0 ≤ 1001) (N : mp_N K V P Z g0 [] i deep st g h) (e55 : g 254 55 = bs.length) (Bs : mp_Bs bs g)
    (hk : ∀ st2 j g2 h2 b2, b2.1 = 1 → mp_Q K V P Z g0 (b2 :: bs) j (deep + 1) st2 g2 h2 → mo L (ms_L d L h2) g0 4980 (F st2 j (g2, ty, so, b2 :: bs, [])) ok) :
    mo L (am_xV (zS L) (am_D (d + 11) 17 40 [am_r (am_a 254), am_i 0, am_i t0] (zS L, h)) (am_up1 (zS L)) (ms_L d L)) g0 4980 (gx_b (mi V (24, 0, 0, 0) (g, ty, so, bs, [])) fun s2 => gx_b (he_c K V P (mi V) G deep st i s2) fun r => gx_b (mi V (25, 0, 0, 0) r.2.2) fun s3 => gx_b (hx_opens K V P 123 deep r.1) fun j1 => F r.2.1 j1 s3) ok := by
  rw [mi_24]
  unfold ce_q
  by_cases hc : 0 ≤ g 254 50 ∧ g 254 50 < 99990
  · have o := N.ok.2.2.2.2.2.1
    rw [if_pos hc, gx_b_inr, D_17_40, if_pos rfl, N.eq 254 50 rfl rfl, N.eq 254 33 rfl rfl, p_w (by omega) (by omega)]
    have t := mq_br1 (ty := ty) (so := so) (F := F) (ok := ok) d L hG false (g 254 50) (g 254 33) t0 (by omega) ht (N.lab hc) (by rw [p_up_n _ _ _ _ _ _ (Or.inr (by decide))]; exact e55) (mk_bs Bs (fun a ha => p_up_c _ _ _ _ _ (by omega))) none (fun st2 j g2 h2 b2 hb Q => hk st2 j g2 h2 b2 hb Q)
    rw [pB_f (by simp)] at t
    exact t
  · rw [if_neg hc]; exact fun z => absurd z (by decide)
/-- while: behind the word -/
theorem mq_while {α : Type} {F : Nat → Nat → mi_S → gx_R α} {ok : α → Option am_O → Prop} (hG : G ≤ 900000) (t0 t1 : Int) (ht : 0 ≤ t0 ∧ t0 ≤ 1001) (N : mp_N K V P Z g0 [] i deep st g h) (e55 : g 254 55 = bs.length) (Bs : mp_Bs bs g)
    (hk : ∀ st2 j g2 h2 b2, b2.1 = 3 → mp_Q K V P Z g0 (b2 :: bs) j (deep + 1) st2 g2 h2 → mo L (ms_L d L h2) g0 4980 (F st2 j (g2, ty, so, b2 :: bs, [])) ok) :
    mo L (am_xV (zS L) (am_D (d + 11) 17 40 [am_r (am_a 254), am_i 1, am_i t0] (zS L, h)) (am_up1 (zS L)) (ms_L d L)) g0 4980 (gx_b (mi V (30, t1, 0, 0) (g, ty, so, bs, [])) fun s2 => gx_b (he_c K V P (mi V) G deep st i s2) fun r => gx_b (mi V (31, 0, 0, 0) r.2.2) fun s3 => gx_b (hx_opens K V P 123 deep r.1) fun j1 => F r.2.1 j1 s3) ok := by
  rw [mi_30]
  unfold ce_q
  by_cases hc : 0 ≤ g 254 50 ∧ g 254 50 < 99990
  · have o := N.ok.2.2.2.2.2.1
    rw [if_pos hc, gx_b_assoc, D_17_40, if_neg (by decide), N.eq 254 50 rfl rfl, N.eq 254 33 rfl rfl, p_w (by omega) (by omega), p_xVI]
    have N1 := N.lab hc
    refine mn_add0 (d + 9) L N1 20 (g 254 50) 0 0 t0 (by unfold mp_rel; omega) ht (fun h2 N2 _ => ?_)
    rw [p_xVI, gx_b_assoc]
    refine mn_add0 (d + 9) L N2 17 0 0 0 t0 (by unfold mp_rel; omega) ht (fun h3 N3 _ => ?_)
    have kp := (mk_kp_put 20 (g 254 50) 0 0 (am_up g 254 50 (g 254 50 + 2))).trans (mk_kp_put 17 0 0 0 _)
    have t := mq_br1 (ty := ty) (so := so) (F := F) (ok := ok) d L hG true (g 254 50) (g 254 33) t0 (by omega) ht N3 (by rw [kp.2.1, p_up_n _ _ _ _ _ _ (Or.inr (by decide))]; exact e55) (mk_bs (mk_bs Bs (fun a ha => p_up_c _ _ _ _ _ (by omega))) kp.1) none (fun st2 j g2 h2 b2 hb Q => hk st2 j g2 h2 b2 hb Q)
    rw [pB_t rfl] at t
    exact t
  · rw [if_neg hc]; exact fun z => absurd z (by decide)
/-- one statement, or as many as there are -/
def ms_P (K V P : Nat → Int) (Z : Nat) (g0 : am_H) (d L deep : Nat) (bs : List (Int × Int × Int × Int)) (q : Int × Int × List (Int × Int × Int × Int) × List Int) (no : Bool) (a : Nat × Nat × mi_S) (D : Option am_O) : Prop := ∃ h', D = ms_L d L h' ∧ mp_Q K V P Z g0 bs a.1 deep a.2.1 a.2.2.1 h' ∧ a.2.2.2 = q ∧ (no = true → ¬ gx_stm K V a.1)
theorem ms_all (hG : G ≤ 900000) : ∀ f, (∀ bs deep st i g h ty so, mp_Q K V P Z g0 bs i deep st g h → mo L (ms_L d L h) g0 4980 (hs K V P (mi V) G f 0 deep st i (g, ty, so, bs, [])) (ms_P K V P Z g0 d L deep bs (ty, so, bs, []) true)) ∧ (∀ bs deep st i g h ty so, mp_Q K V P Z g0 bs i deep st g h → gx_stm K V i → mo L (ms_L d L h) g0 4980 (hs K V P (mi V) G f 1 deep st i (g, ty, so, bs, [])) (ms_P K V P Z g0 d L deep bs (ty, so, bs, []) false))
  | 0 => ⟨fun _ _ _ _ _ _ _ _ _ => by rw [hs]; exact fun z => absurd z (by decide), fun _ _ _ _ _ _ _ _ _ _ => by rw [hs]; exact fun z => absurd z (by decide)⟩
  | f + 1 => by
    obtain ⟨HS, H1⟩ := ms_all hG f
    constructor
    · intro bs deep st i g h ty so Q
      rw [hs]
      by_cases c : gx_stm K V i
      · rw [if_pos c]
        refine mo_bD (H1 bs deep st i g h ty so Q c) ?_
        rintro ⟨a1, a2, ⟨g2, q2⟩⟩ - ⟨h2, e2, Q2, eq2, -⟩
        have eq2 : q2 = (ty, so, bs, []) := eq2
        subst eq2
        rw [e2]
        exact HS bs deep a2 a1 g2 h2 ty so Q2
      · rw [if_neg c]
        exact ⟨h, rfl, Q, rfl, fun _ => c⟩
    · intro bs deep st i g h ty so Q c
      have N := Q.1
      have lt := N.lt
      have vl := N.vl (Or.inl c.1)
      have kq := mp_k_eq N.rg
      have n125 : ¬ gx_sg K V 125 i := fun z => absurd (c.1.symm.trans z.1) (by decide)
      have v1 : ¬ V i < 15 := by have := c.2; omega
      have v2 : ¬ V i = 18 := by have := c.2; omega
      have hK : K i ≠ 0 ∧ K i ≠ 6 ∧ K i ≠ 7 := ⟨by rw [c.1]; decide, by rw [c.1]; decide, by rw [c.1]; decide⟩
      have er : ∀ {X : gx_R (Nat × Nat × mi_S)}, X = gx_b X fun a => .inr a := (gx_b_id _).symm
      rw [hs]
      · rw [ms_stm d L N n125, D_17_38, N.nx, p_idx (by omega) (by omega), Int.toNat_natCast, N.kd, if_pos (kq.2.2.2.2.2.1.mpr c.1), p_idx (by omega) (by omega), Int.toNat_natCast, vl, if_neg v1, p_idx (by omega) (by omega), Int.toNat_natCast, vl, if_neg v2, p_idx (by omega) (by omega), Int.toNat_natCast, vl, p_xVI, mi_20, gx_b_assoc]
        refine mn_add0 (d + 10) L N 11 0 0 i i (fun _ => rfl) (by omega) (fun h1 N1 _ => ?_)
        obtain ⟨e2, N2⟩ := mp_go (d + 10) L N1 hK
        have kp1 := mk_kp_put 11 0 0 i g
        have Q2 : mp_Q K V P Z g0 bs (i + 1) deep st (mi_put 11 0 0 i g) (am_up h1 254 10 ((i + 1 : Nat) : Int)) := Q.kp N2 kp1
        rw [e2, p_xV, gx_b_inr]
        show mo L _ g0 4980 (if V i = 15 then _ else _) _
        by_cases c15 : V i = 15
        · rw [if_pos c15, if_pos c15, er (X := he_let K V P (mi V) G deep st (i + 1) _)]
          refine mo_bV (mq_let d L hG N2 ty so bs i (by omega)) (mb_ms d L (by omega)) ?_
          rintro ⟨a1, a2, ⟨g3, q3⟩⟩ h3 - ⟨N3, eq3, kp3⟩
          exact ⟨h3, rfl, Q2.kp N3 kp3, eq3, fun z => by cases z⟩
        rw [if_neg c15, if_neg c15]
        by_cases c16 : V i = 16
        · rw [if_pos c16, if_neg (by omega), if_neg (by omega), if_pos c16, er (X := he_do K V P (mi V) G deep st (i + 1) _)]
          refine mo_bV (mq_do d L hG N2 ty so bs i (by omega)) (mb_ms d L (by omega)) ?_
          rintro ⟨a1, a2, ⟨g3, q3⟩⟩ h3 ea ⟨N3, eq3⟩
          exact ⟨h3, rfl, Q2.kp N3 (mk_kp_do _ _ _ _ _ _ ea), eq3, fun z => by cases z⟩
        rw [if_neg c16]
        by_cases c20 : V i = 20
        · rw [if_pos c20, if_neg (by omega), if_neg (by omega), if_neg (by omega), er (X := he_ret K V P (mi V) G deep st (i + 1) _)]
          refine mo_bV (mq_ret d L hG N2 ty so bs i (by omega) _ _) (mb_ms d L (by omega)) ?_
          rintro ⟨a1, a2, ⟨g3, q3⟩⟩ h3 - ⟨N3, eq3, kp3⟩
          exact ⟨h3, rfl, Q2.kp N3 kp3, eq3, fun z => by cases z⟩
        rw [if_neg c20]
        by_cases c19 : V i = 19
        · rw [if_pos c19, if_neg (by omega), if_pos c19, p_xVV]
          simp only [p_xV]
          refine mq_while (F := fun st2 j1 s3 => gx_b (hs K V P (mi V) G f 0 (deep + 1) st2 j1 s3) fun r2 => gx_b (hx_sign K V P 125 r2.1) fun j2 => gx_b (mi V (32, 0, 0, 0) r2.2.2) fun s4 => .inr (j2, r2.2.1, s4)) d L hG i i (by omega) N2 Q2.2.1 Q2.2.2.1 (fun st2 j g2 h2 b2 hb Q3 => ?_)
          refine mo_bD (HS _ _ _ _ _ _ ty so Q3) ?_
          rintro ⟨a1, a2, ⟨g4, q4⟩⟩ - ⟨h4, e4, Q4, eq4, no4⟩
          have eq4 : q4 = (ty, so, b2 :: bs, []) := eq4
          subst eq4
          rw [e4]
          refine ms_close d L Q4 (no4 rfl) (fun h5 Q5 => ?_)
          exact mq_end32 d L Q5 hb (fun g6 h6 Q6 => ⟨h6, rfl, Q6, rfl, fun z => by cases z⟩)
        · have c17 : V i = 17 := by have := c.2; omega
          rw [if_neg c19, if_pos c17, p_xVV]
          simp only [p_xV]
          refine mq_if (F := fun st2 j1 s3 => gx_b (hs K V P (mi V) G f 0 (deep + 1) st2 j1 s3) fun r2 => gx_b (hx_sign K V P 125 r2.1) fun j2 => if gx_wd K V 18 j2 then gx_b (mi V (26, 0, 0, 0) r2.2.2) fun s4 => gx_b (hx_next j2) fun j3 => gx_b (hx_opens K V P 123 deep j3) fun j4 => gx_b (hs K V P (mi V) G f 0 (deep + 1) r2.2.1 j4 s4) fun r3 => gx_b (hx_sign K V P 125 r3.1) fun j5 => gx_b (mi V (28, 0, 0, 0) r3.2.2) fun s5 => .inr (j5, r3.2.1, s5)
            else gx_b (mi V (27, 0, 0, 0) r2.2.2) fun s4 => .inr (j2, r2.2.1, s4)) d L hG i (by omega) N2 Q2.2.1 Q2.2.2.1 (fun st2 j g2 h2 b2 hb Q3 => ?_)
          refine mo_bD (HS _ _ _ _ _ _ ty so Q3) ?_
          rintro ⟨a1, a2, ⟨g4, q4⟩⟩ - ⟨h4, e4, Q4, eq4, no4⟩
          have eq4 : q4 = (ty, so, b2 :: bs, []) := eq4
          subst eq4
          rw [e4]
          refine ms_close d L Q4 (no4 rfl) (fun h5 Q5 => ?_)
          show mo L _ g0 4980 (if gx_wd K V 18 (a1 + 1) then _ else _) _
          by_cases cw : gx_wd K V 18 (a1 + 1)
          · rw [if_pos cw]
            refine mq_else (F := fun j4 s4 => gx_b (hs K V P (mi V) G f 0 (deep + 1) a2 j4 s4) fun r3 => gx_b (hx_sign K V P 125 r3.1) fun j5 => gx_b (mi V (28, 0, 0, 0) r3.2.2) fun s5 => .inr (j5, r3.2.1, s5)) d L Q5 hb cw (fun g6 h6 b6 hb6 Q6 => ?_)
            refine mo_bD (HS _ _ _ _ _ _ ty so Q6) ?_
            rintro ⟨a3, a4, ⟨g7, q7⟩⟩ - ⟨h7, e7, Q7, eq7, no7⟩
            have eq7 : q7 = (ty, so, b6 :: bs, []) := eq7
            subst eq7
            rw [e7]
            refine ms_close d L Q7 (no7 rfl) (fun h8 Q8 => ?_)
            exact mq_end28 d L Q8 hb6 (fun g9 h9 Q9 => ⟨h9, rfl, Q9, rfl, fun z => by cases z⟩)
          · rw [if_neg cw]
            exact mq_end27 d L Q5 hb cw (fun g6 h6 Q6 => ⟨h6, rfl, Q6, rfl, fun z => by cases z⟩)
      · intro z; cases z
end
