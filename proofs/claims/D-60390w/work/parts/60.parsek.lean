/-! PURE LAYER, 30: a sub -/
/-- what follows the vars of a sub -/
noncomputable def pc_k39 (d L : Nat) (x1 : Int) (u2 : Option am_V) (h1 : am_H) : Option am_O := am_xV (zS L) (am_D d 7 17 [am_r (am_a 212), am_i 14, am_i (h1 212 16), am_i x1] (zS L, h1)) (am_up1 (zS L)) fun h3 => am_idx (h3 212 16) 130 fun k4 => am_xV (zS L) (am_D d 7 19 [am_r (am_a 212), am_i 14, am_i (h3 222 k4), am_i x1] (zS L, h3)) (am_up1 (zS L)) fun h5 => if (h5 212 14 : Int) = 3 then am_xV (zS L) (am_D d 7 14 [am_r (am_a 212), am_i 1, am_i 0] (zS L, (am_up h5 235 4 (0)))) (am_up1 (zS L)) fun h26 => am_xV (zS L) (am_D d 7 15 [am_r (am_a 212), am_i 4, am_i 0] (zS L, h26)) (am_up1 (zS L)) fun h27 => am_xV (zS L) (am_D d 7 19 [am_r (am_a 212), am_i 0, am_i 1, am_i 0] (zS L, h27)) (am_up1 (zS L)) fun h28 => am_xV (zS L) (am_D d 7 19 [am_r (am_a 212), am_i 1, am_i 6, am_i 0] (zS L, h28)) (am_up1 (zS L)) fun h29 => am_xV (zS L) (am_D d 7 40 [am_r (am_a 212)] (zS L, h29)) (am_up1 (zS L)) fun h30 => am_xI (zS L) (am_D d 7 4 [am_r (am_a 212), am_i 125] (zS L, h30)) (am_up1 (zS L)) fun v32 h31 => am_xV (zS L) (am_D d 7 7 [am_r (am_a 212), am_i v32] (zS L, h31)) (am_up1 (zS L)) fun h33 => am_E (am_D d) m_7_39 (.inl 7) [some (am_r (am_a 212)), some (am_i x1), u2] [] (zS L, h33) else if (h5 212 14 : Int) = 1 then am_idx (h5 212 13) 24 fun k10 => am_xV (zS L) (am_D d 7 14 [am_r (am_a 212), am_i 0, am_i ((if (h5 216 k10 : Int) ≤ 1 then 1 else h5 216 k10))] (zS L, (am_up h5 235 4 (0)))) (am_up1 (zS L)) fun h11 => am_xI (zS L) (am_D d 6 1 [am_r (am_a 213), am_i (h11 212 28)] (zS L, h11)) (am_up1 (zS L)) fun v13 h12 => am_xV (zS L) (am_D d 7 25 [am_r (am_a 212), am_i v13, am_i (h12 212 29), am_i 1] (zS L, h12)) (am_up1 (zS L)) fun h14 => am_xV (zS L) (am_D d 7 15 [am_r (am_a 212), am_i 4, am_i 0] (zS L, h14)) (am_up1 (zS L)) fun h15 => am_idx (h15 212 13) 24 fun k16 => am_xV (zS L) (am_D d 7 19 [am_r (am_a 212), am_i 0, am_i 0, am_i ((if (h15 216 k16 : Int) ≤ 1 then 1 else h15 216 k16))] (zS L, h15)) (am_up1 (zS L)) fun h17 => am_xI (zS L) (am_D d 6 1 [am_r (am_a 213), am_i (h17 212 28)] (zS L, h17)) (am_up1 (zS L)) fun v19 h18 => am_xV (zS L) (am_D d 7 20 [am_r (am_a 212), am_i v19, am_i (h18 212 29), am_i 1] (zS L, h18)) (am_up1 (zS L)) fun h20 => am_xV (zS L) (am_D d 7 19 [am_r (am_a 212), am_i 1, am_i 6, am_i 0] (zS L, h20)) (am_up1 (zS L)) fun h21 => am_xV (zS L) (am_D d 7 40 [am_r (am_a 212)] (zS L, h21)) (am_up1 (zS L)) fun h22 => am_xI (zS L) (am_D d 7 4 [am_r (am_a 212), am_i 125] (zS L, h22)) (am_up1 (zS L)) fun v24 h23 => am_xV (zS L) (am_D d 7 7 [am_r (am_a 212), am_i v24] (zS L, h23)) (am_up1 (zS L)) fun h25 => am_E (am_D d) m_7_39 (.inl 7) [some (am_r (am_a 212)), some (am_i x1), u2] [] (zS L, h25) else am_xV (zS L) (am_D d 7 40 [am_r (am_a 212)] (zS L, (am_up h5 235 4 (0)))) (am_up1 (zS L)) fun h6 => am_xI (zS L) (am_D d 7 4 [am_r (am_a 212), am_i 125] (zS L, h6)) (am_up1 (zS L)) fun v8 h7 => am_xV (zS L) (am_D d 7 7 [am_r (am_a 212), am_i v8] (zS L, h7)) (am_up1 (zS L)) fun h9 => am_E (am_D d) m_7_39 (.inl 7) [some (am_r (am_a 212)), some (am_i x1), u2] [] (zS L, h9)
theorem q_7_39_1' (d L : Nat) (h : am_H) (x1 : Int) (u2 : Option am_V) : am_E (am_D d) m_7_39 (.inl 1) [some (am_r (am_a 212)), some (am_i x1), u2] [] (zS L, h) = am_xI (zS L) (am_D d 7 5 [am_r (am_a 212), am_i 6] (zS L, h)) (am_up1 (zS L)) fun v2 h1 => if (v2 : Int) = 0 then pc_k39 d L x1 u2 h1 else am_xV (zS L) (am_D d 7 10 [am_r (am_a 212)] (zS L, h1)) (am_up1 (zS L)) fun h34 => am_xI (zS L) (am_D d 7 36 [am_r (am_a 212)] (zS L, h34)) (am_up1 (zS L)) fun v36 h35 => am_xV (zS L) (am_D d 7 37 [am_r (am_a 212), am_i 2, am_i v36, am_i x1] (zS L, h35)) (am_up1 (zS L)) fun h37 => am_E (am_D d) m_7_39 (.inl 2) [some (am_r (am_a 212)), some (am_i (am_w (x1 + 1))), some (am_i v36)] [] (zS L, h37) := q_7_39_1 d L h x1 u2
/-- what follows the parameters of a sub -/
noncomputable def pc_k38 (d L : Nat) (x1 : Int) (h3 : am_H) : Option am_O := am_idx (h3 212 16) 130 fun k4 => am_xV (zS L) (am_D d 7 39 [am_r (am_a 212)] (zS L, (am_up h3 221 k4 (x1)))) (am_up1 (zS L)) fun h5 => some (.inl none, (zS L, (am_up h5 212 16 (am_w (h5 212 16 + 1)))))
theorem q_7_38_13' (d L : Nat) (h : am_H) (x1 : Int) (u2 : Option am_V) : am_E (am_D d) m_7_38 (.inl 13) [some (am_r (am_a 212)), some (am_i x1), u2] [] (zS L, h) = am_xI (zS L) (am_D d 7 4 [am_r (am_a 212), am_i 41] (zS L, h)) (am_up1 (zS L)) fun v2 h1 => if (v2 : Int) = 0 then if (0 : Int) < x1 then am_xV (zS L) (am_D d 7 11 [am_r (am_a 212), am_i 44] (zS L, h1)) (am_up1 (zS L)) fun h9 => am_xI (zS L) (am_D d 7 36 [am_r (am_a 212)] (zS L, h9)) (am_up1 (zS L)) fun v11 h10 => am_xV (zS L) (am_D d 7 37 [am_r (am_a 212), am_i 1, am_i v11, am_i x1] (zS L, h10)) (am_up1 (zS L)) fun h12 => am_E (am_D d) m_7_38 (.inl 13) [some (am_r (am_a 212)), some (am_i (am_w (x1 + 1))), some (am_i v11)] [] (zS L, h12) else am_xI (zS L) (am_D d 7 36 [am_r (am_a 212)] (zS L, h1)) (am_up1 (zS L)) fun v7 h6 => am_xV (zS L) (am_D d 7 37 [am_r (am_a 212), am_i 1, am_i v7, am_i x1] (zS L, h6)) (am_up1 (zS L)) fun h8 => am_E (am_D d) m_7_38 (.inl 13) [some (am_r (am_a 212)), some (am_i (am_w (x1 + 1))), some (am_i v7)] [] (zS L, h8) else am_xV (zS L) (am_D d 7 10 [am_r (am_a 212)] (zS L, h1)) (am_up1 (zS L)) fun h3 => pc_k38 d L x1 h3 := q_7_38_13 d L h x1 u2
theorem ce_h_s2 (g g2 : am_H) (q : Int × Int × Int × Int × Int × List (Int × Int × Int × Int)) (r : gx_R am_H) : ce_h (g, q) r = ce_h (g2, q) r := rfl
section
variable (w sy : Bool)
/-- the end of a sub, in code -/
def ce_e49 (g : am_H) : gx_R am_H := gx_b (ce_vm w 0 0 0 g) fun g => gx_b (ce_vm w 16 0 0 g) fun g => gx_b (ce_li w sy 0 0 0 g) fun g => ce_li w sy 16 0 0 g
theorem ce_e49_sm (g : am_H) : gx_P (ce_e49 w sy g) (ce_same g) := gx_P_same (ce_vm_sm g) fun g1 => gx_P_same (ce_vm_sm g1) fun g2 => gx_P_same (ce_li_sm g2) fun g3 => ce_li_sm g3
theorem ce_e49_eq (K V P : Nat → Int) (s : ce_S) : ce w sy K V P (49, 0, 0, 0) s = gx_b (ce_h s (ce_e49 w sy s.1)) fun s1 => ce_h s1 (ce_q (s1.1 212 16 < 1000) (.inr (am_up s1.1 212 16 (s1.1 212 16 + 1)))) := by
  rw [← ce_h_b s _ (fun g => ce_q (g 212 16 < 1000) (.inr (am_up g 212 16 (g 212 16 + 1))))]
  show ce_h s (gx_b (ce_vm w 0 0 0 s.1) fun g => gx_b (ce_vm w 16 0 0 g) fun g => gx_b (ce_li w sy 0 0 0 g) fun g => gx_b (ce_li w sy 16 0 0 g) fun g => ce_q (g 212 16 < 1000) (.inr (am_up g 212 16 (g 212 16 + 1)))) = _
  unfold ce_e49
  simp only [gx_b_assoc]
end
section
variable (K V P : Nat → Int) (sy w : Bool) (Z : Nat) (g0 : am_H) (L : Nat)
/-- how the body of a sub ends -/
def pc_postb (g1 : am_H) (a : Nat × Nat × ce_S) (D : Option am_O) : Prop := ∃ h1, D = pV L h1 ∧ (pc_N K V P sy w Z g0 a.1 1 a.2.1 a.2.2.1 h1 ∧ a.2.2.1 212 = g1 212)
end
section
variable {K V P : Nat → Int} {sy w : Bool} {Z : Nat} {g0 : am_H} {i st : Nat} {g h : am_H} (d L : Nat) {G : Nat}
/-- the statements of a sub, and its end -/
theorem pn_sts1 (HS : pc_HS K V P sy w Z g0 L G G) (hd : pc_ds 2 ≤ d + 5) (g1 : am_H) (q : Int × Int × Int × Int × Int × List (Int × Int × Int × Int)) (u1 u2 : Option am_V) (N : pc_N K V P sy w Z g0 i 2 st g h) (e1 : g 212 = g1 212) :
    pc_o L (am_xV (zS L) (am_D (d + 6) 7 40 [am_r (am_a 212)] (zS L, h)) (am_up1 (zS L)) fun h6 => am_xI (zS L) (am_D (d + 6) 7 4 [am_r (am_a 212), am_i 125] (zS L, h6)) (am_up1 (zS L)) fun v8 h7 => am_xV (zS L) (am_D (d + 6) 7 7 [am_r (am_a 212), am_i v8] (zS L, h7)) (am_up1 (zS L)) fun h9 => am_E (am_D (d + 6)) m_7_39 (.inl 7) [some (am_r (am_a 212)), u1, u2] [] (zS L, h9)) g0
      (gx_b (gs sy K V P (ce w sy K V P) G G 0 2 st i (g, q)) fun r4 => gx_b (gx_sign sy K V P 125 r4.1) fun j5 => gx_b (ce_h r4.2.2 (ce_e49 w sy r4.2.2.1)) fun s4 => .inr (j5, r4.2.1, s4)) (pc_postb K V P sy w Z g0 L g1) := by
  have hS : pc_o L (am_D (d + 6) 7 40 [am_r (am_a 212)] (zS L, h)) g0 (gs sy K V P (ce w sy K V P) G G 0 2 st i (g, q)) (pc_post2 K V P sy w Z g0 L 2 q) := by
    rw [D_7_40]; exact HS (d + 5) 2 st i g h q hd N
  refine pc_bV (Po := fun (a : Nat × Nat × ce_S) (h1 : am_H) => pc_N K V P sy w Z g0 a.1 2 a.2.1 a.2.2.1 h1 ∧ a.2.2.2 = q) hS ?_
  rintro ⟨a1, a2, g2, q2⟩ h2 er ⟨N2, eq⟩
  have eq : q2 = q := eq
  subst eq
  have N2 : pc_N K V P sy w Z g0 a1 2 a2 g2 h2 := N2
  have sm : ce_same g g2 := gs_same G G 0 2 st i (g, q2) _ er
  simp only [q_7_39_7]
  refine pn_close (d + 3) L N2 125 (by omega) (fun j3 h3 N3 => ?_)
  unfold ce_e49
  refine pn_evb L N3 (em_push (d + 3) L N3.R _ _) (fun g4 h4 e4 N4 => ?_)
  refine pn_evb L N4 (em_op (d + 3) L N4.R (by omega)) (fun g5 h5 e5 N5 => ?_)
  refine pn_evb L N5 (em_li (d + 4) L N5.R (by omega) _ _) (fun g6 h6 e6 N6 => ?_)
  refine pn_ev L N6 (em_li (d + 4) L N6.R (by omega) _ _) (fun g7 h7 e7 N7 => ⟨h7, rfl, N7, ?_⟩)
  exact (((((ce_vm_same e4).trans (ce_vm_same e5)).trans (ce_li_same e6)).trans (ce_li_same e7)) 212 (by simp)).trans ((sm 212 (by simp)).trans e1)
/-- behind the vars of a sub -/
theorem pn_k39 (HS : pc_HS K V P sy w Z g0 L G G) (hd : pc_ds 2 ≤ d + 5) (g1 : am_H) {t a b c : Int} {n : Nat} {l : List (Int × Int × Int × Int)} (u2 : Option am_V) (N : pc_N K V P sy w Z g0 i 2 st g h) (e1 : g 212 = g1 212) :
    pc_o L (pc_k39 (d + 6) L n u2 h) g0 (gx_b (ce w sy K V P (48, 0, 0, 0) (g, t, a, b, c, (n : Int), l)) fun s3 => gx_b (gs sy K V P (ce w sy K V P) G G 0 2 st i s3) fun r4 => gx_b (gx_sign sy K V P 125 r4.1) fun j5 => gx_b (ce_h r4.2.2 (ce_e49 w sy r4.2.2.1)) fun s4 => .inr (j5, r4.2.1, s4)) (pc_postb K V P sy w Z g0 L g1) := by
  unfold pc_k39
  show pc_o L _ g0 (gx_b (ce_h (g, t, a, b, c, (n : Int), l) (ce_func w sy (g, t, a, b, c, (n : Int), l))) _) _
  unfold ce_func
  refine pn_q L (fun hq => ?_)
  dsimp only at hq
  dsimp only
  rw [N.R.eq 212 16 rfl]
  refine pn_evb L N (em_vm (d + 4) L N.R (by omega) _ _) (fun g2 h2 e2 N2 => ?_)
  have s2 := ce_vm_same e2
  have e216 : g2 212 16 = g 212 16 := by rw [s2 212 (by simp)]
  rw [N2.R.eq 212 16 rfl, e216, p_idx hq.1 (by omega), N2.R.cell 222 rfl]
  refine pn_evb L N2 (em_li (d + 4) L N2.R (by omega) _ _) (fun g3 h3 e3 N3 => ?_)
  have s3 := s2.trans (ce_li_same e3)
  have N4 : pc_N K V P sy w Z g0 i 2 st (am_up g3 235 4 0) (am_up h3 235 4 0) := by
    refine N3.up 235 4 0 rfl rfl rfl (by omega) (by omega) ?_
    have o := N3.R.ok
    unfold ce_ok at o ⊢
    rw [p_up_c _ _ _ _ 8 (by decide), p_up_c _ _ _ _ 213 (by decide), p_up_c _ _ _ _ 217 (by decide), p_up_c _ _ _ _ 223 (by decide), p_up_c _ _ _ _ 229 (by decide), p_up_n _ _ _ _ 235 3 (Or.inr (by decide)), p_up_s]
    exact ⟨o.1, o.2.1, o.2.2.1, by omega, o.2.2.2.2.1, o.2.2.2.2.2.1, o.2.2.2.2.2.2.1, o.2.2.2.2.2.2.2⟩
  have c4 : am_up g3 235 4 0 212 = g3 212 := p_up_c _ _ _ _ _ (by decide)
  have s4 : ce_same g (am_up g3 235 4 0) := s3.trans (fun a ha => p_up_c _ _ _ _ _ (by omega))
  rw [N3.R.eq 212 14 rfl, c4, ce_h_s2 g3 (am_up g3 235 4 0)]
  by_cases k3 : g3 212 14 = 3
  · simp only [if_pos k3]
    refine pn_evb L N4 (em_push (d + 3) L N4.R _ _) (fun g5 h5 e5 N5 => ?_)
    refine pn_evb L N5 (em_pop (d + 3) L N5.R _ _) (fun g6 h6 e6 N6 => ?_)
    refine pn_evb L N6 (em_li (d + 4) L N6.R (by omega) _ _) (fun g7 h7 e7 N7 => ?_)
    refine pn_ev L N7 (em_li (d + 4) L N7.R (by omega) _ _) (fun g8 h8 e8 N8 => ?_)
    exact pn_sts1 d L HS hd g1 _ _ _ N8 ((((((s4.trans (ce_vm_same e5)).trans (ce_vm_same e6)).trans (ce_li_same e7)).trans (ce_li_same e8)) 212 (by simp)).trans e1)
  · simp only [if_neg k3]
    by_cases k1 : g3 212 14 = 1
    · simp only [if_pos k1]
      have e213 : g3 212 13 = g 212 13 := by rw [s3 212 (by simp)]
      rw [N3.R.eq 212 13 rfl, e213, p_idx hq.2.2.1 (by omega), N3.R.cell 216 rfl, p_up_c _ _ _ _ 216 (by decide)]
      refine pn_evb L N4 (em_push (d + 3) L N4.R _ _) (fun g5 h5 e5 N5 => ?_)
      have s5 := s4.trans (ce_vm_same e5)
      rw [N5.R.eq 212 28 rfl, fi_cls (d + 5) L _ N5.R.okh.2.2.2.2.1, p_xI, N5.R.cls, N5.R.eq 212 29 rfl]
      refine pn_evb L N5 (em_call (d + 4) L N5.R _ _ _) (fun g6 h6 e6 N6 => ?_)
      have s6 := s5.trans (ce_call_same g6 e6)
      refine pn_evb L N6 (em_pop (d + 3) L N6.R _ _) (fun g7 h7 e7 N7 => ?_)
      have s7 := s6.trans (ce_vm_same e7)
      have e713 : g7 212 13 = g 212 13 := by rw [s7 212 (by simp)]
      rw [N7.R.eq 212 13 rfl, e713, p_idx hq.2.2.1 (by omega), N7.R.cell 216 rfl]
      refine pn_evb L N7 (em_li (d + 4) L N7.R (by omega) _ _) (fun g8 h8 e8 N8 => ?_)
      have s8 := s7.trans (ce_li_same e8)
      rw [N8.R.eq 212 28 rfl, fi_cls (d + 5) L _ N8.R.okh.2.2.2.2.1, p_xI, N8.R.cls, N8.R.eq 212 29 rfl]
      refine pn_evb L N8 (em_tcall (d + 4) L N8.R _ _ _) (fun g9 h9 e9 N9 => ?_)
      have s9 := s8.trans (ce_tcall_same g9 e9)
      refine pn_ev L N9 (em_li (d + 4) L N9.R (by omega) _ _) (fun g10 h10 e10 N10 => ?_)
      exact pn_sts1 d L HS hd g1 _ _ _ N10 (((s9.trans (ce_li_same e10)) 212 (by simp)).trans e1)
    · simp only [if_neg k1]
      show pc_o L _ g0 (gx_b (gs sy K V P (ce w sy K V P) G G 0 2 st i (am_up g3 235 4 0, t, a, b, c, (n : Int), l)) _) _
      exact pn_sts1 d L HS hd g1 _ _ _ N4 ((s4 212 (by simp)).trans e1)
/-- body() -/
theorem pn_body (HS : pc_HS K V P sy w Z g0 L G G) (hd : pc_ds 2 ≤ d + 5) (hG : G ≤ 20000) (g1 : am_H) {t a b c : Int} {l : List (Int × Int × Int × Int)} (N : pc_N K V P sy w Z g0 i 1 st g h) (e1 : g 212 = g1 212) :
    pc_o L (am_D (d + 7) 7 39 [am_r (am_a 212)] (zS L, h)) g0 (gx_b (gx_opens sy K V P 123 1 i) fun j4 => gx_b (gp_locs sy K V P (ce w sy K V P) G G j4 0 (g, t, a, b, c, 0, l)) fun r3 => gx_b (ce w sy K V P (48, 0, 0, 0) r3.2) fun s3 => gx_b (gs sy K V P (ce w sy K V P) G G 0 2 st r3.1 s3) fun r4 => gx_b (gx_sign sy K V P 125 r4.1) fun j5 => gx_b (ce_h r4.2.2 (ce_e49 w sy r4.2.2.1)) fun s4 => .inr (j5, r4.2.1, s4)) (pc_postb K V P sy w Z g0 L g1) := by
  rw [D_7_39]
  refine pn_opens (d + 3) L N 123 (fun j h2 _ N2 => ?_)
  have hGG : G * G ≤ 20000 * 20000 := Nat.mul_le_mul hG hG
  have t := pn_locs d L (F := fun r3 : Nat × ce_S => gx_b (ce w sy K V P (48, 0, 0, 0) r3.2) fun s3 => gx_b (gs sy K V P (ce w sy K V P) G G 0 2 st r3.1 s3) fun r4 => gx_b (gx_sign sy K V P 125 r4.1) fun j5 => gx_b (ce_h r4.2.2 (ce_e49 w sy r4.2.2.1)) fun s4 => .inr (j5, r4.2.1, s4)) (ok := pc_postb K V P sy w Z g0 L g1) (a := a) (b := b) (c := c) (l := l) (k := pc_k39 (d + 6) L) (G := G) g (fun h x1 u2 => q_7_39_1' (d + 6) L h x1 u2)
    (fun j n t g3 h3 u2 N3 hv _ => pn_k39 d L HS hd g1 u2 N3 ((hv 212 (by omega)).trans e1)) G j 0 t g h2 none N2 (ce_vv.refl g) (by omega)
  exact t
end
