/-! PURE LAYER, 25: each kind of statement -/
section
variable {K V P : Nat → Int} {sy w : Bool} {Z : Nat} {g0 : am_H} {i deep st : Nat} {g h : am_H} (d L : Nat) {G : Nat}
/-- let -/
theorem pn_let (HT : pc_HT K V P sy w Z g0 L G) (H1 : pc_H1 K V P sy w Z g0 L G) (q : Int × Int × Int × Int × Int × List (Int × Int × Int × Int)) (hd : pc_dn deep ≤ d) (N : pc_N K V P sy w Z g0 i deep st g h) :
    pc_o L (am_D (d + 3) 7 43 [am_r (am_a 212)] (zS L, h)) g0 (ge_let sy K V P (ce w sy K V P) G deep st i (g, q)) (pc_post2 K V P sy w Z g0 L deep q) := by
  obtain ⟨d0, rfl⟩ : ∃ d0, d = d0 + 10 := ⟨d - 10, by unfold pc_dn at hd; omega⟩
  have hd1 : deep < 25 → pc_dn (deep + 1) ≤ d0 + 2 := by intro z; unfold pc_dn at *; omega
  rw [D_7_43, pc_here (d0 + 11) L N.R N.lt, p_xI]
  unfold ge_let
  refine pn_name (d0 + 8) L N (fun j h1 hK ej N1 => ?_)
  subst ej
  rw [pc_isSign (d0 + 10) L N1.R N1.lt, p_xI]
  simp only [pB_0]
  by_cases s91 : gx_sg K V 91 (i + 1)
  · rw [if_neg (fun z => z s91), if_pos s91, pB_t s91]
    have e : (gx_b (ce w sy K V P (6, (i : Int), 0, 0) (g, q)) fun s1 => gx_b (gx_open sy K P deep (i + 1)) fun j1 => gx_b (ge_e sy K V P (ce w sy K V P) G (deep + 1) st j1 s1) fun r => gx_b (gx_sign sy K V P 93 r.1) fun j2 => gx_b (ce w sy K V P (8, 43, 0, 0) r.2.2.1) fun s2 => gx_b (gx_sign sy K V P 61 j2) fun j3 => gx_b (ge_e sy K V P (ce w sy K V P) G deep r.2.1 j3 s2) fun r2 => gx_b (gx_sign sy K V P 59 r2.1) fun j4 => gx_b (ce w sy K V P (23, 0, 0, 0) r2.2.2.1) fun s3 => (.inr (j4, r2.2.1, s3) : gx_R (Nat × Nat × ce_S))) =
        gx_b (gx_b (ce w sy K V P (6, (i : Int), 0, 0) (g, q)) fun s1 => gx_b (gx_open sy K P deep (i + 1)) fun j1 => gx_b (ge sy K V P (ce w sy K V P) G 0 (deep + 1) st j1 s1) fun r1 => gx_b (ge sy K V P (ce w sy K V P) G 1 (deep + 1) r1.2.1 r1.1 r1.2.2.1) fun r2 => gx_b (gx_sign sy K V P 93 r2.1) fun j2 => gx_b (ce_h r2.2.2.1 (ce_both w sy 2 2 r2.2.2.1.1)) fun s2 => (.inr (j2, r2.2.1, s2, 0) : gx_R (Nat × Nat × ce_S × Nat))) fun r => gx_b (gx_sign sy K V P 61 r.1) fun j3 => gx_b (ge_e sy K V P (ce w sy K V P) G deep r.2.1 j3 r.2.2.1) fun r2 => gx_b (gx_sign sy K V P 59 r2.1) fun j4 => gx_b (ce w sy K V P (23, 0, 0, 0) r2.2.2.1) fun s3 => .inr (j4, r2.2.1, s3) := by
      have e8 : ∀ s : ce_S, ce w sy K V P (8, 43, 0, 0) s = ce_h s (ce_both w sy 2 2 s.1) := fun s => rfl
      unfold ge_e
      simp only [gx_b_assoc, gx_b_inr, e8]
    rw [e]
    refine pc_then L (pn_index L HT H1 (d0 + 7) deep st i (i + 1) g h1 q (by intro z; have := hd1 z; omega) N1 s91) (fun i2 st2 g2 n2 h2 N2 => ?_)
    rw [q_7_43_5]
    refine pn_sign (d0 + 8) L N2 61 (fun j3 h3 N3 => ?_)
    refine pn_e2 (d0 + 10) L HT H1 hd N3 (fun i4 st4 g4 n4 h4 _ N4 => ?_)
    refine pn_sign (d0 + 8) L N4 59 (fun j5 h5 N5 => ?_)
    rw [if_neg (by decide)]
    show pc_o L _ g0 (gx_b (ce_h (g4, q) (gx_b (ce_vm w 1 5 0 g4) fun g => gx_b (ce_set w g) fun g => gx_b (ce_li w sy 1 7 0 g) fun g => gx_b (ce_li w sy 1 6 1 g) fun g => gx_b (ce_li w sy 0 7 0 g) (ce_li w sy 1 5 0))) _) _
    refine pn_evb L N5 (em_pop (d0 + 9) L N5.R _ _) (fun g6 h6 _ N6 => ?_)
    refine pn_evb L N6 (em_set (d0 + 9) L N6.R) (fun g7 h7 _ N7 => ?_)
    refine pn_evb L N7 (em_li (d0 + 10) L N7.R (by omega) _ _) (fun g8 h8 _ N8 => ?_)
    refine pn_evb L N8 (em_li (d0 + 10) L N8.R (by omega) _ _) (fun g9 h9 _ N9 => ?_)
    refine pn_evb L N9 (em_li (d0 + 10) L N9.R (by omega) _ _) (fun g10 h10 _ N10 => ?_)
    exact pn_ev L N10 (em_li (d0 + 10) L N10.R (by omega) _ _) (fun g11 h11 _ N11 => ⟨h11, rfl, N11, rfl⟩)
  · rw [if_pos s91, if_neg s91, pB_f s91, vr_is (d0 + 10) L N1.R, p_xI]
    show pc_o L _ g0 (gx_b (ce_h (g, q) (ce_q (ce_nm g (V ((i : Int)).toNat)) (ce_chk w (ce_var g (V ((i : Int)).toNat)) (4, P ((i : Int)).toNat) (ce_chk w (g 212 14 ≠ 2 ∨ ce_kd g (V ((i : Int)).toNat) ≠ 4) (6, P ((i : Int)).toNat) (.inr g))))) _) _
    rw [Int.toNat_natCast]
    refine pn_q L (fun hq => ?_)
    refine pn_chk (d0 + 10) L N1 _ _ (fun hv => ?_)
    rw [N1.wr, N1.R.eq 212 14 rfl]
    simp only [pB_0]
    have fin : pc_o L (am_E (am_D (d0 + 12)) m_7_43 (.inl 5) [some (am_r (am_a 212)), some (am_i (P i)), some (am_i (V i)), some (am_i 0)] [] (zS L, h1)) g0 (gx_b (gx_sign sy K V P 61 (i + 1)) fun j3 => gx_b (ge_e sy K V P (ce w sy K V P) G deep st j3 (g, q)) fun r2 => gx_b (gx_sign sy K V P 59 r2.1) fun j4 => gx_b (ce w sy K V P (22, (i : Int), 0, 0) r2.2.2.1) fun s3 => .inr (j4, r2.2.1, s3)) (pc_post2 K V P sy w Z g0 L deep q) := by
      rw [q_7_43_5]
      refine pn_sign (d0 + 8) L N1 61 (fun j3 h3 N3 => ?_)
      refine pn_e2 (d0 + 10) L HT H1 hd N3 (fun i4 st4 g4 n4 h4 sm N4 => ?_)
      refine pn_sign (d0 + 8) L N4 59 (fun j5 h5 N5 => ?_)
      rw [if_pos rfl]
      show pc_o L _ g0 (gx_b (ce_h (g4, q) (gx_b (ce_store w (V ((i : Int)).toNat) g4) (ce_tvar w sy 1 (V ((i : Int)).toNat)))) _) _
      rw [Int.toNat_natCast]
      have hv4 : w = true → ce_var g4 (V i) := fun z => (sm.var _).mpr (hv z)
      refine pn_evb L N5 (em_store (d0 + 8) L N5.R _ hv4) (fun g6 h6 e6 N6 => ?_)
      have sm6 : ce_same g4 g6 := by
        have : gx_P (ce_store w (V i) g4) (ce_same g4) := by
          unfold ce_store
          split
          · exact gx_P_i (ce_same.refl g4)
          · split
            · exact gx_P_same (ce_vm_sm g4) fun g1 => gx_P_same (ce_vm_sm g1) fun g2 => ce_set_sm g2
            · exact ce_vm_sm g4
        exact this g6 e6
      exact pn_ev L N6 (em_tvar (d0 + 10) L N6.R (by omega) _ (fun z => (sm6.var _).mpr (hv4 z))) (fun g7 h7 _ N7 => ⟨h7, rfl, N7, rfl⟩)
    have chk : ∀ (p : Prop) [Decidable p], (w = true → (p ↔ (g 212 14 ≠ 2 ∨ ce_kd g (V i) ≠ 4))) → ∀ s0 : Int, s0 = pB p → (¬ w = true → p) → pc_o L (am_xV (zS L) (am_D (d0 + 12) 7 9 [am_r (am_a 212), am_i s0, am_i 6, am_i (P i)] (zS L, h1)) (am_up1 (zS L)) fun h10 => am_E (am_D (d0 + 12)) m_7_43 (.inl 5) [some (am_r (am_a 212)), some (am_i (P i)), some (am_i (V i)), some (am_i 0)] [] (zS L, h10)) g0 (gx_b (ce_h (g, q) (ce_chk w (g 212 14 ≠ 2 ∨ ce_kd g (V i) ≠ 4) (6, P i) (.inr g))) fun s1 => gx_b (gx_sign sy K V P 61 (i + 1)) fun j3 => gx_b (ge_e sy K V P (ce w sy K V P) G deep st j3 s1) fun r2 => gx_b (gx_sign sy K V P 59 r2.1) fun j4 => gx_b (ce w sy K V P (22, (i : Int), 0, 0) r2.2.2.1) fun s3 => .inr (j4, r2.2.1, s3)) (pc_post2 K V P sy w Z g0 L deep q) := by
      intro p _ hp s0 es hw
      have ec : ce_chk w (g 212 14 ≠ 2 ∨ ce_kd g (V i) ≠ 4) (6, P i) (.inr g : gx_R am_H) = ce_chk w p (6, P i) (.inr g) := by
        unfold ce_chk
        by_cases c : w = true
        · simp only [c, true_and, hp c]
        · rw [if_neg (fun z => c z.1), if_neg (fun z => c z.1)]
      rw [ec, es]
      exact pn_chk (d0 + 10) L N1 _ _ (fun _ => fin)
    by_cases hw : w = true
    · rw [if_neg (fun z => z hw)]
      by_cases c : g 212 14 = 2
      · rw [if_pos c, vr_kd (d0 + 10) L N1.R _ (hv hw), p_xI]
        by_cases c2 : ce_kd g (V i) = 4
        · rw [if_pos c2]; exact chk False (fun _ => by simp [c, c2]) 0 (by rw [pB_f (by simp)]) (fun z => absurd hw z)
        · rw [if_neg c2]; exact chk True (fun _ => by simp [c, c2]) 1 (by rw [pB_t trivial]) (fun z => absurd hw z)
      · rw [if_neg c]; exact chk True (fun _ => by simp [c]) 1 (by rw [pB_t trivial]) (fun z => absurd hw z)
    · rw [if_pos hw]; exact chk True (fun z => absurd z hw) 1 (by rw [pB_t trivial]) (fun _ => trivial)
/-- return: behind the word -/
theorem pn_ret (HT : pc_HT K V P sy w Z g0 L G) (H1 : pc_H1 K V P sy w Z g0 L G) (q : Int × Int × Int × Int × Int × List (Int × Int × Int × Int)) (u1 u2 u3 u4 : Option am_V) (hd : pc_dn deep ≤ d) (N : pc_N K V P sy w Z g0 i deep st g h) :
    pc_o L (am_E (am_D (d + 2)) m_7_42 (.inl 8) [some (am_r (am_a 212)), u1, u2, u3, u4] [] (zS L, h)) g0 (ge_ret sy K V P (ce w sy K V P) G deep st i (g, q)) (pc_post2 K V P sy w Z g0 L deep q) := by
  obtain ⟨d0, rfl⟩ : ∃ d0, d = d0 + 10 := ⟨d - 10, by unfold pc_dn at hd; omega⟩
  have fin : ∀ (st i : Nat) (g h : am_H), pc_N K V P sy w Z g0 i deep st g h → pc_o L (am_E (am_D (d0 + 12)) m_7_42 (.inl 10) [some (am_r (am_a 212)), u1, u2, u3, u4] [] (zS L, h)) g0 (gx_b (gx_sign sy K V P 59 i) fun j => gx_b (ce w sy K V P (33, 0, 0, 0) (g, q)) fun s2 => .inr (j, st, s2)) (pc_post2 K V P sy w Z g0 L deep q) := by
    intro st i g h N
    rw [q_7_42_10]
    refine pn_sign (d0 + 8) L N 59 (fun j h1 N1 => ?_)
    show pc_o L _ g0 (gx_b (ce_h (g, q) (gx_b (ce_vm w 16 0 0 g) (ce_li w sy 16 0 0))) _) _
    refine pn_evb L N1 (em_op (d0 + 9) L N1.R (by omega)) (fun g2 h2 _ N2 => ?_)
    exact pn_ev L N2 (em_li (d0 + 10) L N2.R (by omega) _ _) (fun g3 h3 _ N3 => ⟨h3, rfl, N3, rfl⟩)
  unfold ge_ret
  rw [q_7_42_8, pc_isSign (d0 + 10) L N.R N.lt, p_xI]
  simp only [pB_0]
  by_cases c : gx_sg K V 59 i
  · rw [if_neg (fun z => z c), if_pos c]
    show pc_o L _ g0 (gx_b (ce_h (g, q) (gx_b (ce_vm w 0 0 0 g) (ce_li w sy 0 0 0))) _) _
    refine pn_evb L N (em_push (d0 + 9) L N.R _ _) (fun g2 h2 _ N2 => ?_)
    exact pn_ev L N2 (em_li (d0 + 10) L N2.R (by omega) _ _) (fun g3 h3 _ N3 => fin st i g3 h3 N3)
  · rw [if_pos c, if_neg c]
    exact pn_e2 (d0 + 10) L HT H1 hd N (fun i4 st4 g4 n4 h4 _ N4 => fin st4 i4 g4 h4 N4)
/-- if: behind the word -/
theorem pn_if (HT : pc_HT K V P sy w Z g0 L G) (H1 : pc_H1 K V P sy w Z g0 L G) {f : Nat} (HS : pc_HS K V P sy w Z g0 L G f) (q : Int × Int × Int × Int × Int × List (Int × Int × Int × Int)) (hd : deep < 25 → pc_ds (deep + 1) ≤ d) (N : pc_N K V P sy w Z g0 i deep st g h) :
    pc_o L (am_D (d + 7) 7 49 [am_r (am_a 212)] (zS L, h)) g0 (gx_b (ce w sy K V P (24, 0, 0, 0) (g, q)) fun s2 => gx_b (ge_c sy K V P (ce w sy K V P) G deep st i s2) fun r => gx_b (ce w sy K V P (25, 0, 0, 0) r.2.2) fun s3 => gx_b (gx_opens sy K V P 123 deep r.1) fun j1 => gx_b (gs sy K V P (ce w sy K V P) G f 0 (deep + 1) r.2.1 j1 s3) fun r2 => gx_b (gx_sign sy K V P 125 r2.1) fun j2 =>
        if gx_wd K V 18 j2 then gx_b (ce w sy K V P (26, 0, 0, 0) r2.2.2) fun s4 => gx_b (gx_next sy K P j2) fun j3 => gx_b (gx_opens sy K V P 123 deep j3) fun j4 => gx_b (gs sy K V P (ce w sy K V P) G f 0 (deep + 1) r2.2.1 j4 s4) fun r3 => gx_b (gx_sign sy K V P 125 r3.1) fun j5 => gx_b (ce w sy K V P (28, 0, 0, 0) r3.2.2) fun s5 => .inr (j5, r3.2.1, s5)
        else gx_b (ce w sy K V P (27, 0, 0, 0) r2.2.2) fun s4 => .inr (j2, r2.2.1, s4)) (pc_post2 K V P sy w Z g0 L deep q) := by
  obtain ⟨t, a, b, c, e, l⟩ := q
  rw [D_7_49, ce_e24, gx_b_assoc]
  refine pn_told (d + 5) L N (fun r h1 hr1 hr2 N1 => ?_)
  rw [gx_b_inr]
  refine pn_cond2 (d + 2) L HT H1 (by intro z; have := hd z; unfold pc_ds pc_dn at *; omega) N1 (fun i2 st2 g2 h2 N2 => ?_)
  dsimp only
  rw [ce_e25]
  simp only [gx_b_assoc, gx_b_inr]
  refine pn_em L N2 (em_unless (d + 3) L N2.R _) (fun g3 h3 _ N3 => ?_)
  refine pn_lab (d + 4) L N3 (fun r4 h4 N4 => ?_)
  refine pn_lab (d + 4) L N4 (fun r5 h5 N5 => ?_)
  refine pn_em L N5 (em_vm (d + 4) L N5.R (by omega) _ _) (fun g6 h6 _ N6 => ?_)
  refine pn_em L N6 (em_vm (d + 4) L N6.R (by omega) _ _) (fun g7 h7 _ N7 => ?_)
  refine pn_em L N7 (em_vm (d + 4) L N7.R (by omega) _ _) (fun g8 h8 _ N8 => ?_)
  refine pn_block (d + 2) L HS (F := fun r2 j2 => if gx_wd K V 18 j2 then gx_b (ce w sy K V P (26, 0, 0, 0) r2.2.2) fun s4 => gx_b (gx_next sy K P j2) fun j3 => gx_b (gx_opens sy K V P 123 deep j3) fun j4 => gx_b (gs sy K V P (ce w sy K V P) G f 0 (deep + 1) r2.2.1 j4 s4) fun r3 => gx_b (gx_sign sy K V P 125 r3.1) fun j5 => gx_b (ce w sy K V P (28, 0, 0, 0) r3.2.2) fun s5 => .inr (j5, r3.2.1, s5)
        else gx_b (ce w sy K V P (27, 0, 0, 0) r2.2.2) fun s4 => .inr (j2, r2.2.1, s4)) (by intro z; have := hd z; omega) N8 (fun i9 j9 st9 g9 h9 N9 => ?_)
  rw [pc_isWord (d + 4) L N9.R N9.lt, p_xI]
  simp only [pB_0]
  by_cases c18 : gx_wd K V 18 j9
  · rw [if_neg (fun z => z c18), if_pos c18, ce_e26]
    simp only [gx_b_assoc, gx_b_inr]
    refine pn_lab (d + 4) L N9 (fun r10 h10 N10 => ?_)
    refine pn_em L N10 (em_vm (d + 4) L N10.R (by omega) _ _) (fun g11 h11 _ N11 => ?_)
    refine pn_em L N11 (em_vm (d + 4) L N11.R (by omega) _ _) (fun g12 h12 _ N12 => ?_)
    rw [p_w (by omega) (by omega)]
    refine pn_em L N12 (em_li (d + 4) L N12.R (by omega) _ _) (fun g13 h13 _ N13 => ?_)
    refine pn_em L N13 (em_li (d + 4) L N13.R (by omega) _ _) (fun g14 h14 _ N14 => ?_)
    refine pn_next (d + 3) L N14 ⟨by rw [c18.1]; decide, by rw [c18.1]; decide⟩ (fun j15 h15 _ N15 => ?_)
    refine pn_block (d + 2) L HS (F := fun r3 j5 => gx_b (ce w sy K V P (28, 0, 0, 0) r3.2.2) fun s5 => .inr (j5, r3.2.1, s5)) (by intro z; have := hd z; omega) N15 (fun i16 j16 st16 g16 h16 N16 => ?_)
    rw [ce_e28]
    simp only [gx_b_assoc, gx_b_inr]
    refine pn_em L N16 (em_vm (d + 4) L N16.R (by omega) _ _) (fun g17 h17 _ N17 => ?_)
    exact pn_em L N17 (em_li (d + 4) L N17.R (by omega) _ _) (fun g18 h18 _ N18 => ⟨h18, rfl, N18, rfl⟩)
  · rw [if_pos c18, if_neg c18, ce_e27]
    simp only [gx_b_assoc, gx_b_inr]
    refine pn_em L N9 (em_vm (d + 4) L N9.R (by omega) _ _) (fun g17 h17 _ N17 => ?_)
    exact pn_em L N17 (em_li (d + 4) L N17.R (by omega) _ _) (fun g18 h18 _ N18 => ⟨h18, rfl, N18, rfl⟩)
/-- while: behind the word; it stood at i0 -/
theorem pn_while (HT : pc_HT K V P sy w Z g0 L G) (H1 : pc_H1 K V P sy w Z g0 L G) {f i0 : Nat} (HS : pc_HS K V P sy w Z g0 L G f) (q : Int × Int × Int × Int × Int × List (Int × Int × Int × Int)) (hd : deep < 25 → pc_ds (deep + 1) ≤ d) (N : pc_N K V P sy w Z g0 i deep st g h) :
    pc_o L (am_D (d + 7) 7 50 [am_r (am_a 212), am_i (P i0)] (zS L, h)) g0 (gx_b (ce w sy K V P (30, (i0 : Int), 0, 0) (g, q)) fun s2 => gx_b (ge_c sy K V P (ce w sy K V P) G deep st i s2) fun r => gx_b (ce w sy K V P (31, 0, 0, 0) r.2.2) fun s3 => gx_b (gx_opens sy K V P 123 deep r.1) fun j1 => gx_b (gs sy K V P (ce w sy K V P) G f 0 (deep + 1) r.2.1 j1 s3) fun r2 => gx_b (gx_sign sy K V P 125 r2.1) fun j2 => gx_b (ce w sy K V P (32, 0, 0, 0) r2.2.2) fun s4 => .inr (j2, r2.2.1, s4)) (pc_post2 K V P sy w Z g0 L deep q) := by
  obtain ⟨t, a, b, c, e, l⟩ := q
  rw [D_7_50, ce_e30]
  simp only [gx_b_assoc, gx_b_inr]
  refine pn_lab (d + 4) L N (fun r1 h1 N1 => ?_)
  refine pn_lab (d + 4) L N1 (fun r2 h2 N2 => ?_)
  refine pn_told (d + 5) L N2 (fun r3 h3 hr1 hr2 N3 => ?_)
  refine pn_em L N3 (em_vm (d + 4) L N3.R (by omega) _ _) (fun g4 h4 _ N4 => ?_)
  refine pn_em L N4 (em_li (d + 4) L N4.R (by omega) _ _) (fun g5 h5 _ N5 => ?_)
  refine pn_em L N5 (em_step (d + 3) L N5.R _) (fun g6 h6 _ N6 => ?_)
  refine pn_cond2 (d + 2) L HT H1 (by intro z; have := hd z; unfold pc_ds pc_dn at *; omega) N6 (fun i7 st7 g7 h7 N7 => ?_)
  dsimp only
  rw [ce_e31, p_w (by omega) (by omega)]
  simp only [gx_b_assoc, gx_b_inr]
  refine pn_em L N7 (em_unless (d + 3) L N7.R _) (fun g8 h8 _ N8 => ?_)
  refine pn_lab (d + 4) L N8 (fun r9 h9 N9 => ?_)
  refine pn_em L N9 (em_vm (d + 4) L N9.R (by omega) _ _) (fun g10 h10 _ N10 => ?_)
  refine pn_em L N10 (em_vm (d + 4) L N10.R (by omega) _ _) (fun g11 h11 _ N11 => ?_)
  refine pn_em L N11 (em_vm (d + 4) L N11.R (by omega) _ _) (fun g12 h12 _ N12 => ?_)
  refine pn_block (d + 2) L HS (F := fun r2 j2 => gx_b (ce w sy K V P (32, 0, 0, 0) r2.2.2) fun s4 => .inr (j2, r2.2.1, s4)) (by intro z; have := hd z; omega) N12 (fun i13 j13 st13 g13 h13 N13 => ?_)
  rw [ce_e32]
  simp only [gx_b_assoc, gx_b_inr]
  refine pn_em L N13 (em_vm (d + 4) L N13.R (by omega) _ _) (fun g14 h14 _ N14 => ?_)
  refine pn_em L N14 (em_vm (d + 4) L N14.R (by omega) _ _) (fun g15 h15 _ N15 => ?_)
  rw [q_7_50_1, p_w (by omega) (by omega)]
  refine pn_em L N15 (em_li (d + 4) L N15.R (by omega) _ _) (fun g16 h16 _ N16 => ?_)
  exact pn_em L N16 (em_li (d + 4) L N16.R (by omega) _ _) (fun g17 h17 _ N17 => ⟨h17, rfl, N17, rfl⟩)
end
section
variable {K V P : Nat → Int} {sy w : Bool} {Z : Nat} {g0 : am_H} {i deep st : Nat} {g h : am_H} (d L : Nat) {G : Nat}
/-- do: behind the word -/
theorem pn_do (hG : G ≤ 1000000) (H2 : pc_H2 K V P sy w Z g0 L G) (q : Int × Int × Int × Int × Int × List (Int × Int × Int × Int)) (u1 u2 : Option am_V) (hd : deep < 25 → pc_dn (deep + 1) ≤ d) (N : pc_N K V P sy w Z g0 i deep st g h) :
    pc_o L (am_xI (zS L) (am_D (d + 5) 7 3 [am_r (am_a 212)] (zS L, h)) (am_up1 (zS L)) fun v9 h8 => am_xI (zS L) (am_D (d + 5) 7 12 [am_r (am_a 212)] (zS L, h8)) (am_up1 (zS L)) fun v11 h10 => am_xI (zS L) (am_D (d + 5) 7 4 [am_r (am_a 212), am_i 40] (zS L, h10)) (am_up1 (zS L)) fun v13 h12 => if (v13 : Int) = 0 then am_xI (zS L) (am_D (d + 5) 7 4 [am_r (am_a 212), am_i 46] (zS L, h12)) (am_up1 (zS L)) fun v15 h14 => if (v15 : Int) = 0 then am_E (am_D (d + 5)) m_7_42 (.inl 7) [some (am_r (am_a 212)), u1, u2, some (am_i v9), some (am_i v11)] [am_i 0, am_r (am_a 212)] (zS L, h14) else am_E (am_D (d + 5)) m_7_42 (.inl 7) [some (am_r (am_a 212)), u1, u2, some (am_i v9), some (am_i v11)] [am_i 1, am_r (am_a 212)] (zS L, h14) else am_E (am_D (d + 5)) m_7_42 (.inl 7) [some (am_r (am_a 212)), u1, u2, some (am_i v9), some (am_i v11)] [am_i 1, am_r (am_a 212)] (zS L, h12)) g0
      (ge_do sy K V P (ce w sy K V P) G deep st i (g, q)) (pc_post2 K V P sy w Z g0 L deep q) := by
  rw [pc_here (d + 4) L N.R N.lt, p_xI]
  unfold ge_do
  refine pn_name (d + 1) L N (fun j h1 hK ej N1 => ?_)
  subst ej
  rw [pc_isSign (d + 3) L N1.R N1.lt, p_xI]
  simp only [pB_0]
  have HA := pn_args L hG H2 d deep hd
  have e7 : ∀ (s0 : Int) (X : gx_R (Nat × Nat × ce_S × Nat)), s0 = 1 → pc_o L (am_D (d + 5) 7 68 [am_r (am_a 212), am_i (V i), am_i (P i)] (zS L, h1)) g0 X (pc_post K V P sy w Z g0 L deep q) → pc_o L (am_E (am_D (d + 5)) m_7_42 (.inl 7) [some (am_r (am_a 212)), u1, u2, some (am_i (P i)), some (am_i (V i))] [am_i s0, am_r (am_a 212)] (zS L, h1)) g0
      (gx_b X fun r => gx_b (ce w sy K V P (34, 0, 0, 0) r.2.2.1) fun s3 => gx_b (gx_sign sy K V P 59 r.1) fun j4 => .inr (j4, r.2.1, s3)) (pc_post2 K V P sy w Z g0 L deep q) := by
    intro s0 X e0 hX
    subst e0
    rw [q_7_42_7, show am_D (d + 5) 7 7 [am_r (am_a 212), am_i 1] (zS L, h1) = pV L h1 by rw [D_7_7, if_neg (by decide)], p_xV]
    refine pc_then L hX (fun i2 st2 g2 n2 h2 N2 => ?_)
    show pc_o L _ g0 (gx_b (ce_h (g2, q) (gx_b (ce_vm w 1 5 0 g2) (ce_li w sy 1 7 0))) _) _
    refine pn_evb L N2 (em_pop (d + 2) L N2.R _ _) (fun g3 h3 _ N3 => ?_)
    refine pn_ev L N3 (em_li (d + 3) L N3.R (by omega) _ _) (fun g4 h4 _ N4 => ?_)
    exact pn_sign (d + 1) L N4 59 (fun j5 h5 N5 => ⟨h5, rfl, N5, rfl⟩)
  by_cases s40 : gx_sg K V 40 (i + 1)
  · have s46 : ¬ gx_sg K V 46 (i + 1) := fun z => by have a := z.2; have b := s40.2; omega
    rw [if_neg (fun z => z s40), if_neg s46, if_pos s40, gx_opens_sg s40]
    have t := e7 1 _ rfl (pn_call1 d L HA N1 s46 q)
    unfold pc_tl at t
    simp only [gx_b_assoc, gx_b_inr] at t
    exact t
  · rw [if_pos s40, pc_isSign (d + 3) L N1.R N1.lt, p_xI]
    simp only [pB_0]
    by_cases s46 : gx_sg K V 46 (i + 1)
    · rw [if_neg (fun z => z s46), if_pos s46]
      have t := e7 1 _ rfl (pn_call2 d L HA N1 s46 q)
      unfold pc_tl at t
      simp only [gx_b_assoc, gx_b_inr] at t
      exact t
    · rw [if_pos s46, if_neg s46, if_neg s40, q_7_42_7, show (0 : Int) = pB False from (pB_f (fun z => z)).symm]
      have e : (.inl (1, P (i + 1)) : gx_R (Nat × Nat × ce_S)) = gx_if False (1, P (i + 1)) (.inl (1, P (i + 1))) := by unfold gx_if; rw [if_neg (fun z => z)]
      rw [e]
      exact pn_need (d + 3) L N1 False (fun z => z.elim)
/-- one statement -/
theorem pn_stm (hG : G ≤ 1000000) (HT : pc_HT K V P sy w Z g0 L G) (H1 : pc_H1 K V P sy w Z g0 L G) (H2 : pc_H2 K V P sy w Z g0 L G) {f : Nat} (HS : pc_HS K V P sy w Z g0 L G f) : pc_H42 K V P sy w Z g0 L G (f + 1) := by
  intro d deep st i g h q hd N hs
  obtain ⟨d0, rfl⟩ : ∃ d0, d = d0 + 20 := ⟨d - 20, by unfold pc_ds at hd; omega⟩
  have hd1 : deep < 25 → pc_dn (deep + 1) ≤ d0 + 2 := by intro z; unfold pc_ds pc_dn at *; omega
  have hdn : pc_dn deep ≤ d0 + 10 := by unfold pc_ds pc_dn at *; omega
  have hd2 : deep < 25 → pc_ds (deep + 1) ≤ d0 + 12 := by intro z; unfold pc_ds at *; omega
  rw [D_7_42, pc_value (d0 + 18) L N.R N.lt, p_xI, pc_here (d0 + 18) L N.R N.lt, p_xI, gs]
  show pc_o L _ g0 (gx_b (ce_h (g, q) (if sy = true then .inr g else ce_vm w 20 (P ((i : Int)).toNat) 0 g)) _) _
  rw [Int.toNat_natCast]
  refine pn_ev L N (em_step (d0 + 16) L N.R _) (fun g1 h1 _ N1 => ?_)
  refine pn_next (d0 + 16) L N1 ⟨by rw [hs.1]; decide, by rw [hs.1]; decide⟩ (fun j h2 _ N2 => ?_)
  by_cases c15 : V i = 15
  · rw [if_pos c15, if_pos c15]
    exact pc_wrap2 L (pn_let (d0 + 16) L HT H1 q (by omega) N2)
  rw [if_neg c15, if_neg c15]
  by_cases c16 : V i = 16
  · rw [if_pos c16, if_neg (by omega), if_neg (by omega), if_pos c16]
    exact pn_do (d0 + 14) L hG H2 q _ _ (by intro z; have := hd1 z; omega) N2
  rw [if_neg c16]
  by_cases c17 : V i = 17
  · rw [if_pos c17, if_pos c17]
    refine pc_wrap2 L (pn_if (d0 + 12) L HT H1 HS q ?_ N2)
    intro z; have := hd2 z; omega
  rw [if_neg c17, if_neg c17, if_neg (by have := hs.2; omega)]
  by_cases c19 : V i = 19
  · rw [if_pos c19, if_pos c19]
    exact pc_wrap2 L (pn_while (d0 + 12) L HT H1 HS q (by intro z; have := hd2 z; omega) N2)
  rw [if_neg c19, if_neg c19, if_neg c16]
  exact pn_ret (d0 + 17) L HT H1 q _ _ _ _ (by omega) N2
  intro z; cases z
/-- as many as there are -/
theorem pn_stms {f : Nat} (HS : pc_HS K V P sy w Z g0 L G f) (H4 : pc_H42 K V P sy w Z g0 L G f) : pc_HS K V P sy w Z g0 L G (f + 1) := by
  intro d deep st i g h q hd N
  obtain ⟨d0, rfl⟩ : ∃ d0, d = d0 + 20 := ⟨d - 20, by unfold pc_ds at hd; omega⟩
  rw [q_7_40_0, pc_token (d0 + 19) L N.R N.lt, p_xI, gs]
  simp only [pc_value (d0 + 19) L N.R N.lt, p_xI]
  have go : gx_stm K V i → pc_o L (am_xV (zS L) (am_D (d0 + 20) 7 42 [am_r (am_a 212)] (zS L, h)) (am_up1 (zS L)) fun h5 => am_E (am_D (d0 + 20)) m_7_40 (.inl 0) [some (am_r (am_a 212))] [] (zS L, h5)) g0 (gx_b (gs sy K V P (ce w sy K V P) G f 1 deep st i (g, q)) fun r => gs sy K V P (ce w sy K V P) G f 0 deep r.2.1 r.1 r.2.2) (pc_post2 K V P sy w Z g0 L deep q) := by
    intro hs
    exact pc_then2 L (H4 (d0 + 20) deep st i g h q hd N hs) (fun i2 st2 g2 h2 N2 => HS (d0 + 20) deep st2 i2 g2 h2 q hd N2)
  by_cases hs : gx_stm K V i
  · rw [if_pos hs]
    have t := go hs
    have h2 := hs.2
    rw [if_pos hs.1]
    (repeat' split) <;> first | exact t | (exfalso; omega)
  · rw [if_neg hs]
    unfold gx_stm at hs
    have t : pc_o L (some (.inl none, (zS L, h))) g0 (.inr (i, st, (g, q)) : gx_R (Nat × Nat × ce_S)) (pc_post2 K V P sy w Z g0 L deep q) := ⟨h, rfl, N, rfl⟩
    (repeat' split) <;> first | exact t | (exfalso; omega)
theorem pn_sts (hG : G ≤ 1000000) (HT : pc_HT K V P sy w Z g0 L G) (H1 : pc_H1 K V P sy w Z g0 L G) (H2 : pc_H2 K V P sy w Z g0 L G) : ∀ f : Nat, pc_HS K V P sy w Z g0 L G f ∧ pc_H42 K V P sy w Z g0 L G f
  | 0 => ⟨fun _ _ _ _ _ _ _ _ _ z => absurd z (by decide), fun _ _ _ _ _ _ _ _ _ _ z => absurd z (by decide)⟩
  | f + 1 => ⟨pn_stms L (pn_sts hG HT H1 H2 f).1 (pn_sts hG HT H1 H2 f).2, pn_stm L hG HT H1 H2 (pn_sts hG HT H1 H2 f).1⟩
end
