/-! PURE LAYER, 16: variables are read and set; calls of known subs; signs; labels -/
section
variable {K V P : Nat → Int} {sy w : Bool} {i deep st : Nat} {g h : am_H} (d L : Nat)
theorem em_call (R : pc_R K V P sy w i deep st g h) (o x many : Int) : pc_E K V P sy w i deep st L (am_D (d + 2) 7 25 [am_r (am_a 212), am_i o, am_i x, am_i many] (zS L, h)) g (ce_call w o x many g) := by
  rw [D_7_25, R.wr]
  simp only [pB_0]
  unfold ce_call
  by_cases hw : w = true
  · rw [if_neg (fun z => z hw), if_pos hw, fi_sub d L o x R.okh.2.2.2.2.2.1, p_xI, R.sub]
    unfold ce_vm
    rw [if_pos hw]
    exact em_ret L (em_add d L R (by omega) _ _)
  · rw [if_pos hw, if_neg hw]; exact em_id L R
theorem em_tcall (R : pc_R K V P sy w i deep st g h) (o x many : Int) : pc_E K V P sy w i deep st L (am_D (d + 2) 7 20 [am_r (am_a 212), am_i o, am_i x, am_i many] (zS L, h)) g (ce_tcall w sy o x many g) := by
  rw [D_7_20, R.wr, R.syq]
  simp only [pB_0]
  unfold ce_tcall
  by_cases hw : w = true
  · rw [if_neg (fun z => z hw)]
    by_cases hs : sy = true
    · rw [if_neg (fun z => z hs), if_neg (by rw [hs]; simp)]; exact em_id L R
    · have hs' : sy = false := by simpa using hs
      have o5 := R.ok.2.2.2.2.2.1
      rw [if_pos hs, if_pos ⟨hw, hs'⟩, fi_sub d L o x R.okh.2.2.2.2.2.1, p_xI, R.sub]
      unfold ce_q
      by_cases c : ce_sub g o x ≠ -1
      · rw [if_pos c]
        rcases p_find2_rg (g 218) (g 219) o x (g 217 5).toNat 0 with z | ⟨z1, z2, -⟩
        · exact absurd z c
        · have z1 : (0 : Int) ≤ ce_sub g o x := z1
          have z2 : ce_sub g o x < (0 : Nat) + ((g 217 5).toNat : Int) := z2
          rw [p_idx z1 (by omega), R.cell 222 rfl]
          unfold ce_li
          rw [if_pos ⟨hw, hs'⟩]
          exact em_ret L (em_tel d L R (by omega) _ _)
      · rw [if_neg c]; intro z; exact absurd z (by decide)
  · rw [if_pos hw, if_neg (fun z => hw z.1)]; exact em_id L R
theorem em_tvar (R : pc_R K V P sy w i deep st g h) {op : Int} (hop : -128 ≤ op ∧ op ≤ 127) (x : Int) (hv : w = true → ce_var g x) : pc_E K V P sy w i deep st L (am_D (d + 2) 7 22 [am_r (am_a 212), am_i op, am_i x] (zS L, h)) g (ce_tvar w sy op x g) := by
  rw [D_7_22, R.wr, R.syq]
  simp only [pB_0]
  unfold ce_tvar
  by_cases hw : w = true
  · rw [if_neg (fun z => z hw)]
    have hv := hv hw
    by_cases hs : sy = true
    · rw [if_neg (fun z => z hs), if_neg (by rw [hs]; simp)]; exact em_id L R
    · have hs' : sy = false := by simpa using hs
      have ok := R.okh
      have o1 := ok.2.2.2.2.2.2.2
      have o2 := ok.2.2.2.2.2.2.1
      rw [if_pos hs, if_pos ⟨hw, hs'⟩, fi_vs d L x o1, p_xI, R.vs]
      unfold ce_li
      have hws : w = true ∧ sy = false := ⟨hw, hs'⟩
      simp only [if_pos hws]
      by_cases c : ce_vs g x = -1
      · have c2 : ce_vc g x ≠ -1 := by rcases hv with z | z; exact absurd c z; exact z
        have ek : ce_kd g x = g 225 (ce_vc g x).toNat := by unfold ce_kd; rw [if_neg (fun z => z c)]
        have en : ce_no g x = g 228 (ce_vc g x).toNat := by unfold ce_no; rw [if_neg (fun z => z c)]
        rcases p_find_rg (g 224) x (g 223 5).toNat 0 with z | ⟨z1, z2, -⟩
        · exact absurd z c2
        · have o3 := R.ok.2.2.2.2.2.2.1
          have z1 : (0 : Int) ≤ ce_vc g x := z1
          have z2 : ce_vc g x < (0 : Nat) + ((g 223 5).toNat : Int) := z2
          have a0 : (zS L)[223]? = some (0, 15, [am_a 224, am_a 225, am_a 226, am_a 227, am_a 228, am_n]) := rfl
          have a1 : (zS L)[225]? = some (1, 50, []) := rfl
          have a4 : (zS L)[228]? = some (1, 50, []) := rfl
          rw [if_pos c, q_7_22_4, p_obj a0, fi_vc d L x o2, p_xI, R.vc]
          simp only [p_obj a0, List.getD_cons_succ, List.getD_cons_zero, p_arr a1, p_arr a4, p_idx z1 (show ce_vc g x < (50 : Nat) by omega), R.cell 225 rfl, R.cell 228 rfl]
          rw [ek, en]
          unfold ce_lseg
          repeat' split
          all_goals first | exact em_ret L (em_tel d L R hop _ _) | contradiction
      · have ek : ce_kd g x = g 231 (ce_vs g x).toNat := by unfold ce_kd; rw [if_pos c]
        have en : ce_no g x = g 234 (ce_vs g x).toNat := by unfold ce_no; rw [if_pos c]
        rcases p_find_rg (g 230) x (g 229 5).toNat 0 with z | ⟨z1, z2, -⟩
        · exact absurd z c
        · have o3 := R.ok.2.2.2.2.2.2.2
          have z1 : (0 : Int) ≤ ce_vs g x := z1
          have z2 : ce_vs g x < (0 : Nat) + ((g 229 5).toNat : Int) := z2
          have a0 : (zS L)[229]? = some (0, 15, [am_a 230, am_a 231, am_a 232, am_a 233, am_a 234, am_n]) := rfl
          have a1 : (zS L)[231]? = some (1, 50, []) := rfl
          have a4 : (zS L)[234]? = some (1, 50, []) := rfl
          rw [if_neg c, q_7_22_4, p_obj a0, fi_vs d L x o1, p_xI, R.vs]
          simp only [p_obj a0, List.getD_cons_succ, List.getD_cons_zero, p_arr a1, p_arr a4, p_idx z1 (show ce_vs g x < (50 : Nat) by omega), R.cell 231 rfl, R.cell 234 rfl]
          rw [ek, en]
          unfold ce_lseg
          repeat' split
          all_goals first | exact em_ret L (em_tel d L R hop _ _) | contradiction
  · rw [if_pos hw, if_neg (fun z => hw z.1)]; exact em_id L R
theorem em_get (R : pc_R K V P sy w i deep st g h) : pc_E K V P sy w i deep st L (am_D (d + 3) 7 45 [am_r (am_a 212)] (zS L, h)) g (ce_get w g) := by
  unfold ce_get ce_q
  by_cases c : 0 ≤ g 212 13 ∧ g 212 13 < 24
  · rw [if_pos c, D_7_45, R.eq 212 13 rfl, p_idx c.1 (by omega), R.cell 215 rfl]
    unfold ce_ckd
    by_cases c2 : g 215 (g 212 13).toNat = 0
    · rw [if_pos c2, if_pos c2]; exact em_ret L (em_vm d L R (by omega) _ _)
    · rw [if_neg c2, if_neg c2]; exact em_ret L (em_vm d L R (by omega) _ _)
  · rw [if_neg c]; intro z; exact absurd z (by decide)
theorem em_set (R : pc_R K V P sy w i deep st g h) : pc_E K V P sy w i deep st L (am_D (d + 3) 7 44 [am_r (am_a 212)] (zS L, h)) g (ce_set w g) := by
  unfold ce_set ce_q
  by_cases c : 0 ≤ g 212 13 ∧ g 212 13 < 24
  · rw [if_pos c, D_7_44, R.eq 212 13 rfl, p_idx c.1 (by omega), R.cell 215 rfl]
    unfold ce_ckd
    by_cases c2 : g 215 (g 212 13).toNat = 0
    · rw [if_pos c2, if_pos c2]; exact em_ret L (em_vm d L R (by omega) _ _)
    · rw [if_neg c2, if_neg c2]; exact em_ret L (em_vm d L R (by omega) _ _)
  · rw [if_neg c]; intro z; exact absurd z (by decide)
/-- variables are the same behind an emission of code -/
def ce_same (g g1 : am_H) : Prop := ∀ a, a = 212 ∨ a = 213 ∨ a = 214 ∨ a = 215 ∨ a = 216 ∨ a = 217 ∨ a = 218 ∨ a = 219 ∨ a = 220 ∨ a = 221 ∨ a = 222 ∨ a = 223 ∨ a = 224 ∨ a = 225 ∨ a = 226 ∨ a = 227 ∨ a = 228 ∨ a = 229 ∨ a = 230 ∨ a = 231 ∨ a = 232 ∨ a = 233 ∨ a = 234 ∨ a = 3 ∨ a = 4 ∨ a = 5 ∨ a = 6 ∨ a = 7 → g1 a = g a
theorem ce_same.refl (g : am_H) : ce_same g g := fun _ _ => rfl
theorem ce_same.trans {a b c : am_H} (h1 : ce_same a b) (h2 : ce_same b c) : ce_same a c := fun x hx => (h2 x hx).trans (h1 x hx)
theorem ce_vm_same {op a b : Int} {g1 : am_H} (hr : ce_vm w op a b g = .inr g1) : ce_same g g1 := by
  unfold ce_vm ce_q at hr
  split at hr
  · split at hr
    · cases hr
      intro x hx
      unfold ce_add
      rw [p_up_c _ _ _ _ _ (by omega), p_up_c _ _ _ _ _ (by omega), p_up_c _ _ _ _ _ (by omega), p_up_c _ _ _ _ _ (by omega)]
    · cases hr
  · cases hr; exact ce_same.refl _
theorem ce_li_same {op a b : Int} {g1 : am_H} (hr : ce_li w sy op a b g = .inr g1) : ce_same g g1 := by
  unfold ce_li ce_q at hr
  split at hr
  · split at hr
    · cases hr
      intro x hx
      unfold ce_tel
      rw [p_up_c _ _ _ _ _ (by omega), p_up_c _ _ _ _ _ (by omega), p_up_c _ _ _ _ _ (by omega), p_up_c _ _ _ _ _ (by omega)]
    · cases hr
  · cases hr; exact ce_same.refl _
theorem ce_b_same {r : gx_R am_H} {f : am_H → gx_R am_H} (h1 : ∀ g1, r = .inr g1 → ce_same g g1) (h2 : ∀ g1 g2, r = .inr g1 → f g1 = .inr g2 → ce_same g1 g2) : ∀ g2, gx_b r f = .inr g2 → ce_same g g2 := by
  intro g2 h
  obtain ⟨g1, e1, e2⟩ := gx_b_ok h
  exact (h1 g1 e1).trans (h2 g1 g2 e1 e2)
theorem ce_tvar_same {op x : Int} {g1 : am_H} (hr : ce_tvar w sy op x g = .inr g1) : ce_same g g1 := by
  unfold ce_tvar at hr
  split at hr
  · exact ce_li_same hr
  · cases hr; exact ce_same.refl _
theorem ce_same.vs {g g1 : am_H} (s : ce_same g g1) (x : Int) : ce_vs g1 x = ce_vs g x := by unfold ce_vs; rw [s 230 (by simp), s 229 (by simp)]
theorem ce_same.vc {g g1 : am_H} (s : ce_same g g1) (x : Int) : ce_vc g1 x = ce_vc g x := by unfold ce_vc; rw [s 224 (by simp), s 223 (by simp)]
theorem ce_same.var {g g1 : am_H} (s : ce_same g g1) (x : Int) : ce_var g1 x ↔ ce_var g x := by unfold ce_var; rw [s.vs, s.vc]
theorem ce_same.kd {g g1 : am_H} (s : ce_same g g1) (x : Int) : ce_kd g1 x = ce_kd g x := by unfold ce_kd; rw [s.vs, s.vc, s 231 (by simp), s 225 (by simp)]
/-- a variable is read -/
theorem em_load (R : pc_R K V P sy w i deep st g h) (x wh : Int) : pc_E K V P sy w i deep st L (am_D (d + 4) 7 57 [am_r (am_a 212), am_i x, am_i wh] (zS L, h)) g (ce_load w sy x wh g) := by
  rw [D_7_57, vr_is (d + 1) L R, p_xI]
  have e : ce_load w sy x wh g = gx_b (ce_chk w (ce_var g x) (4, wh) (.inr ())) fun _ => (if w = false then .inr g else ce_chk w (g 212 14 ≠ 2 ∨ ce_kd g x ≠ 4) (6, wh) (gx_b (ce_tvar w sy 0 x g) fun g1 => if ce_kd g1 x = 4 then gx_b (ce_vm w 19 (ce_pl g1 x) 0 g1) (ce_get w) else ce_vm w 0 (ce_seg (ce_kd g1 x)) (ce_pl g1 x) g1)) := by
    unfold ce_load ce_chk; split <;> rfl
  rw [e]
  refine pc_bV (pc_check (d + 1) L R _ 4 wh) ?_
  rintro a h1 ha rfl
  rw [R.wr]
  simp only [pB_0]
  by_cases hw : w = true
  · have hv : ce_var g x := by
      unfold ce_chk at ha
      split at ha
      · cases ha
      · rename_i z
        apply Classical.byContradiction
        intro y
        exact z ⟨hw, y⟩
    have hwf : ¬ w = false := by rw [hw]; decide
    rw [if_neg (fun z => z hw), if_neg hwf, R.eq 212 14 rfl]
    have e4 : ∀ (p : Prop) [Decidable p], (p ↔ (g 212 14 ≠ 2 ∨ ce_kd g x ≠ 4)) → pc_E K V P sy w i deep st L (am_E (am_D (d + 3)) m_7_57 (.inl 4) [some (am_r (am_a 212)), some (am_i x), some (am_i wh)] [am_i (pB p), am_r (am_a 212)] (zS L, h1)) g (ce_chk w (g 212 14 ≠ 2 ∨ ce_kd g x ≠ 4) (6, wh) (gx_b (ce_tvar w sy 0 x g) fun g1 => if ce_kd g1 x = 4 then gx_b (ce_vm w 19 (ce_pl g1 x) 0 g1) (ce_get w) else ce_vm w 0 (ce_seg (ce_kd g1 x)) (ce_pl g1 x) g1)) := by
      intro p _ hp
      rw [q_7_57_4, pB_congr hp]
      have e2 : ∀ r : gx_R am_H, ce_chk w (g 212 14 ≠ 2 ∨ ce_kd g x ≠ 4) (6, wh) r = gx_b (ce_chk w (g 212 14 ≠ 2 ∨ ce_kd g x ≠ 4) (6, wh) (.inr ())) fun _ => r := by
        intro r; unfold ce_chk; split <;> rfl
      rw [e2]
      refine pc_bV (pc_check (d + 1) L R _ 6 wh) ?_
      rintro a h2 ha2 rfl
      refine em_b L (em_tvar (d + 1) L R (by omega) x (fun _ => hv)) ?_
      intro g1 h3 hr R1 q1
      have hs := ce_tvar_same hr
      have hv1 : ce_var g1 x := (hs.var x).mpr hv
      rw [vr_kd (d + 1) L R1 x hv1, p_xI]
      by_cases c : ce_kd g1 x = 4
      · rw [if_pos c, if_pos c]
        have ef : pc_E K V P sy w i deep st L (am_D (d + 3) 7 56 [am_r (am_a 212), am_i x] (zS L, h3)) g1 (ce_vm w 19 (ce_pl g1 x) 0 g1) := by
          rw [D_7_56, vr_pl d L R1 x hv1, p_xI]
          exact em_ret L (em_vm d L R1 (by omega) _ _)
        refine em_b L ef ?_
        intro g2 h4 hr2 R2 q2
        exact em_ret L (em_get d L R2)
      · rw [if_neg c, if_neg c, vr_kd (d + 1) L R1 x hv1, p_xI, vr_seg (d + 2) L, p_xI, vr_pl (d + 1) L R1 x hv1, p_xI]
        exact em_ret L (em_push d L R1 _ _)
    by_cases c : g 212 14 = 2
    · rw [if_pos c, vr_kd (d + 1) L R x hv, p_xI]
      by_cases c2 : ce_kd g x = 4
      · rw [if_pos c2]
        have := e4 False (by simp [c, c2])
        rw [pB_f (by simp)] at this
        exact this
      · rw [if_neg c2]
        have := e4 True (by simp [c, c2])
        rw [pB_t trivial] at this
        exact this
    · rw [if_neg c]
      have := e4 True (by simp [c])
      rw [pB_t trivial] at this
      exact this
  · rw [if_pos hw, if_pos (by simpa using hw)]; exact em_id L R
theorem em_field (R : pc_R K V P sy w i deep st g h) (x : Int) (hv : ce_var g x) : pc_E K V P sy w i deep st L (am_D (d + 3) 7 56 [am_r (am_a 212), am_i x] (zS L, h)) g (ce_vm w 19 (ce_pl g x) 0 g) := by
  rw [D_7_56, vr_pl d L R x hv, p_xI]
  exact em_ret L (em_vm d L R (by omega) _ _)
/-- a variable is set -/
theorem em_store (R : pc_R K V P sy w i deep st g h) (x : Int) (hv : w = true → ce_var g x) : pc_E K V P sy w i deep st L (am_D (d + 4) 7 58 [am_r (am_a 212), am_i x] (zS L, h)) g (ce_store w x g) := by
  rw [D_7_58, R.wr]
  simp only [pB_0]
  unfold ce_store
  by_cases hw : w = true
  · have hv := hv hw
    have hwf : ¬ w = false := by rw [hw]; decide
    rw [if_neg (fun z => z hw), if_neg hwf, vr_kd (d + 1) L R x hv, p_xI]
    by_cases c : ce_kd g x = 4
    · rw [if_pos c, if_pos c]
      refine em_b L (em_pop d L R _ _) ?_
      intro g1 h1 hr R1 q1
      have hs := ce_vm_same hr
      refine em_b L (em_field d L R1 x ((hs.var x).mpr hv)) ?_
      intro g2 h2 hr2 R2 q2
      exact em_ret L (em_set d L R2)
    · rw [if_neg c, if_neg c, vr_kd (d + 1) L R x hv, p_xI, vr_seg (d + 2) L, p_xI, vr_pl (d + 1) L R x hv, p_xI]
      exact em_ret L (em_pop d L R _ _)
  · rw [if_pos hw, if_pos (by simpa using hw)]; exact em_id L R
/-- a sign between two e -/
theorem em_oper (R : pc_R K V P sy w i deep st g h) (c : Int) : pc_E K V P sy w i deep st L (am_D (d + 5) 7 62 [am_r (am_a 212), am_i c] (zS L, h)) g (ce_op w sy c g) := by
  rw [D_7_62]
  unfold ce_op
  by_cases c1 : c = 38
  · subst c1; exact em_ret L (em_both d L R (by omega) (by omega))
  · rw [if_neg c1]
    by_cases c2 : c = 43
    · subst c2; exact em_ret L (em_both d L R (by omega) (by omega))
    · rw [if_neg c2, if_neg c2]
      by_cases c3 : c = 45
      · subst c3; exact em_ret L (em_both d L R (by omega) (by omega))
      · rw [if_neg c3, if_neg c3, if_neg c1]
        by_cases c4 : c = 60
        · subst c4; exact em_ret L (em_both d L R (by omega) (by omega))
        · rw [if_neg c4]
          by_cases c5 : c = 61
          · subst c5; exact em_ret L (em_both d L R (by omega) (by omega))
          · rw [if_neg c5]
            by_cases c6 : c = 62
            · subst c6; exact em_ret L (em_both d L R (by omega) (by omega))
            · rw [if_neg c6]
              by_cases c7 : c = 124
              · subst c7; exact em_ret L (em_both d L R (by omega) (by omega))
              · rw [if_neg c7, if_neg c7, if_neg c4, if_neg c6, if_neg c5, fi_cls (d + 3) L _ R.okh.2.2.2.2.1, p_xI, R.cls, R.eq 212 33 rfl, R.eq 212 34 rfl, R.eq 212 35 rfl]
                have fin : ∀ s0 : Int, s0 = (if c = 42 then g 212 34 else g 212 35) → pc_E K V P sy w i deep st L (am_E (am_D (d + 4)) m_7_62 (.inl 10) [some (am_r (am_a 212)), some (am_i c)] [am_i s0, am_i (ce_cls g (g 212 33)), am_r (am_a 212)] (zS L, h)) g (gx_b (ce_call w (ce_cls g (g 212 33)) (if c = 42 then g 212 34 else g 212 35) 2 g) fun g1 => ce_tcall w sy (ce_cls g1 (g1 212 33)) (if c = 42 then g1 212 34 else g1 212 35) 2 g1) := by
                  intro s0 es
                  rw [q_7_62_10, es]
                  refine em_b L (em_call (d + 2) L R _ _ _) ?_
                  intro g1 h1 hr R1 q1
                  rw [fi_cls (d + 3) L _ R1.okh.2.2.2.2.1, p_xI, R1.cls, R1.eq 212 33 rfl, R1.eq 212 34 rfl, R1.eq 212 35 rfl]
                  by_cases c8 : c = 42
                  · rw [if_pos c8, if_pos c8]; exact em_ret L (em_tcall (d + 2) L R1 _ _ _)
                  · rw [if_neg c8, if_neg c8]; exact em_ret L (em_tcall (d + 2) L R1 _ _ _)
                by_cases c8 : c = 42
                · rw [if_pos c8]; exact fin _ (by rw [if_pos c8])
                · rw [if_neg c8]; exact fin _ (by rw [if_neg c8])
theorem em_step (R : pc_R K V P sy w i deep st g h) (p : Int) : pc_E K V P sy w i deep st L (am_D (d + 3) 7 41 [am_r (am_a 212), am_i p] (zS L, h)) g (if sy = true then .inr g else ce_vm w 20 p 0 g) := by
  rw [D_7_41, R.syq]
  simp only [pB_0]
  by_cases hs : sy = true
  · rw [if_neg (fun z => z hs), if_pos hs]; exact em_id L R
  · rw [if_pos hs, if_neg hs]; exact em_ret L (em_vm d L R (by omega) _ _)
theorem em_unless (R : pc_R K V P sy w i deep st g h) (l : Int) : pc_E K V P sy w i deep st L (am_D (d + 3) 7 23 [am_r (am_a 212), am_i l] (zS L, h)) g (ce_unless w sy l g) := by
  rw [D_7_23]
  unfold ce_unless
  refine em_b L (em_li d L R (by omega) _ _) ?_
  intro g1 h1 hr R1 q1
  refine em_b L (em_li d L R1 (by omega) _ _) ?_
  intro g2 h2 hr2 R2 q2
  exact em_ret L (em_li d L R2 (by omega) _ _)
theorem em_elem (R : pc_R K V P sy w i deep st g h) : pc_E K V P sy w i deep st L (am_D (d + 3) 7 24 [am_r (am_a 212)] (zS L, h)) g (gx_b (ce_li w sy 1 6 1 g) (ce_li w sy 0 5 0)) := by
  rw [D_7_24]
  refine em_b L (em_li d L R (by omega) _ _) ?_
  intro g1 h1 hr R1 q1
  exact em_ret L (em_li d L R1 (by omega) _ _)
theorem pc_isOp (R : pc_R K V P sy w i deep st g h) (hi : i < 4500) : am_D (d + 2) 7 59 [am_r (am_a 212)] (zS L, h) = pI L (pB (gx_op K V i)) h := by
  rw [D_7_59, pc_token d L R hi, p_xI, pc_value d L R hi]
  simp only [p_xI, p_bit0, p_bit1]
  by_cases hj : gx_op K V i
  · rw [pB_t hj]; unfold gx_op at hj; (repeat' split) <;> first | rfl | (exfalso; omega)
  · rw [pB_f hj]; unfold gx_op at hj; (repeat' split) <;> first | rfl | (exfalso; omega)
end
