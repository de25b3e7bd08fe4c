/-! PURE LAYER, 22: calls, terms, e -/
section
variable {K V P : Nat → Int} {sy w : Bool} {Z : Nat} {g0 : am_H} {i deep st : Nat} {g h : am_H} (d L : Nat)
/-- name ( .. ) -/
theorem pn_call1 {f : Nat} (HA : pc_HA K V P sy w Z g0 d L f deep) (N : pc_N K V P sy w Z g0 (i + 1) deep st g h) (hs : ¬ gx_sg K V 46 (i + 1)) (q : Int × Int × Int × Int × Int × List (Int × Int × Int × Int)) :
    pc_o L (am_D (d + 5) 7 68 [am_r (am_a 212), am_i (V i), am_i (P i)] (zS L, h)) g0
      (gx_b (ce w sy K V P (11, (i : Int), (i : Int), 0) (g, q)) (pc_tl K V P sy w f deep st i i (i + 1))) (pc_post K V P sy w Z g0 L deep q) := by
  rw [D_7_68, pc_isSign (d + 2) L N.R N.lt, p_xI, pB_f hs, if_pos rfl]
  show pc_o L _ g0 (gx_b (ce_h (g, q) (ce_begin w sy K V P ((i : Int)).toNat ((i : Int)).toNat g)) _) _
  rw [Int.toNat_natCast, ce_begin_eq]
  refine pn_q L (fun hq => ?_)
  rw [if_pos rfl, ce_chk_b, ce_chk_b, gx_b_assoc, N.R.eq 212 13 rfl]
  have hn := (N.R.nm (V i)).mpr hq.1
  have o5 := N.R.ok.2.2.2.2.2.1
  rw [fi_sof (d + 2) L N.R.syq _ _ hn N.R.okh.2.2.2.2.2.1, p_xI, N.R.sof]
  have rg : ce_sof sy g (g 212 13) (V i) = -1 ∨ (0 ≤ ce_sof sy g (g 212 13) (V i) ∧ ce_sof sy g (g 212 13) (V i) < 130) := by
    unfold ce_sof
    split
    · exact Or.inl rfl
    · unfold ce_sub
      rcases p_find2_rg (g 218) (g 219) (g 212 13) (V i) (g 217 5).toNat 0 with y | ⟨y1, y2, -⟩
      · exact Or.inl y
      · right; omega
  have e11 : pc_o L (am_E (am_D (d + 4)) m_7_68 (.inl 11) [some (am_r (am_a 212)), some (am_i (V i)), some (am_i (P i)), some (am_i (g 212 13)), some (am_i (V i)), some (am_i (P i)), some (am_i 1), some (am_i 0), none, none] [am_i (pB (g 220 (if ce_sof sy g (g 212 13) (V i) ≤ 0 then 0 else ce_sof sy g (g 212 13) (V i)).toNat = 3)), am_r (am_a 212)] (zS L, h)) g0
      (gx_b (ce_h (g, q) (ce_chk w (g 220 (if ce_sof sy g (g 212 13) (V i) ≤ 0 then 0 else ce_sof sy g (g 212 13) (V i)).toNat = 3) (5, P i) (gx_b (ce_vm w 0 4 0 g) fun a => gx_b (ce_li w sy 0 6 0 a) (ce_begin2 w sy K V P i i)))) (pc_tl K V P sy w f deep st i i (i + 1))) (pc_post K V P sy w Z g0 L deep q) := by
    rw [q_7_68_11]
    refine pn_chk (d + 2) L N _ _ (fun _ => ?_)
    refine pn_evb L N (em_push (d + 1) L N.R _ _) (fun g1 h1 e1 N1 => ?_)
    refine pn_evb L N1 (em_li (d + 2) L N1.R (by omega) _ _) (fun g2 h2 e2 N2 => ?_)
    have sm : ce_same g g2 := (ce_vm_same e1).trans (ce_li_same e2)
    have t := pn_tail d L HA (i := i) (j := i) N2 ((sm.nm _).mpr hq.1) q (some (am_i (V i))) none none
    rw [sm.cc, pB_t (show ce_obj V g2 i i from Or.inl rfl), pB_f (fun z : i ≠ i => z rfl), show ce_cc w sy V g i i = g 212 13 by unfold ce_cc; rw [if_pos (Or.inl rfl)]] at t
    exact t
  have e9 : pc_o L (am_E (am_D (d + 4)) m_7_68 (.inl 9) [some (am_r (am_a 212)), some (am_i (V i)), some (am_i (P i)), some (am_i (g 212 13)), some (am_i (V i)), some (am_i (P i)), some (am_i 1), some (am_i 0), none, none] [am_i (pB (ce_sof sy g (g 212 13) (V i) ≠ -1)), am_r (am_a 212)] (zS L, h)) g0
      (gx_b (ce_h (g, q) (ce_chk w (ce_sof sy g (g 212 13) (V i) ≠ -1) (4, P i) (ce_chk w (g 220 (if ce_sof sy g (g 212 13) (V i) ≤ 0 then 0 else ce_sof sy g (g 212 13) (V i)).toNat = 3) (5, P i) (gx_b (ce_vm w 0 4 0 g) fun a => gx_b (ce_li w sy 0 6 0 a) (ce_begin2 w sy K V P i i))))) (pc_tl K V P sy w f deep st i i (i + 1))) (pc_post K V P sy w Z g0 L deep q) := by
    rw [q_7_68_9]
    refine pn_chk (d + 2) L N _ _ (fun _ => ?_)
    have rg2 : 0 ≤ (if ce_sof sy g (g 212 13) (V i) ≤ 0 then 0 else ce_sof sy g (g 212 13) (V i)) ∧ (if ce_sof sy g (g 212 13) (V i) ≤ 0 then 0 else ce_sof sy g (g 212 13) (V i)) < ((130 : Nat) : Int) := by split <;> omega
    rw [fi_sof (d + 2) L N.R.syq _ _ hn N.R.okh.2.2.2.2.2.1, p_xI, N.R.sof, p_idx rg2.1 rg2.2, N.R.cell 220 rfl]
    by_cases c : g 220 (if ce_sof sy g (g 212 13) (V i) ≤ 0 then 0 else ce_sof sy g (g 212 13) (V i)).toNat = 3
    · rw [if_pos c]; rw [pB_t c] at e11; exact e11
    · rw [if_neg c]; rw [pB_f c] at e11; exact e11
  by_cases c : ce_sof sy g (g 212 13) (V i) = -1
  · rw [if_pos c]; rw [pB_f (fun z : ce_sof sy g (g 212 13) (V i) ≠ -1 => z c)] at e9; exact e9
  · rw [if_neg c]; rw [pB_t c] at e9; exact e9
/-- name . name ( .. ) -/
theorem pn_call2 {f : Nat} (HA : pc_HA K V P sy w Z g0 d L f deep) (N : pc_N K V P sy w Z g0 (i + 1) deep st g h) (hs : gx_sg K V 46 (i + 1)) (q : Int × Int × Int × Int × Int × List (Int × Int × Int × Int)) :
    pc_o L (am_D (d + 5) 7 68 [am_r (am_a 212), am_i (V i), am_i (P i)] (zS L, h)) g0
      (gx_b (gx_next sy K P (i + 1)) fun j1 => gx_b (gx_name sy K P j1) fun j2 => gx_b (ce w sy K V P (11, (i : Int), (j1 : Int), 1) (g, q)) (pc_tl K V P sy w f deep st i j1 j2)) (pc_post K V P sy w Z g0 L deep q) := by
  rw [D_7_68, pc_isSign (d + 2) L N.R N.lt, p_xI, pB_t hs, if_neg (by decide), N.R.eq 212 13 rfl]
  refine pn_next (d + 1) L N ⟨by rw [hs.1]; decide, by rw [hs.1]; decide⟩ (fun j h1 ej N1 => ?_)
  have ej := gx_next_eq ej
  rw [pc_here (d + 3) L N1.R N1.lt, p_xI]
  refine pn_name d L N1 (fun j2 h2 hK2 ej2 N2 => ?_)
  subst ej2
  have hij : ¬ i = j := by omega
  show pc_o L _ g0 (gx_b (ce_h (g, q) (ce_begin w sy K V P ((i : Int)).toNat ((j : Int)).toNat g)) _) _
  rw [Int.toNat_natCast, Int.toNat_natCast, ce_begin_eq]
  refine pn_q L (fun hq => ?_)
  rw [if_neg hij, ce_chk_b]
  have h20 : 0 ≤ h2 212 20 ∧ h2 212 20 ≤ h2 213 3 := by rw [N2.R.eq 212 20 rfl, N2.R.eq 213 3 rfl]; exact hq.2.2
  have hn := (N2.R.nm (V i)).mpr hq.1
  have ecof : am_D (d + 4) 7 32 [am_r (am_a 212), am_i (V i)] (zS L, h2) = pI L (ce_cof sy g (V i)) h2 := by
    rw [fi_cof (d + 2) L N2.R.syq _ hn N2.R.okh.2.2.2.2.1 h20, N2.R.cof]
  have tl : ∀ (g1 h3 : am_H), pc_N K V P sy w Z g0 (j + 1) deep st g1 h3 → ce_same g g1 → ∀ x3 : Int, x3 = ce_cc w sy V g i j → pc_o L (am_E (am_D (d + 4)) m_7_68 (.inl 12) [some (am_r (am_a 212)), some (am_i (V i)), some (am_i (P i)), some (am_i x3), some (am_i (V j)), some (am_i (P j)), some (am_i (pB (ce_var g (V i)))), some (am_i 1), none, none] [] (zS L, h3)) g0
      (gx_b (ce_h (g1, q) (ce_begin2 w sy K V P i j g1)) (pc_tl K V P sy w f deep st i j (j + 1))) (pc_post K V P sy w Z g0 L deep q) := by
    intro g1 h3 N3 sm x3 e3
    have t := pn_tail d L HA (i := i) (j := j) N3 ((sm.nm _).mpr hq.2.1) q (some (am_i (V i))) none none
    rw [sm.cc, ← e3, pB_t (show i ≠ j from hij), pB_congr (show ce_obj V g1 i j ↔ ce_var g (V i) by rw [sm.obj]; unfold ce_obj; exact ⟨fun z => z.resolve_left hij, Or.inr⟩)] at t
    exact t
  have e3 : pc_o L (am_E (am_D (d + 4)) m_7_68 (.inl 3) [some (am_r (am_a 212)), some (am_i (V i)), some (am_i (P i)), some (am_i (g 212 13)), some (am_i (V j)), some (am_i (P j)), some (am_i (pB (ce_var g (V i)))), some (am_i 1), none, none] [am_i (pB (ce_var g (V i) ∨ ce_cof sy g (V i) ≠ -1)), am_r (am_a 212)] (zS L, h2)) g0
      (gx_b (ce_h (g, q) (ce_chk w (ce_var g (V i) ∨ ce_cof sy g (V i) ≠ -1) (4, P i) (gx_b (if ce_var g (V i) then ce_load w sy (V i) (P i) g else .inr g) (ce_begin2 w sy K V P i j)))) (pc_tl K V P sy w f deep st i j (j + 1))) (pc_post K V P sy w Z g0 L deep q) := by
    rw [q_7_68_3]
    refine pn_chk (d + 2) L N2 _ _ (fun _ => ?_)
    rw [N2.wr, N2.R.eq 212 13 rfl, ecof]
    simp only [pB_0, p_xI]
    by_cases c : ce_var g (V i)
    · rw [if_pos c]
      simp only [if_neg (fun z : ¬ ce_var g (V i) => z c)]
      by_cases hw : w = true
      · rw [if_neg (fun z => z hw), vr_ty (d + 2) L N2.R (V i) c, p_xI]
        refine pn_evb L N2 (em_load d L N2.R _ _) (fun g1 h3 e1 N3 => ?_)
        exact tl g1 h3 N3 (ce_load_sm g g1 e1) _ (by unfold ce_cc; rw [if_neg (by rw [hw]; simp [hij]), if_pos c])
      · rw [if_pos hw]
        refine pn_evb L N2 (em_load d L N2.R _ _) (fun g1 h3 e1 N3 => ?_)
        exact tl g1 h3 N3 (ce_load_sm g g1 e1) _ (by unfold ce_cc; rw [if_pos (Or.inr (by simpa using hw))])
    · rw [if_neg c]
      simp only [if_pos c]
      show pc_o L _ g0 (gx_b (ce_h (g, q) (ce_begin2 w sy K V P i j g)) _) _
      by_cases hw : w = true
      · rw [if_neg (fun z => z hw)]
        exact tl g h2 N2 (ce_same.refl g) _ (by unfold ce_cc; rw [if_neg (by rw [hw]; simp [hij]), if_neg c])
      · rw [if_pos hw]
        exact tl g h2 N2 (ce_same.refl g) _ (by unfold ce_cc; rw [if_pos (Or.inr (by simpa using hw))])
  rw [vr_is (d + 2) L N2.R, p_xI]
  by_cases c : ce_var g (V i)
  · rw [if_neg (by rw [pB_t c]; decide)]; rw [pB_t (show ce_var g (V i) ∨ ce_cof sy g (V i) ≠ -1 from Or.inl c)] at e3; exact e3
  · rw [if_pos (by rw [pB_f c]), ecof, p_xI]
    by_cases c2 : ce_cof sy g (V i) = -1
    · rw [if_pos c2]; rw [pB_f (show ¬ (ce_var g (V i) ∨ ce_cof sy g (V i) ≠ -1) from fun z => z.elim c (fun y => y c2))] at e3; exact e3
    · rw [if_neg c2]; rw [pB_t (show ce_var g (V i) ∨ ce_cof sy g (V i) ≠ -1 from Or.inr c2)] at e3; exact e3
end
