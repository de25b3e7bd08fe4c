/-! PURE LAYER, 21: calls -/
theorem ce_chk_b {α β : Type} (w : Bool) (p : Prop) [Decidable p] (e : Int × Int) (x : gx_R α) (F : α → gx_R β) : gx_b (ce_chk w p e x) F = ce_chk w p e (gx_b x F) := by unfold ce_chk; split <;> rfl
section
variable {g g1 : am_H}
theorem ce_same.cls (s : ce_same g g1) (x : Int) : ce_cls g1 x = ce_cls g x := by unfold ce_cls; rw [s 214 (by simp), s 213 (by simp)]
theorem ce_same.own (s : ce_same g g1) (x : Int) : ce_own g1 x = ce_own g x := by unfold ce_own; rw [s 214 (by simp), s 213 (by simp), s 212 (by simp)]
theorem ce_same.sub (s : ce_same g g1) (o x : Int) : ce_sub g1 o x = ce_sub g o x := by unfold ce_sub; rw [s 218 (by simp), s 219 (by simp), s 217 (by simp)]
theorem ce_same.nm (s : ce_same g g1) (x : Int) : ce_nm g1 x ↔ ce_nm g x := by unfold ce_nm; rw [s 6 (by simp)]
theorem ce_same.hid (s : ce_same g g1) (x : Int) : ce_hid g1 x ↔ ce_hid g x := by unfold ce_hid; rw [s 6 (by simp), s 5 (by simp)]
theorem ce_same.cof (s : ce_same g g1) (sy : Bool) (x : Int) : ce_cof sy g1 x = ce_cof sy g x := by
  unfold ce_cof; simp only [s.hid, s.cls, s.own, s 212 (by simp)]
theorem ce_same.sof (s : ce_same g g1) (sy : Bool) (o x : Int) : ce_sof sy g1 o x = ce_sof sy g o x := by
  unfold ce_sof; simp only [s.hid, s.sub, s 212 (by simp)]
theorem ce_same.ty (s : ce_same g g1) (x : Int) : ce_ty g1 x = ce_ty g x := by unfold ce_ty; rw [s.vs, s.vc, s 233 (by simp), s 227 (by simp)]
theorem ce_same.cc (s : ce_same g g1) (w sy : Bool) (V : Nat → Int) (i j : Nat) : ce_cc w sy V g1 i j = ce_cc w sy V g i j := by
  unfold ce_cc; simp only [s.var, s.ty, s.cof, s 212 (by simp)]
theorem ce_same.cs (s : ce_same g g1) (w sy : Bool) (V : Nat → Int) (i j : Nat) : ce_cs w sy V g1 i j = ce_cs w sy V g i j := by
  unfold ce_cs; simp only [s.cc, s.sof]
theorem ce_same.obj (s : ce_same g g1) (V : Nat → Int) (i j : Nat) : ce_obj V g1 i j ↔ ce_obj V g i j := by
  unfold ce_obj; rw [s.var]
end
section
variable {K V P : Nat → Int} {sy w : Bool} {Z : Nat} {g0 : am_H} {i deep st : Nat} {g h : am_H} (d L : Nat)
variable (K V P sy w Z g0) in
/-- the contract of arguments() -/
def pc_HA (f deep : Nat) : Prop := ∀ (st i : Nat) (g h : am_H) (q : Int × Int × Int × Int × Int × List (Int × Int × Int × Int)), pc_N K V P sy w Z g0 i deep st g h → pc_o L (am_D (d + 4) 7 67 [am_r (am_a 212)] (zS L, h)) g0 (gx_b (gx_opens sy K V P 40 deep i) fun j3 => ge sy K V P (ce w sy K V P) f 2 (deep + 1) st j3 (g, q))
    (fun a D => ∃ v h1, D = pI L v h1 ∧ pc_N K V P sy w Z g0 a.1 deep a.2.1 a.2.2.1.1 h1 ∧ a.2.2.1.2 = q)
variable (K V P sy w) in
/-- behind the names of a call -/
def pc_tl (f deep st i j jj : Nat) (s1 : ce_S) : gx_R (Nat × Nat × ce_S × Nat) := gx_b (gx_opens sy K V P 40 deep jj) fun j3 => gx_b (ge sy K V P (ce w sy K V P) f 2 (deep + 1) st j3 s1) fun r => gx_b (ce w sy K V P (12, (i : Int), (j : Int), (r.2.2.2 : Int)) r.2.2.1) fun s2 => .inr (r.1, r.2.1, s2, 0)
theorem pn_tail {f : Nat} (HA : pc_HA K V P sy w Z g0 d L f deep) {i j : Nat} (N : pc_N K V P sy w Z g0 (j + 1) deep st g h) (hj : ce_nm g (V j)) (q : Int × Int × Int × Int × Int × List (Int × Int × Int × Int)) (u1 u8 u9 : Option am_V) :
    pc_o L (am_E (am_D (d + 4)) m_7_68 (.inl 12) [some (am_r (am_a 212)), u1, some (am_i (P i)), some (am_i (ce_cc w sy V g i j)), some (am_i (V j)), some (am_i (P j)), some (am_i (pB (ce_obj V g i j))), some (am_i (pB (i ≠ j))), u8, u9] [] (zS L, h)) g0
      (gx_b (ce_h (g, q) (ce_begin2 w sy K V P i j g)) (pc_tl K V P sy w f deep st i j (j + 1))) (pc_post K V P sy w Z g0 L deep q) := by
  have hZ := N.zz.1
  have hI := N.I.1
  obtain ⟨Y, hY1, hY2, hY3⟩ := N.zz.2.2.2
  have o5 := N.R.ok.2.2.2.2.2.1
  -- 25: what is left once all is checked
  have e25 : ∀ (many : Int) (u3 u4 u5 u7 : Option am_V), gx_count K V (j + 1) 4500 (j + 1) 0 0 false = some many → 0 ≤ ce_cs w sy V g i j ∧ ce_cs w sy V g i j < 130 → 
      pc_o L (am_E (am_D (d + 4)) m_7_68 (.inl 25) [some (am_r (am_a 212)), u1, some (am_i (P i)), u3, u4, u5, some (am_i (pB (ce_obj V g i j))), u7, some (am_i (ce_cs w sy V g i j)), some (am_i many)] [am_i (pB (i ≠ j ∨ g 212 14 ≠ 2)), am_r (am_a 212)] (zS L, h)) g0
        (gx_b (ce_h (g, q) (ce_chk w (i ≠ j ∨ g 212 14 ≠ 2) (6, P i) (.inr g))) (pc_tl K V P sy w f deep st i j (j + 1))) (pc_post K V P sy w Z g0 L deep q) := by
    intro many u3 u4 u5 u7 hc hcs
    have hm := gx_count_rg K V (j + 1) 4500 (j + 1) 0 0 false many (by omega) hc
    rw [q_7_68_25]
    refine pn_chk (d + 2) L N _ _ (fun _ => ?_)
    show pc_o L _ g0 (pc_tl K V P sy w f deep st i j (j + 1) (g, q)) _
    unfold pc_tl
    rw [← gx_b_assoc]
    refine pc_bI (HA st (j + 1) g h q N) ?_
    rintro ⟨a1, a2, ⟨g2, q2⟩, a4⟩ v h2 er ⟨N2, eq⟩
    have eq : q2 = q := eq
    subst eq
    have N2 : pc_N K V P sy w Z g0 a1 deep a2 g2 h2 := N2
    obtain ⟨j3, -, er2⟩ := gx_b_ok er
    have sm : ce_same g g2 := (ge_same f 2 (deep + 1) st j3 (g, q2) _ er2).1
    show pc_o L _ g0 (gx_b (ce_h (g2, q2) (ce_end w sy K V ((i : Int)).toNat ((j : Int)).toNat g2)) _) _
    rw [Int.toNat_natCast, Int.toNat_natCast]
    unfold ce_end
    rw [hc]
    dsimp only
    rw [sm.cs]
    have e27 : ∀ m2 : Int, m2 = (if ce_obj V g i j then many + 1 else many) → pc_o L (am_E (am_D (d + 4)) m_7_68 (.inl 27) [some (am_r (am_a 212)), u1, some (am_i (P i)), u3, u4, u5, some (am_i (pB (ce_obj V g i j))), u7, some (am_i (ce_cs w sy V g i j)), some (am_i many)] [am_i m2, am_i (ce_cs w sy V g i j), am_i 15, am_r (am_a 212)] (zS L, h2)) g0
        (gx_b (ce_h (g2, q2) (gx_b (ce_vm w 15 (ce_cs w sy V g i j) (if ce_obj V g2 i j then many + 1 else many) g2) fun g1 => ce_li w sy 15 (g1 222 (ce_cs w sy V g1 i j).toNat) (if ce_obj V g1 i j then many + 1 else many) g1)) fun s2 => .inr (a1, a2, s2, 0)) (pc_post K V P sy w Z g0 L deep q2) := by
      intro m2 em
      rw [q_7_68_27, show (if ce_obj V g2 i j then many + 1 else many) = m2 by rw [em]; simp only [sm.obj]]
      refine pn_evb L N2 (em_vm (d + 2) L N2.R (by omega) _ _) (fun g3 h3 er3 N3 => ?_)
      have sm3 : ce_same g g3 := sm.trans (ce_vm_same er3)
      rw [p_idx hcs.1 (by omega), N3.R.cell 222 rfl, sm3.cs, show (if ce_obj V g3 i j then many + 1 else many) = m2 by rw [em]; simp only [sm3.obj]]
      simp only [pB_0]
      by_cases c : ce_obj V g i j
      · rw [if_pos c] at em
        rw [if_neg (fun z => z c), p_w (by omega) (by omega), ← em]
        exact pn_ev L N3 (em_li (d + 2) L N3.R (by omega) _ _) (fun g4 h4 _ N4 => ⟨h4, rfl, N4, rfl⟩)
      · rw [if_neg c] at em
        rw [if_pos c, ← em]
        exact pn_ev L N3 (em_li (d + 2) L N3.R (by omega) _ _) (fun g4 h4 _ N4 => ⟨h4, rfl, N4, rfl⟩)
    by_cases c : ce_obj V g i j
    · rw [if_neg (by rw [pB_t c]; decide), p_w (by omega) (by omega)]
      exact e27 (many + 1) (by rw [if_pos c])
    · rw [if_pos (by rw [pB_f c])]
      exact e27 many (by rw [if_neg c])
  have e20 : ∀ (u3 u4 u9 : Option am_V), 0 ≤ ce_cs w sy V g i j ∧ ce_cs w sy V g i j < 130 → 
      pc_o L (am_E (am_D (d + 4)) m_7_68 (.inl 20) [some (am_r (am_a 212)), u1, some (am_i (P i)), u3, u4, some (am_i (P j)), some (am_i (pB (ce_obj V g i j))), some (am_i (pB (i ≠ j))), some (am_i (ce_cs w sy V g i j)), u9] [am_i (pB ((g 220 (ce_cs w sy V g i j).toNat = 3) ↔ ce_obj V g i j)), am_r (am_a 212)] (zS L, h)) g0
        (gx_b (ce_h (g, q) (ce_chk w ((g 220 (ce_cs w sy V g i j).toNat = 3) ↔ ce_obj V g i j) (5, P j) (match gx_count K V (j + 1) 4500 (j + 1) 0 0 false with
         | none => .inl (8, 0)
         | some many => ce_chk w (g 221 (ce_cs w sy V g i j).toNat = many) (5, P j) (ce_chk w (i ≠ j ∨ g 212 14 ≠ 2) (6, P i) (.inr g))))) (pc_tl K V P sy w f deep st i j (j + 1))) (pc_post K V P sy w Z g0 L deep q) := by
    intro u3 u4 u9 hcs
    rw [q_7_68_20]
    refine pn_chk (d + 2) L N _ _ (fun _ => ?_)
    cases hc : gx_count K V (j + 1) 4500 (j + 1) 0 0 false with
    | none => exact fun z => absurd z (by decide)
    | some many =>
      dsimp only
      rw [pc_count0 (d + 3) L N.R hY2 hY3 (by omega) hc, p_xI, p_idx hcs.1 (by omega), N.R.cell 221 rfl]
      have e22 : pc_o L (am_E (am_D (d + 4)) m_7_68 (.inl 22) [some (am_r (am_a 212)), u1, some (am_i (P i)), u3, u4, some (am_i (P j)), some (am_i (pB (ce_obj V g i j))), some (am_i (pB (i ≠ j))), some (am_i (ce_cs w sy V g i j)), some (am_i many)] [am_i (pB (g 221 (ce_cs w sy V g i j).toNat = many)), am_r (am_a 212)] (zS L, h)) g0
          (gx_b (ce_h (g, q) (ce_chk w (g 221 (ce_cs w sy V g i j).toNat = many) (5, P j) (ce_chk w (i ≠ j ∨ g 212 14 ≠ 2) (6, P i) (.inr g)))) (pc_tl K V P sy w f deep st i j (j + 1))) (pc_post K V P sy w Z g0 L deep q) := by
        rw [q_7_68_22]
        refine pn_chk (d + 2) L N _ _ (fun _ => ?_)
        simp only [pB_0]
        rw [N.R.eq 212 14 rfl]
        by_cases c1 : i = j
        · rw [if_pos (fun z => z c1)]
          by_cases c2 : g 212 14 = 2
          · have := e25 many u3 u4 (some (am_i (P j))) (some (am_i (pB (i ≠ j)))) hc hcs
            rw [pB_f (fun z : i ≠ j ∨ g 212 14 ≠ 2 => z.elim (fun y => y c1) (fun y => y c2))] at this
            rw [if_pos c2]; exact this
          · have := e25 many u3 u4 (some (am_i (P j))) (some (am_i (pB (i ≠ j)))) hc hcs
            rw [pB_t (show i ≠ j ∨ g 212 14 ≠ 2 from Or.inr c2)] at this
            rw [if_neg c2]; exact this
        · have := e25 many u3 u4 (some (am_i (P j))) (some (am_i (pB (i ≠ j)))) hc hcs
          rw [pB_t (show i ≠ j ∨ g 212 14 ≠ 2 from Or.inl c1)] at this
          rw [if_neg (fun z => z c1)]; exact this
      by_cases c : g 221 (ce_cs w sy V g i j).toNat = many
      · rw [if_pos c]; rw [pB_t c] at e22; exact e22
      · rw [if_neg c]; rw [pB_f c] at e22; exact e22
  have e16 : ∀ (u3 u4 u8 u9 : Option am_V), 0 ≤ ce_cs w sy V g i j ∧ ce_cs w sy V g i j < 130 → 
      pc_o L (am_E (am_D (d + 4)) m_7_68 (.inl 16) [some (am_r (am_a 212)), u1, some (am_i (P i)), u3, u4, some (am_i (P j)), some (am_i (pB (ce_obj V g i j))), some (am_i (pB (i ≠ j))), u8, u9] [am_i (ce_cs w sy V g i j)] (zS L, h)) g0
        (gx_b (ce_h (g, q) (ce_chk w ((g 220 (ce_cs w sy V g i j).toNat = 3) ↔ ce_obj V g i j) (5, P j) (match gx_count K V (j + 1) 4500 (j + 1) 0 0 false with
         | none => .inl (8, 0)
         | some many => ce_chk w (g 221 (ce_cs w sy V g i j).toNat = many) (5, P j) (ce_chk w (i ≠ j ∨ g 212 14 ≠ 2) (6, P i) (.inr g))))) (pc_tl K V P sy w f deep st i j (j + 1))) (pc_post K V P sy w Z g0 L deep q) := by
    intro u3 u4 u8 u9 hcs
    have t := e20 u3 u4 u9 hcs
    rw [q_7_68_16, p_idx hcs.1 (by omega), N.R.cell 220 rfl]
    by_cases c1 : g 220 (ce_cs w sy V g i j).toNat = 3
    · rw [if_pos c1]
      by_cases c2 : ce_obj V g i j
      · rw [if_pos (by rw [pB_t c2])]; rw [pB_t (show (g 220 (ce_cs w sy V g i j).toNat = 3) ↔ ce_obj V g i j from ⟨fun _ => c2, fun _ => c1⟩)] at t; exact t
      · rw [if_neg (by rw [pB_f c2]; decide)]; rw [pB_f (show ¬ ((g 220 (ce_cs w sy V g i j).toNat = 3) ↔ ce_obj V g i j) from fun z => c2 (z.mp c1))] at t; exact t
    · rw [if_neg c1]
      by_cases c2 : ce_obj V g i j
      · rw [if_neg (by rw [pB_t c2]; decide)]; rw [pB_f (show ¬ ((g 220 (ce_cs w sy V g i j).toNat = 3) ↔ ce_obj V g i j) from fun z => c1 (z.mpr c2))] at t; exact t
      · rw [if_pos (by rw [pB_f c2])]; rw [pB_t (show ((g 220 (ce_cs w sy V g i j).toNat = 3) ↔ ce_obj V g i j) from ⟨fun z => absurd z c1, fun z => absurd z c2⟩)] at t; exact t
  have e14 : pc_o L (am_E (am_D (d + 4)) m_7_68 (.inl 14) [some (am_r (am_a 212)), u1, some (am_i (P i)), some (am_i (ce_cc w sy V g i j)), some (am_i (V j)), some (am_i (P j)), some (am_i (pB (ce_obj V g i j))), some (am_i (pB (i ≠ j))), u8, u9] [am_i (pB (ce_cc w sy V g i j ≠ -1 ∧ ce_sof sy g (ce_cc w sy V g i j) (V j) ≠ -1)), am_r (am_a 212)] (zS L, h)) g0
      (gx_b (ce_h (g, q) (ce_begin2 w sy K V P i j g)) (pc_tl K V P sy w f deep st i j (j + 1))) (pc_post K V P sy w Z g0 L deep q) := by
    unfold ce_begin2
    rw [q_7_68_14]
    refine pn_chk (d + 2) L N _ _ (fun hp => ?_)
    rw [N.wr]
    simp only [pB_0]
    by_cases hw : w = true
    · have hs := (hp hw).2
      have ecs : ce_cs w sy V g i j = ce_sof sy g (ce_cc w sy V g i j) (V j) := by unfold ce_cs; rw [if_pos hw]
      rw [if_neg (fun z => z hw), fi_sof (d + 2) L N.R.syq _ _ ((N.R.nm _).mpr hj) N.R.okh.2.2.2.2.2.1, p_xI, N.R.sof, ← ecs]
      refine e16 _ _ _ _ ?_
      rw [ecs]
      have hs' := hs
      unfold ce_sof at hs' ⊢
      split
      · rename_i z; rw [if_pos z] at hs'; exact absurd rfl hs'
      · rename_i z
        rw [if_neg z] at hs'
        unfold ce_sub at hs' ⊢
        rcases p_find2_rg (g 218) (g 219) (ce_cc w sy V g i j) (V j) (g 217 5).toNat 0 with y | ⟨y1, y2, -⟩
        · exact absurd y hs'
        · omega
    · have ecs : ce_cs w sy V g i j = 0 := by unfold ce_cs; rw [if_neg hw]
      rw [if_pos hw]
      have t := e16 (some (am_i (ce_cc w sy V g i j))) (some (am_i (V j))) u8 u9 (by omega)
      rw [ecs] at t ⊢
      exact t
  rw [q_7_68_12]
  by_cases c1 : ce_cc w sy V g i j = -1
  · rw [if_pos c1]; rw [pB_f (show ¬ (ce_cc w sy V g i j ≠ -1 ∧ ce_sof sy g (ce_cc w sy V g i j) (V j) ≠ -1) from fun z => z.1 c1)] at e14; exact e14
  · rw [if_neg c1, fi_sof (d + 2) L N.R.syq _ _ ((N.R.nm _).mpr hj) N.R.okh.2.2.2.2.2.1, p_xI, N.R.sof]
    by_cases c2 : ce_sof sy g (ce_cc w sy V g i j) (V j) = -1
    · rw [if_pos c2]; rw [pB_f (show ¬ (ce_cc w sy V g i j ≠ -1 ∧ ce_sof sy g (ce_cc w sy V g i j) (V j) ≠ -1) from fun z => z.2 c2)] at e14; exact e14
    · rw [if_neg c2]; rw [pB_t (show (ce_cc w sy V g i j ≠ -1 ∧ ce_sof sy g (ce_cc w sy V g i j) (V j) ≠ -1) from ⟨c1, c2⟩)] at e14; exact e14
end
