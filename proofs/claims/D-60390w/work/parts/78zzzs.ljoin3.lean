/-! LOAD, 18: load() of both sides -/
section
variable {N0 ws : List (List Int)} {sc ss : Nat → Int} {cc cs : Nat → Nat} {h : am_H}
theorem load_join (d e L : Nat) (hd : pc_ds 2 ≤ d + 5) (hcl : am_cl 168 ≤ 10000) (I : LST N0 ws sc ss cc cs h) (T : pt_R h) (x : Int) :
    ∃ r h1 h2, am_D (d + 12) 0 7 [am_r (am_a 1), am_i x] (zS L, h) = pI L r h1 ∧ am_D (e + 16) 17 68 [am_r (am_a 254), am_i x] (zS L, h1) = pI L r h2 ∧ LST N0 ws sc ss cc cs h2 ∧ pt_R h2 ∧ p_fr ldC ldF h h2 ∧ ((r = -1 ∧ h2 = h) ∨ ((0 < r ∧ h2 1 18 = 0 ∧ h2 254 71 = 0 ∨ r = 0 ∧ h2 1 18 = 1 ∧ h2 254 71 = 1 ∧ PGX h2 ∧ CMDS h2) ∧ h2 1 3 = h2 254 4)) := by
  obtain ⟨T1, T2, T3, T4⟩ := T
  by_cases cx : x < 0 ∨ h 1 2 < x
  · refine ⟨-1, h, h, ?_, ?_, I, ⟨T1, T2, T3, T4⟩, p_fr.refl h, Or.inl ⟨rfl, rfl⟩⟩
    · rw [D_0_7]
      by_cases z : x < 0
      · rw [if_pos z]
      · rw [if_neg z, if_pos (by omega)]
    · rw [D_17_68, D_17_3]
      by_cases z : x < 0
      · rw [if_pos z, p_bit0]
        show am_xI (zS L) (pI L 0 h) _ _ = _
        rw [p_xI, if_pos rfl]
      · rw [if_neg z, if_pos (by omega), p_bit0]
        show am_xI (zS L) (pI L 0 h) _ _ = _
        rw [p_xI, if_pos rfl]
  obtain ⟨n, rfl⟩ : ∃ n : Nat, x = (n : Int) := ⟨x.toNat, by omega⟩
  have hn : n ≤ 4000 := by omega
  have I0 := I
  have SFh := I.1
  have W : wo_row 170 ws := SFh.2.2.2.2.2.1.2.2.2.2
  have tr : ∀ k, k < n → 0 ≤ h 255 k ∧ h 255 k ≤ 255 := fun k hk => by have := T4 k (by omega); omega
  obtain ⟨hc, k', eqC, C⟩ := c_pre (L := L) (d := d) (t := h 255) I hn (by omega) (fun k hk => T4 k (by omega))
  obtain ⟨hm0, -, M0, ⟨m10, -, -⟩, fm0⟩ := m_pre (L := L) (h := h) (t := h 255) (n := n) e hn (by omega) (fun k hk => ⟨rfl, tr k hk⟩) W
  have i51 : 0 ≤ h 254 51 ∧ h 254 51 ≤ 142 := I.2.2.2.2.2.2.2
  obtain ⟨B0, TS0, out0⟩ := lo_at d e L L hd hcl I C hn M0 m10 (by rw [fm0 254 51 rfl rfl]; exact i51) ⟨fm0.cell 297 rfl rfl, fm0.cell 298 rfl rfl, fm0.cell 299 rfl rfl, fm0.cell 300 rfl rfl, fm0.cell 301 rfl rfl⟩ (n : Int) (some (am_i (n : Int)))
  have C' := C
  obtain ⟨LC, ⟨c83, c84, c12, c19, c2⟩, ⟨t213, t217, t15, t20, t21, t22, t23, t10⟩, A, fr, hi, p243, txt⟩ := C'
  have SFc := SF_agr A SFh
  -- the model behind the component
  have later : ∀ h1 : am_H, h1 254 = h 254 → h1 255 = h 255 → (∀ c, c = 297 ∨ c = 298 ∨ c = 299 ∨ c = 300 ∨ c = 301 → h1 c = h c) → ∃ hm1, am_D (e + 16) 17 68 [am_r (am_a 254), am_i (n : Int)] (zS L, h1) = mLd e L (n : Int) hm1 ∧ lm_S (h 255) n (lx_mods (h 255) n ws 1000 (n + 1) 0 0) hm1 ∧ (hm1 254 10 = 0 ∧ hm1 254 1 = 0 ∧ hm1 254 71 = 0) ∧ p_fr mpC mpF h1 hm1 ∧ (0 ≤ hm1 254 51 ∧ hm1 254 51 ≤ 142) ∧ (hm1 297 = h 297 ∧ hm1 298 = h 298 ∧ hm1 299 = h 299 ∧ hm1 300 = h 300 ∧ hm1 301 = h 301) := by
    intro h1 q1 q2 q3
    obtain ⟨hm1, r, M1, m1, fm1⟩ := m_pre (L := L) (h := h1) (t := h 255) (n := n) e hn (by rw [q1]; omega) (fun k hk => by rw [q2]; exact ⟨rfl, tr k hk⟩) W
    exact ⟨hm1, r, M1, m1, fm1, by rw [fm1 254 51 rfl rfl, q1]; exact i51, by rw [fm1.cell 297 rfl rfl]; exact q3 297 (by omega), by rw [fm1.cell 298 rfl rfl]; exact q3 298 (by omega), by rw [fm1.cell 299 rfl rfl]; exact q3 299 (by omega), by rw [fm1.cell 300 rfl rfl]; exact q3 300 (by omega), by rw [fm1.cell 301 rfl rfl]; exact q3 301 (by omega)⟩
  rcases out0 with ⟨y, h', g', hx, y0, r1, r2, r3, r4, ⟨r5, ok⟩, -⟩ | ⟨es, p, S, c0, c', hr, h1m, h', O, r1, ⟨r2, ok⟩, -⟩
  · -- a fault
    obtain ⟨h1, eh1⟩ : ∃ h1, h1 = am_up (am_up (am_up h' 1 18 0) 1 3 (h' 212 10)) 1 17 (h' 243 0) := ⟨_, rfl⟩
    have F1 : p_fr tlC (tlF ++ pc_pf) g' h1 := by
      rw [eh1]
      exact ((((r4.mono rfl rfl).upf _ _ _ rfl).upf _ _ _ rfl).upf _ _ _ rfl)
    have F0 : p_fr (prC ++ (pc_C ++ tlC)) ((212, 24) :: (prF ++ (pc_P ++ (tlF ++ pc_pf)))) h h1 := ((fr.mono rfl rfl).trans (r5.1.mono rfl rfl)).trans (F1.mono rfl rfl)
    obtain ⟨hm1, d1, M1, ⟨m1, m2, m3⟩, fm1, m51, m297⟩ := later h1 (F0.cell 254 rfl rfl) (F0.cell 255 rfl rfl) (fun c hc' => by rcases hc' with rfl | rfl | rfl | rfl | rfl <;> first | exact F0.cell 297 rfl rfl | exact F0.cell 298 rfl rfl | exact F0.cell 299 rfl rfl | exact F0.cell 300 rfl rfl | exact F0.cell 301 rfl rfl)
    obtain ⟨-, -, out1⟩ := lo_at d e L L hd hcl I C hn M1 m1 m51 m297 (n : Int) (some (am_i (n : Int)))
    rcases out1 with ⟨y', h'', g'', h2, -, s1, s2, s3, -, -, s6, s7, s8, s9⟩ | ⟨_, _, _, _, _, _, _, h'', -, s1, -, -⟩
    · obtain ⟨ey, eh⟩ := pI_inj (r1.symm.trans s1)
      subst eh
      have ep : y.2 = y'.2 := by rw [← r3, ← s3]
      have f2 : p_fr ([279, 303, 304, 305, 306, 307] ++ (mpC ++ mq_C)) ([(254, 71), (254, 74), (254, 76)] ++ (mpF ++ mq_F)) h1 h2 := (fm1.mono rfl rfl).trans (s8.mono rfl rfl)
      have Tt : TRS h1 := TRS_eq (h := h) (fun c hc' => by
        rcases hc' with rfl | rfl | rfl | rfl
        · rw [eh1, p_up_c _ _ _ _ _ (by decide), p_up_c _ _ _ _ _ (by decide), p_up_c _ _ _ _ _ (by decide), r4.cell 13 rfl rfl, r5.1.cell 13 rfl rfl, fr.cell 13 rfl rfl]
        · rw [eh1, p_up_c _ _ _ _ _ (by decide), p_up_c _ _ _ _ _ (by decide), p_up_c _ _ _ _ _ (by decide), r4.cell 14 rfl rfl, r5.1.cell 14 rfl rfl, fr.cell 14 rfl rfl]
        · rw [eh1, p_up_c _ _ _ _ _ (by decide), p_up_c _ _ _ _ _ (by decide), p_up_c _ _ _ _ _ (by decide), r4.cell 15 rfl rfl, r5.1.cell 15 rfl rfl, fr.cell 15 rfl rfl]
        · rw [eh1, p_up_c _ _ _ _ _ (by decide), p_up_c _ _ _ _ _ (by decide), p_up_c _ _ _ _ _ (by decide), r4.cell 16 rfl rfl, r5.1.cell 16 rfl rfl, fr.cell 16 rfl rfl]) I.2.2.2.2.2.2.1
      obtain ⟨LS, FL⟩ := ls_keep I C r5 ok F1 f2 Tt s9
      refine ⟨y.1, h1, h2, ?_, ?_, LS, ⟨?_, ?_, ?_, fun k hk => ?_⟩, FL, Or.inr ⟨Or.inl ⟨y0, ?_, ?_⟩, ?_⟩⟩
      · rw [eqC, r1, p_xI, if_neg (by omega), q_0_7_7, p_bit0, p_idx (by decide) (by decide), if_pos rfl, eh1]
        rfl
      · rw [d1, s6, ey]
      · have z1 : h2 1 2 = 0 := by rw [f2 1 2 rfl rfl, F1 1 2 rfl rfl, r5.1 1 2 rfl rfl]; exact c2
        rw [z1, s8 254 1 rfl rfl]; exact m2.symm
      · have z1 : h2 1 2 = 0 := by rw [f2 1 2 rfl rfl, F1 1 2 rfl rfl, r5.1 1 2 rfl rfl]; exact c2
        rw [z1]; decide
      · have z1 : h2 1 2 = 0 := by rw [f2 1 2 rfl rfl, F1 1 2 rfl rfl, r5.1 1 2 rfl rfl]; exact c2
        rw [z1]; decide
      · have z1 : h2 1 2 = 0 := by rw [f2 1 2 rfl rfl, F1 1 2 rfl rfl, r5.1 1 2 rfl rfl]; exact c2
        rw [z1] at hk; omega
      · rw [f2 1 18 rfl rfl, eh1, p_up_n _ _ _ _ _ _ (Or.inr (by decide)), p_up_n _ _ _ _ _ _ (Or.inr (by decide)), p_up_s]
      · rw [s8 254 71 rfl rfl]; exact m3
      · rw [f2 1 3 rfl rfl, eh1, p_up_n _ _ _ _ _ _ (Or.inr (by decide)), p_up_s, r3, s7, ep]
    · obtain ⟨ey, -⟩ := pI_inj (r1.symm.trans s1)
      omega
  · -- no fault
    have SFc' := SFc
    obtain ⟨⟨Yc, Ywc, Ync, Rc⟩, -, -, Skv, -, -, Sknc⟩ := SFc'
    rw [Rz_id t213 t217] at Skv Sknc
    obtain ⟨a297, a298, a299, a300, a301⟩ := And.intro A.2.2.2.1.2.1 (And.intro A.2.2.2.1.2.2.1 (And.intro A.2.2.2.1.2.2.2.1 (And.intro A.2.2.2.1.2.2.2.2.1 A.2.2.2.1.2.2.2.2.2)))
    -- what an okL gives
    have use : ∀ {hm : am_H} {es : List gx_V} {p : pr_S} {S : mi_S} {c0 : am_H} {c' : ce_S} {hr h1m : am_H}, mG (h 255) n (tkN (h 255) n N0) (hc 241) (hc 242) (hc 243) sc ss (tkZ (h 255) n N0) (hc 212 27) (hc 212 26) hm → (hm 297 = h 297 ∧ hm 298 = h 298 ∧ hm 299 = h 299 ∧ hm 300 = h 300 ∧ hm 301 = h 301) → okL (hc 241) (hc 243) (hc 242) sc ss cc cs 9 49 4 1572 152 (tkZ (h 255) n N0) (hc 212 27) (hc 212 26) hc hm es p S c0 c' hr h1m → p_fr [] pc_ps c'.1 h' → ∃ (g0 gx : am_H) (f : Nat → List (Int × Int × Int)) (a : Nat → Nat × List Nat) (N : Nat), S.1 254 33 = (N : Int) ∧ am_E (am_D (e + 15)) m_17_68 (.inl 7) [some (am_r (am_a 254)), some (am_i (n : Int)), some (am_i 0)] [] (zS L, h7m h1m) = pI L 0 g0 ∧ LDX (kM (hc 241) (tkZ (h 255) n N0)) (hc 243) (hc 242) sc ss (h 255) cs (gvh h') n g0 c0 p S c' f a ∧ mCp (h7m h1m) gx n N ∧ CM (am_up gx 254 76 0) g0 (tU (lH 49 c0 S.1) (lS (kM (hc 241) (tkZ (h 255) n N0)) (hc 243) (hc 242) sc ss cs 49 c0 S.1) (S.1 269) (p.1 3) N) ∧ ∀ v ∈ tU (lH 49 c0 S.1) (lS (kM (hc 241) (tkZ (h 255) n N0)) (hc 243) (hc 242) sc ss cs 49 c0 S.1) (S.1 269) (p.1 3) N, r16 v := by
      intro hm es p S c0 c' hr h1m B m297 O f'
      have hrm : rm pr_0 (mt_0 hm, -1, 0, [], []) := mt_rm (V := hc 242) (P := hc 243) (K' := kM (hc 241) (tkZ (h 255) n N0)) (Z := tkZ (h 255) n N0) ⟨B.1.mpT, B.2.2.2.2.2.2.1.1, B.2.2.2.2.2.2.1.2⟩ (-1) 0
      have hV : ∀ i, i < 1000 → kM (hc 241) (tkZ (h 255) n N0) i = 3 → 0 ≤ hc 242 i := fun i hi h3 => by
        have hz : i ≤ tkZ (h 255) n N0 := by
          apply Classical.byContradiction
          intro z
          unfold kM at h3
          rw [if_neg z] at h3; cases h3
        rw [kM_lt hi hz] at h3
        exact ((B.1.2.2.2.2.1 i hz).1.1 h3).1
      obtain ⟨SUE, -⟩ := su_end hrm O.1.1 O.1.2.1 O.1.2.2 O.2.2.1.2.2.1 hV
      have gh := gvh_of O f' (fun u hu => (SUE.1 u hu).1.1)
      have Yg : SY 9 49 sc ss cc cs hm hc := SY_h (by rw [m297.1, a297]) (by rw [m297.2.2.2.1, a300]) (by rw [m297.2.2.2.2, a301]) Yc
      have Syn : SYn cs hm := by
        unfold SYn at Ync ⊢
        rw [m297.1, m297.2.2.2.1, m297.2.2.2.2, ← a297, ← a300, ← a301]
        exact Ync
      exact ok_ldx (e + 11) L (some (am_i (n : Int))) B O Skv t213 t217 Yg Sknc Syn p243 TS0 (fun u hu => (gh u hu).2)
    have m0 : hm0 297 = h 297 ∧ hm0 298 = h 298 ∧ hm0 299 = h 299 ∧ hm0 300 = h 300 ∧ hm0 301 = h 301 := ⟨fm0.cell 297 rfl rfl, fm0.cell 298 rfl rfl, fm0.cell 299 rfl rfl, fm0.cell 300 rfl rfl, fm0.cell 301 rfl rfl⟩
    obtain ⟨g00, gx0, f0, a0, N00, hN0, -, X0, -⟩ := use B0 m0 O r2
    obtain ⟨h1, lab, fs, w, u, q1, U1, ⟨un, um, u2, u0⟩, U2, sy, wd, T2', ⟨v18, v3, v17⟩, f1⟩ := comp_ok (d + 4) L (u1 := some (am_i (n : Int))) (u3 := none) (x2 := 0) I C O r2 X0 hN0
    have cq := O.2.2.1.2.2.2.2.2.2
    have F1 : p_fr tlC (tlF ++ pc_pf) c'.1 h1 := (r2.mono rfl rfl).trans (f1.mono rfl rfl)
    have F0 : p_fr (prC ++ (pc_C ++ tlC)) ((212, 24) :: (prF ++ (pc_P ++ (tlF ++ pc_pf)))) h h1 := ((fr.mono rfl rfl).trans (cq.1.mono rfl rfl)).trans (F1.mono rfl rfl)
    obtain ⟨hm1, d1, M1, ⟨m1, m2, m3⟩, fm1, m51, m297⟩ := later h1 (F0.cell 254 rfl rfl) (F0.cell 255 rfl rfl) (fun c hc' => by rcases hc' with rfl | rfl | rfl | rfl | rfl <;> first | exact F0.cell 297 rfl rfl | exact F0.cell 298 rfl rfl | exact F0.cell 299 rfl rfl | exact F0.cell 300 rfl rfl | exact F0.cell 301 rfl rfl)
    obtain ⟨B1, -, out1⟩ := lo_at d e L L hd hcl I C hn M1 m1 m51 m297 (n : Int) (some (am_i (n : Int)))
    rcases out1 with ⟨y', h'', g'', h2, y0', s1, -⟩ | ⟨es2, p2, S2, c02, c2', hr2, h1m2, h'', O2, s1, ⟨s2, ok2⟩, s3⟩
    · obtain ⟨ey, -⟩ := pI_inj (r1.symm.trans s1)
      omega
    obtain ⟨-, eh⟩ := pI_inj (r1.symm.trans s1)
    subst eh
    obtain ⟨h2, gx, f, a, N, hN, q2, X, M, CMx, r16x⟩ := use B1 m297 O2 s2
    have lHR := ls_HR X hN (h' := h') (fun c hc' => by rcases hc' with rfl | rfl | rfl | rfl <;> first | exact s2.cell 8 rfl rfl | exact s2.cell 9 rfl rfl | exact s2.cell 10 rfl rfl | exact s2.cell 11 rfl rfl)
    rw [← lHR] at U1
    -- what the model's load() changes
    obtain ⟨-, ⟨FT2, -⟩, ⟨-, R22, -⟩, ⟨hA2, xx1, xx2, fr2, lv2⟩, mo2, mc2, mne2, e72, e69⟩ := O2
    have f2 : p_fr ([279, 303, 304, 305, 306, 307] ++ (mpC ++ mq_C)) ([(254, 71), (254, 74), (254, 76)] ++ (mpF ++ mq_F)) h1 h2 := by
      have x1 : p_fr ([279, 303, 304, 305, 306, 307] ++ (mpC ++ mq_C)) ([(254, 71), (254, 74), (254, 76)] ++ (mpF ++ mq_F)) h1 h1m2 := (fm1.mono rfl rfl).trans (fr2.mono rfl rfl)
      have x2 : p_fr ([279, 303, 304, 305, 306, 307] ++ (mpC ++ mq_C)) ([(254, 71), (254, 74), (254, 76)] ++ (mpF ++ mq_F)) h1 (h7m h1m2) := by
        unfold h7m
        exact ((((x1.upf _ _ _ rfl).upf _ _ _ rfl).upf _ _ _ rfl).upf _ _ _ rfl)
      refine x2.trans (fun c k hc' hf => ?_)
      have nc : c ≠ 279 ∧ c ≠ 303 ∧ c ≠ 304 ∧ c ≠ 305 ∧ c ≠ 306 ∧ c ≠ 307 := by
        refine ⟨?_, ?_, ?_, ?_, ?_, ?_⟩ <;> (rintro rfl; revert hc'; decide)
      by_cases z : c = 254
      · subst z
        have k76 : k ≠ 76 := by
          rintro rfl
          revert hf; decide
        rw [CMx.2.2.2.1 k k76, p_up_n _ _ _ _ _ _ (Or.inr k76), M.1 254 (by decide) (by decide) (by decide)]
      · rw [CMx.2.2.2.2 c z nc.2.2.2.1 nc.2.2.2.2.1 nc.2.2.2.2.2, p_up_c _ _ _ _ _ z, M.1 c nc.1 nc.2.1 nc.2.2.1]
    have k254 : ∀ k, k ≠ 76 → h2 254 k = h7m h1m2 254 k := fun k k76 => by rw [CMx.2.2.2.1 k k76, p_up_n _ _ _ _ _ _ (Or.inr k76), M.1 254 (by decide) (by decide) (by decide)]
    have l51 : 0 ≤ h2 254 51 ∧ h2 254 51 ≤ 142 := by
      rw [k254 51 (by decide)]
      unfold h7m
      rw [p_up_n _ _ _ _ _ _ (Or.inr (by decide)), p_up_n _ _ _ _ _ _ (Or.inr (by decide)), p_up_n _ _ _ _ _ _ (Or.inr (by decide)), p_up_n _ _ _ _ _ _ (Or.inr (by decide))]
      exact lv2
    obtain ⟨LS, FL⟩ := ls_keep I C cq ok F1 f2 T2' l51
    have z1 : h2 1 2 = 0 := by rw [f2 1 2 rfl rfl, f1 1 2 rfl rfl, r2 1 2 rfl rfl, cq.1 1 2 rfl rfl]; exact c2
    have z2 : h2 254 1 = 0 := by
      rw [k254 1 (by decide)]
      unfold h7m
      rw [p_up_n _ _ _ _ _ _ (Or.inr (by decide)), p_up_n _ _ _ _ _ _ (Or.inr (by decide)), p_up_n _ _ _ _ _ _ (Or.inr (by decide)), p_up_n _ _ _ _ _ _ (Or.inr (by decide)), fr2 254 1 rfl rfl]; exact m2
    have e71 : h2 254 71 = 1 := by
      rw [k254 71 (by decide)]
      unfold h7m
      rw [p_up_n _ _ _ _ _ _ (Or.inr (by decide)), p_up_s]
    have e4 : h2 254 4 = -1 := by
      rw [k254 4 (by decide)]
      unfold h7m
      rw [p_up_n _ _ _ _ _ _ (Or.inr (by decide)), p_up_n _ _ _ _ _ _ (Or.inr (by decide)), p_up_s]
    have e74 : h2 254 74 = hc 243 0 := by
      rw [k254 74 (by decide)]
      unfold h7m
      rw [p_up_s, fr2.cell 258 rfl rfl]
      exact (B1.1.2.2.2.2.2.2.1 0 (Nat.zero_le _)).2.1
    have e72' : h2 254 72 = m_mainf (hc 242) (hc 212 27) (hc 212 26) S2.1 (S2.1 254 17).toNat 0 (-1) := by
      rw [k254 72 (by decide)]
      unfold h7m
      rw [p_up_n _ _ _ _ _ _ (Or.inr (by decide)), p_up_n _ _ _ _ _ _ (Or.inr (by decide)), p_up_n _ _ _ _ _ _ (Or.inr (by decide)), p_up_n _ _ _ _ _ _ (Or.inr (by decide))]; exact e72
    -- the main sub, by the second reading
    have mcu : (49 : Int) + m_mainf (hc 242) (hc 212 27) (hc 212 26) S2.1 (S2.1 254 17).toNat 0 (-1) = ((49 + u : Nat) : Int) := by
      have c00 := O.2.2.1.2.1.1
      have mA : mainC c0 = mainC c02 := by
        have tA := tab_eq c00.1 c00.2
        have tB := tab_eq R22.1.1 R22.1.2
        have e8 : ∀ a, 213 ≤ a → a ≤ 222 → c0 a = c02 a := fun a q1 q2 => by
          rw [← c00.1 a (by omega), ← R22.1.1 a (by omega)]
          funext j
          have w1 := r2 a j rfl (by simp [pc_ps]; omega)
          have w2 := s2 a j rfl (by simp [pc_ps]; omega)
          rw [← w1, ← w2]
        have e9 : ∀ k, 19 ≤ k → c0 212 k = c02 212 k := fun k q1 => by
          rw [← c00.2 k q1, ← R22.1.2 k q1]
          have w1 := r2 212 k rfl (by simp [pc_ps]; omega)
          have w2 := s2 212 k rfl (by simp [pc_ps]; omega)
          rw [← w1, ← w2]
        unfold mainC ce_own ce_sub
        rw [e8 213 (by decide) (by decide), e8 214 (by decide) (by decide), e8 217 (by decide) (by decide), e8 218 (by decide) (by decide), e8 219 (by decide) (by decide), e9 20 (by decide), e9 26 (by decide), e9 27 (by decide)]
      have mcA := O.2.2.2.2.2.1
      rw [mA, mc2, um] at mcA
      omega
    have eu : m_mainf (hc 242) (hc 212 27) (hc 212 26) S2.1 (S2.1 254 17).toNat 0 (-1) = (u : Int) := by omega
    obtain ⟨un2, mo22, mo23⟩ : u < p2.1 3 ∧ S2.1 264 u = 2 ∧ S2.1 267 u = 0 := by
      have h17 := FT2.1.2.1
      have lt : u < p2.1 3 := by
        apply Classical.byContradiction
        intro z
        have key : ∀ (m s : Nat) (r : Int), (r = -1 ∨ 0 ≤ r ∧ r < ((s + m : Nat) : Int)) → (m_mainf (hc 242) (hc 212 27) (hc 212 26) S2.1 m s r = -1 ∨ 0 ≤ m_mainf (hc 242) (hc 212 27) (hc 212 26) S2.1 m s r ∧ m_mainf (hc 242) (hc 212 27) (hc 212 26) S2.1 m s r < ((s + m : Nat) : Int)) := by
          intro m
          induction m with
          | zero => intro s r hr; exact hr
          | succ m ih =>
            intro s r hr
            unfold m_mainf
            rw [show s + (m + 1) = s + 1 + m by omega]
            refine ih (s + 1) _ ?_
            split
            · right; omega
            · rcases hr with z | z
              · exact Or.inl z
              · right; omega
        have := key (S2.1 254 17).toNat 0 (-1) (Or.inl rfl)
        omega
      obtain ⟨mm1, mm2, mm3⟩ := mo2
      rw [mc2, eu, show (((49 : Nat) : Int) + (u : Int)).toNat = 49 + u by omega] at mm2 mm3
      refine ⟨lt, ?_, ?_⟩
      · rw [← (FT2.2.2 u lt).2.1.2.2.1]; exact mm2
      · rw [← (FT2.2.2 u lt).2.2]; exact mm3
    have e13 : h2 13 = h1 13 := f2.cell 13 rfl rfl
    have e16 : h2 16 = h1 16 := f2.cell 16 rfl rfl
    have PG : PGX h2 := by
      refine ⟨lab, fs, gvh h', a, hc 243, fun k => frs S2.1 k = true, qpl c02 S2.1 f 9623, N, u, w, ?_, ?_, ⟨?_, ?_, by rw [e72', eu]⟩, ?_, ⟨sy.1.eq e13 e16, ?_, sy.2.2⟩, wd.eq e13 e16, ?_⟩
      · intro k hk
        rw [ItF_eq (h := h1) (g := h2) e13 e16 (fun _ _ => rfl)]
        exact pg_item X hN U1 k hk
      · rw [SubF_eq (h := h1) (g := h2) e13 e16 (fun _ _ => rfl)]
        exact pg_sub X hN U1 un2
      · rw [X.2.1.1 264 (by omega)]; exact mo22
      · rw [X.2.1.1 267 (by omega)]; exact mo23
      · rw [LU_eq e13 e16]; exact U2
      · exact fun s q hq => by
          obtain ⟨y1, y2, y3⟩ := sy.2.1 s q hq
          exact ⟨y1.eq e13 e16, y2, y3.eq e13 e16⟩
      · rw [f2 1 17 rfl rfl, v17, e74]
    have CD : CMDS h2 := by
      have LI2 := X.1.1.1
      obtain ⟨hqp, -⟩ := sb_fact X hN
      have l1 := LI2.2.1
      have l2 := LI2.2.2
      rw [hqp, hN, Int.toNat_natCast] at l1 l2
      have c235 : ∀ c, c = 235 ∨ c = 236 ∨ c = 237 ∨ c = 238 → h2 c = c2'.1 c := fun c hc' => by
        rcases hc' with rfl | rfl | rfl | rfl
        · rw [f2.cell 235 rfl rfl, f1.cell 235 rfl rfl, s2.cell 235 rfl rfl]
        · rw [f2.cell 236 rfl rfl, f1.cell 236 rfl rfl, s2.cell 236 rfl rfl]
        · rw [f2.cell 237 rfl rfl, f1.cell 237 rfl rfl, s2.cell 237 rfl rfl]
        · rw [f2.cell 238 rfl rfl, f1.cell 238 rfl rfl, s2.cell 238 rfl rfl]
      have e76 : am_up gx 254 76 0 254 76 = 0 := p_up_s _ _ _ _
      refine ⟨_, ⟨by rw [c235 235 (by omega)]; exact l1, fun j v hj => ?_⟩, by rw [CMx.1, e76, Int.zero_add], fun j v hj => ?_⟩
      · show h2 236 (0 + j) = _ ∧ h2 237 (0 + j) = _ ∧ h2 238 (0 + j) = _
        rw [c235 236 (by omega), c235 237 (by omega), c235 238 (by omega)]
        exact l2 j v hj
      · have := CMx.2.1 j v hj
        rw [e76] at this
        refine ⟨by rw [show j = (0 : Int).toNat + j by simp]; exact this, r16x v (List.mem_of_getElem? hj), ?_⟩
        have o3 := ok2.2.2.1
        omega
    refine ⟨0, h1, h2, ?_, ?_, LS, ⟨by rw [z1, z2], by rw [z1]; decide, by rw [z1]; decide, fun k hk => by rw [z1] at hk; omega⟩, FL, Or.inr ⟨Or.inr ⟨rfl, by rw [f2 1 18 rfl rfl]; exact v18, e71, PG, CD⟩, by rw [f2 1 3 rfl rfl, v3, e4]⟩⟩
    · rw [eqC, r1, p_xI, if_pos rfl]
      exact q1
    · rw [d1, s3, q2]
end
