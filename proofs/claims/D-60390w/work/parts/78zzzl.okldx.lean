/-! LOAD, 11: a text without faults: all that stands behind both loads -/
section
variable {K P V sc ss t : Nat → Int} {cc cs : Nat → Nat} {gv : Nat → Nat} {n Z : Nat} {F : List (List Int)} {mn mM : Int} {g hm : am_H} {es : List gx_V} {p : pr_S} {S : mi_S} {c0 : am_H} {c' : ce_S} {hr h1 : am_H}
theorem pr_fold_le {K V : Nat → Int} {pE : pr_S} : ∀ (es : List gx_V) (p : pr_S), (∀ k, p.2.2.2 k ≤ 2100) → gx_fold (pr pw K V) es p = .inr pE → ∀ k, pE.2.2.2 k ≤ 2100
  | [], p, hp, h => by cases h; exact hp
  | e :: es, p, hp, h => by
    obtain ⟨p1, a1, a2⟩ := gx_b_ok h
    exact pr_fold_le es p1 (pr_le a1) a2
theorem su_end {K : Nat → Int} {b15 b21 : Nat} {pE : pr_S} (hrm : rm pr_0 (mt_0 hm, -1, 0, [], [])) (h1 : gx_fold (pr pw K V) es pr_0 = .inr pE) (h9 : pE.1 9 = 0 ∨ pE.1 9 = 3) (m1 : gx_fold (mi V) es (mt_0 hm, -1, 0, [], []) = .inr S) (T : TR K P V sc ss cs b21 b15 S.1 c0 es pr_0 (mt_0 hm, -1, 0, [], []) (c0, 0, 0, 0, 0, 0, []) c') (hV : ∀ i, i < 1000 → K i = 3 → 0 ≤ V i) : SU S.1 pE S ∧ rv K pE S := by
  have HK := hk_end h1 h9 m1
  have B0 : bd K V pE S es pr_0 (mt_0 hm, -1, 0, [], []) (c0, 0, 0, 0, 0, 0, []) := ⟨⟨h1, m1⟩, ⟨rv_0 (-1) 0 rfl, hrm, pq_0, pBd_0, po_0⟩, trivial, ⟨trivial, fun _ => rfl⟩, fun z => absurd z (by decide), fun z => absurd z (by decide)⟩
  exact tr_ind (P := P) (sc := sc) (ss := ss) (cs := cs) (b21 := b21) (b15 := b15) (c0 := c0) (Inv := fun p s _ => SU S.1 p s ∧ rv K p s) HK hV (fun e es p p1 s s1 c c1 B hp hm hc B1 M1 Y1 ⟨i1, _⟩ => ⟨SU_ev B hp hm B1 M1 i1, B1.2.1.1⟩) es B0 T ⟨⟨fun a ha => absurd ha (Nat.not_lt_zero a), fun a ha => absurd ha (Nat.not_lt_zero a), fun z => absurd z (by decide), fun z => absurd z (by decide), fun _ => rfl, fun b hb => (by cases hb)⟩, rv_0 (-1) 0 rfl⟩
/-- the heap where the rest of the model's load() begins -/
def h7m (h1 : am_H) : am_H := am_up (am_up (am_up (am_up h1 254 4 (h1 254 70)) 254 4 (-1)) 254 71 1) 254 74 (h1 258 0)
theorem ok_ldx (d L2 : Nat) (u1 : Option am_V) (B : mG t n F K V P sc ss Z mn mM hm) (O : okL K P V sc ss cc cs 9 49 4 1572 152 Z mn mM g hm es p S c0 c' hr h1) (Sk : SKv g) (g3 : g 213 3 = 9) (g5 : g 217 5 = 49) (Yg : SY 9 49 sc ss cc cs hm g) (Skn : SKn g) (Sy : SYn cs hm) (TX1 : ∀ i, 0 ≤ P i ∧ P i ≤ 16000) (TS : ∀ i, i ≤ Z → K i = 4 → ∀ j, j < (V i).toNat → g 3 ((P i + 1).toNat + j) = t ((P i + 1).toNat + j) ∧ 0 ≤ t ((P i + 1).toNat + j) ∧ t ((P i + 1).toNat + j) ≤ 255) (hgv : ∀ u, u < p.1 3 → gv (49 + u) = (S.1 267 u).toNat + (if S.1 264 u = 3 then 1 else 0)) :
    ∃ (g0 gx : am_H) (f : Nat → List (Int × Int × Int)) (a : Nat → Nat × List Nat) (N : Nat), S.1 254 33 = (N : Int) ∧ am_E (am_D (d + 4)) m_17_68 (.inl 7) [some (am_r (am_a 254)), u1, some (am_i 0)] [] (zS L2, h7m h1) = pI L2 0 g0 ∧ LDX (kM K Z) P V sc ss t cs gv n g0 c0 p S c' f a ∧ mCp (h7m h1) gx n N ∧ CM (am_up gx 254 76 0) g0 (tU (lH 49 c0 S.1) (lS (kM K Z) P V sc ss cs 49 c0 S.1) (S.1 269) (p.1 3) N) ∧ ∀ v ∈ tU (lH 49 c0 S.1) (lS (kM K Z) P V sc ss cs 49 c0 S.1) (S.1 269) (p.1 3) N, r16 v := by
  have B' := B
  obtain ⟨Tk, ht, Yw, m1, m2, h300, ⟨p10, p51⟩, p3⟩ := B
  have Tk0 := Tk
  obtain ⟨⟨tF, tF2, tn⟩, tk1, tk2, tk3, tk4, tk5, tk6, tk7⟩ := Tk
  obtain ⟨⟨f1, f2, f3⟩, ⟨FT0, SY0, SKn0, U0⟩, ⟨nl, R2, TR0, q1, q2, q3, cq⟩, ⟨hA0, x1, x2, fr0, lv⟩, -⟩ := O
  have hrm : rm pr_0 (mt_0 hm, -1, 0, [], []) := mt_rm (V := V) (P := P) (K' := kM K Z) (Z := Z) ⟨Tk0.mpT, p10, p51⟩ (-1) 0
  have kle : ∀ i, kM K Z i ≠ 0 → i ≤ Z := fun i hi => by
    apply Classical.byContradiction
    intro z
    apply hi
    unfold kM
    rw [if_neg z]
  have kk : ∀ i, i < 1000 → i ≤ Z → kM K Z i = K i := fun i h1 h2 => kM_lt h1 h2
  have hV : ∀ i, i < 1000 → kM K Z i = 3 → 0 ≤ V i := fun i hi h3 => by
    have hz := kle i (by rw [h3]; decide)
    rw [kk i hi hz] at h3
    exact ((tk4 i hz).1.1 h3).1
  obtain ⟨SUE, Rv⟩ := su_end hrm f1 f2 f3 TR0 hV
  have hw := pr_fold_le es pr_0 (fun k => Nat.zero_le _) f1
  have NN : noN (kM K Z) P V sc ss S.1 S.1 := R2.2.2.2.1.2.2.2
  have RR := R2.2.2.2.2.1
  have p8 : p.1 8 ≤ 300 := RR.2.2.2.2.2.1
  have c235 : c'.1 235 3 ≤ 2700 := by have := RR.2.1.2; have := RR.2.2.2.2.2.2.2.1; omega
  -- tables of the system
  have sEq : ∀ c, c = 297 ∨ c = 300 ∨ c = 301 → S.1 c = hm c := fun c hc => by
    have e1 : h1 c = hm c := by
      funext j
      refine fr0 c j ?_ ?_
      · rcases hc with rfl | rfl | rfl <;> rfl
      · rcases hc with rfl | rfl | rfl <;> rfl
    have e2 : h1 c = S.1 c := by rw [x1 c (by omega), (ml_x_v (K := kM K Z) (nm := V) (sc := sc) (ss := ss) (h := hr)).1 c (by omega) (by omega) (by omega), hA0.1 c (by omega) (by omega) (by omega) (by omega)]
    rw [← e2, e1]
  have Sy' : SYn cs S.1 := by
    unfold SYn
    rw [sEq 297 (by omega), sEq 300 (by omega), sEq 301 (by omega)]
    exact Sy
  have h297 : ∀ q, q < 8 → 0 ≤ S.1 297 q ∧ S.1 297 q ≤ S.1 297 (q + 1) := by
    rw [sEq 297 (by omega)]
    exact fun q hq => ⟨(Yw.2.2.1 q hq).1, (Yw.2.2.1 q hq).2.1⟩
  have h297b : S.1 297 8 ≤ 60 ∧ ∀ q, q < 8 → S.1 297 (q + 1) ≤ S.1 297 8 := by
    rw [sEq 297 (by omega)]
    exact ⟨Yw.2.2.2, fun q hq => (Yw.2.2.1 q hq).2.2⟩
  have Skc : SKv c0 := by
    obtain ⟨⟨k1, k2, k3, k4, k5⟩, n3, n15, n20, n10, n11⟩ := Sk
    obtain ⟨u1, u2, u3, u4⟩ := U0
    have e24 : ∀ a b, a ≠ 24 → b ≠ 24 → sysS (am_up c0 212 24 (g 212 24)) a b = sysS c0 a b := fun a b ha hb => by
      have e : ∀ a, a ≠ 212 → am_up c0 212 24 (g 212 24) a = c0 a := fun a ha => p_up_c _ _ _ _ _ ha
      unfold sysS ce_sub ce_cls
      rw [e 213 (by decide), e 214 (by decide), e 217 (by decide), e 218 (by decide), e 219 (by decide), p_up_n _ _ _ _ _ _ (Or.inr ha), p_up_n _ _ _ _ _ _ (Or.inr hb)]
    have d1 : ((9 : Nat) : Int) ≤ am_up c0 212 24 (g 212 24) 213 3 := by
      rw [p_up_c _ _ _ _ _ (by decide), FT0.1.2.2.1]; omega
    have d2 : ((49 : Nat) : Int) ≤ am_up c0 212 24 (g 212 24) 217 5 := by
      rw [p_up_c _ _ _ _ _ (by decide), FT0.1.2.2.2.1]; omega
    have tt : ∀ a b, 19 ≤ a → 19 ≤ b → a ≠ 24 → b ≠ 24 → sysS g a b ≠ -1 → sysS c0 a b = sysS g a b := fun a b ha hb ha2 hb2 hne => by
      rw [← e24 a b ha2 hb2]
      exact sysS_fr Yg ⟨u1, u2, u3, u4⟩ g3 g5 d1 d2 ha hb hne
    have e222 : ∀ k, k < 49 → c0 222 k = g 222 k := fun k hk => by
      have := (u2 k hk).2.2.2.2
      rw [p_up_c _ _ _ _ _ (by decide)] at this
      exact this
    refine ⟨⟨?_, ?_, ?_, ?_, ?_⟩, by rw [e222 3 (by decide)]; exact n3, by rw [e222 15 (by decide)]; exact n15, by rw [e222 20 (by decide)]; exact n20, by rw [e222 10 (by decide)]; exact n10, by rw [e222 11 (by decide)]; exact n11⟩
    · rw [tt 28 29 (by decide) (by decide) (by decide) (by decide) (by rw [k1]; decide)]; exact k1
    · rw [tt 30 31 (by decide) (by decide) (by decide) (by decide) (by rw [k2]; decide)]; exact k2
    · rw [tt 30 32 (by decide) (by decide) (by decide) (by decide) (by rw [k3]; decide)]; exact k3
    · rw [tt 33 34 (by decide) (by decide) (by decide) (by decide) (by rw [k4]; decide)]; exact k4
    · rw [tt 33 35 (by decide) (by decide) (by decide) (by decide) (by rw [k5]; decide)]; exact k5
  have c03 : c0 3 = g 3 := by
    have := U0.2.2.1 3 (by omega)
    rw [p_up_c _ _ _ _ _ (by decide)] at this
    exact this
  have TX : TXF (kM K Z) P V t n c0 := by
    refine ⟨tn, TX1, fun i hi h3 => ?_, fun i hi h4 => ?_⟩
    · have hz := kle i (by rw [h3]; decide)
      rw [kk i hi hz] at h3
      exact (tk4 i hz).1.1 h3
    · have hz := kle i (by rw [h4]; decide)
      rw [kk i hi hz] at h4
      have l := (tk4 i hz).1.2.1 h4
      refine ⟨l.2.1, l.2.2, fun j hj => ?_⟩
      rw [c03]
      exact TS i hz h4 j hj
  -- counts of calls
  have HC : ∀ k : Nat, (k : Int) < S.1 254 39 → S.1 284 k ≤ 12 := by
    intro k hk
    obtain ⟨⟨y1, y2⟩, ⟨y3, y3'⟩, -⟩ := ck_of (NN.2.2.2.2 k hk)
    have kc0 := m_kc_in (K := kM K Z) (V := V) (sc := sc) (S := S.1) (k := k) Rv.1.1.1 (fun s hs => (Rv.1.2.1.2 s hs).2.1.1) (Rv.1.2.2.2.2.2 k hk).1 y1
    obtain ⟨u, u1, u2, u3⟩ := sof_in (V := V) (ss := ss) (S := S.1) Rv.1.2.1.1 h297 kc0 y2
    rw [u1] at y3'
    by_cases c8 : m_kc (kM K Z) V sc S.1 k < 8
    · obtain ⟨z1, z2⟩ := u2 c8
      obtain ⟨li, nn, s1, s2, s3, s4, s5⟩ := Sy' (m_kc (kM K Z) V sc S.1 k).toNat u (by omega) z1 z2
      rw [← y3']; unfold m_mo; rw [if_pos c8, Int.toNat_natCast]; omega
    · have un := u3 (by omega)
      have := SUE.1 u (by have := Rv.2.1.2.1; omega)
      rw [← y3']; unfold m_mo; rw [if_neg c8, Int.toNat_natCast]; omega
  obtain ⟨f, a, EF⟩ := ld_end (bv := 1572) (bl := 152) hrm f1 f2 f3 TR0 q1 q2 q3 hV HC
  have EF' := EF
  obtain ⟨⟨LI0, IFs, VRS, SBs⟩, ⟨FRs, JDs, WIs, SUs, CLs, NEs⟩, -, -, Rm, pl0⟩ := EF
  obtain ⟨N, hN⟩ : ∃ N : Nat, S.1 254 33 = (N : Int) := ⟨(S.1 254 33).toNat, by have := Rv.1.2.2.2.1.1; omega⟩
  have hN5 : N ≤ 2100 := by have := Rm.1; have := hw 0; omega
  have hp3 : p.1 3 ≤ 60 := Rv.2.1.2.2.2.2.1
  have h7c : ∀ a, a ≠ 254 → h7m h1 a = h1 a := fun a ha => by unfold h7m; rw [p_up_c _ _ _ _ _ ha, p_up_c _ _ _ _ _ ha, p_up_c _ _ _ _ _ ha, p_up_c _ _ _ _ _ ha]
  have h7f : ∀ j, j ≠ 4 → j ≠ 71 → j ≠ 74 → h7m h1 254 j = h1 254 j := fun j q1 q2 q3 => by unfold h7m; rw [p_up_n _ _ _ _ _ _ (Or.inr q3), p_up_n _ _ _ _ _ _ (Or.inr q2), p_up_n _ _ _ _ _ _ (Or.inr q1), p_up_n _ _ _ _ _ _ (Or.inr q1)]
  have mk : ∀ {gg gz : am_H} {l : List (Int × Int × Int)}, mCp (h7m h1) gg n N → CM (am_up gg 254 76 0) gz l → LDX (kM K Z) P V sc ss t cs gv n gz c0 p S c' f a := fun {gg gz l} M C =>
    ⟨EF', MV_of B' hA0 x1 x2 fr0 Rv.1 IFs h7c h7f hN M C, NN, Skc, Sy', TX, h297, hgv, f2, p8, hw⟩
  have h280 : ∀ k, k < N → h7m h1 280 k = hr 280 k := fun k hk => by rw [h7c 280 (by decide), x1 280 (by decide), (ml_x_v (K := kM K Z) (nm := V) (sc := sc) (ss := ss) (h := hr)).1 280 (by decide) (by decide) (by decide)]
  have e277 : h7m h1 277 = S.1 277 := by rw [h7c 277 (by decide), x1 277 (by decide), (ml_x_v (K := kM K Z) (nm := V) (sc := sc) (ss := ss) (h := hr)).1 277 (by decide) (by decide) (by decide), hA0.1 277 (by decide) (by decide) (by decide) (by decide)]
  have e254 : ∀ j, j = 17 ∨ j = 33 → h7m h1 254 j = S.1 254 j := fun j hj => by rw [h7f j (by omega) (by omega) (by omega), x2 j (by omega) (by omega) (by omega)]; exact hA0.2.1 j (by omega) (by omega) (by omega) (by omega) (by omega) (by omega) (by omega) (by omega) (by omega) (by omega)
  have e3 : h7m h1 254 3 = (n : Int) := by
    rw [h7f 3 (by decide) (by decide) (by decide), fr0 254 3 rfl rfl]; exact p3
  have tlen : ∀ {gz : am_H}, LDX (kM K Z) P V sc ss t cs gv n gz c0 p S c' f a → tU (hM gz) (lM gz) (S.1 269) (p.1 3) N = tU (lH 49 c0 S.1) (lS (kM K Z) P V sc ss cs 49 c0 S.1) (S.1 269) (p.1 3) N := fun {gz} X => by
    obtain ⟨c1, c2⟩ := cm_ok X hN FT0 SY0 h297b
    obtain ⟨hqp, s1, s2, -⟩ := sb_fact X hN
    have key : ∀ s k, s ≤ p.1 3 → k ≤ N → tU (hM gz) (lM gz) (S.1 269) s k = tU (lH 49 c0 S.1) (lS (kM K Z) P V sc ss cs 49 c0 S.1) (S.1 269) s k := by
      intro s
      induction s with
      | zero => intro k _ _; rfl
      | succ s ih =>
        intro k hs hk
        have := s1 s (by omega)
        rw [tU_sub, tU_sub, ih _ (by omega) (by omega), (c2 s (by omega)).2, rgn_congr (it := lM gz) (it' := lS (kM K Z) P V sc ss cs 49 c0 S.1) (fun j h1 h2 => (c1 j (by omega)).2)]
    exact key _ _ (Nat.le_refl _) (Nat.le_refl _)
  obtain ⟨gx, g0, M, r, C⟩ := m_rest (L := L2) (d := d) (u1 := u1) (n := n) (N := N) (n3 := p.1 3) (h := h7m h1) tn (by omega) e3 (by rw [e254 33 (by omega)]; exact hN) (fun k hk => by
      rw [h280 k hk]
      have := (hA0.2.2.1 k (by omega)).2; omega) (fun k hk h1' => by
      rw [e277] at h1'
      obtain ⟨y1, y2, y3, y4, y5⟩ := (IFs k (by omega)).2.2.1 h1'
      have y2 : (S.1 280 k).toNat < 1000 := y2
      have y3 : kM K Z (S.1 280 k).toNat = 4 := y3
      have zz := kle _ (show kM K Z (S.1 280 k).toNat ≠ 0 by rw [y3]; decide)
      have kK : K (S.1 280 k).toNat = 4 := by rw [← kk _ y2 zz]; exact y3
      have e259 : h7m h1 259 = hm 259 := by
        rw [h7c 259 (by decide)]
        funext j
        exact fr0 259 j rfl rfl
      rw [h280 k hk, (hA0.2.2.1 k (by omega)).1 (by unfold mp_rel; omega), e259, (tk6 _ zz).2.2.2 kK (by rw [y3]; decide)]
      have l := (tk4 _ zz).1.2.1 kK
      have l1 : 0 ≤ V (S.1 280 k).toNat := l.1
      have l2 : V (S.1 280 k).toNat ≤ 60 := l.2.1
      omega) (fun gg M => by
      have X := mk M (CM.nil _)
      obtain ⟨c1, c2⟩ := cm_ok X hN FT0 SY0 h297b
      obtain ⟨hqp, s1, s2, s3, s4, s5, s6⟩ := sb_fact X hN
      have ee : ∀ c, c ≠ 254 → c < 305 → gg c = am_up gg 254 76 0 c := fun c h1 _ => by rw [p_up_c _ _ _ _ _ h1]
      have e269 : gg 269 = S.1 269 := by
        have := X.2.1.1 269 (by omega)
        rw [p_up_c _ _ _ _ _ (by decide)] at this
        exact this
      have e263 : gg 263 = am_up gg 254 76 0 263 := ee 263 (by decide) (by decide)
      refine ⟨⟨⟨hp3, by omega, ?_, ?_⟩, fun s hs => ?_, fun h0 => ?_, fun h0 => ?_, fun k hk => MK_fr ee (c1 k hk).1⟩, ?_⟩
      · rw [M.1 254 (by decide) (by decide) (by decide), e254 17 (by omega)]; exact Rv.2.1.2.1
      · rw [M.1 254 (by decide) (by decide) (by decide), e254 33 (by omega)]; exact hN
      · obtain ⟨⟨z1, z2⟩, -⟩ := c2 s hs
        refine ⟨?_, by rw [e263]; exact z2, by rw [e269]; exact s1 s hs, fun h => by rw [e269]; exact s2 s (s + 1) (by omega) h⟩
        unfold ckM at z1 ⊢
        rw [ee 263 (by decide) (by decide), ee 297 (by decide) (by decide), ee 302 (by decide) (by decide)]
        exact z1
      · rw [e269]
        have b0 := s1 0 h0
        by_cases cN : N = 0
        · omega
        · obtain ⟨w1, w2, w3, w4⟩ := s3 0 (by omega)
          have := s2 0 (S.1 281 0).toNat (Nat.zero_le _) w3
          have := s1 (S.1 281 0).toNat w3
          omega
      · apply Classical.byContradiction
        intro z
        have := (s3 0 (by omega)).2.2.1
        omega
      · rw [e269]
        have el : lM gg = lM (am_up gg 254 76 0) := funext (fun j => lM_fr ee j)
        have eh : hM gg = hM (am_up gg 254 76 0) := funext (fun j => hM_fr ee j)
        rw [el, eh, tlen X]
        have := LI0.2.1
        rw [hqp, hN, Int.toNat_natCast] at this
        omega)
  have X0 := mk M C
  have e269 : gx 269 = S.1 269 := by
    have := X0.2.1.1 269 (by omega)
    rw [C.fr (by decide) (by decide), p_up_c _ _ _ _ _ (by decide)] at this
    exact this
  have ee : ∀ c, c ≠ 254 → c < 305 → g0 c = gx c := fun c h1 h2 => by rw [C.fr h1 h2, p_up_c _ _ _ _ _ h1]
  have el : lM g0 = lM gx := funext (fun j => lM_fr ee j)
  have eh : hM g0 = hM gx := funext (fun j => hM_fr ee j)
  refine ⟨g0, gx, f, a, N, hN, r, X0, M, ?_, fun v hv => ?_⟩
  · rw [← tlen X0, el, eh, ← e269]
    exact C
  · obtain ⟨y1, y2⟩ := cm_rg X0 hN FT0 SY0 h297b
    obtain ⟨hqp, s1, s2, -⟩ := sb_fact X0 hN
    rcases tU_mem (N := N) _ _ (fun s' hs => by have := s1 s' hs; omega) (Nat.le_refl _) hv with ⟨s', z1, z2⟩ | ⟨j, z1, z2⟩
    · exact y2 s' z1 v z2
    · exact y1 j z1 v z2
end
