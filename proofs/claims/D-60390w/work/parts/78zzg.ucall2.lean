/-! RUN, 28: a call, joined -/
section
variable {ky : List Int} {lab fs gv : Nat → Nat} {h0 g0 : am_H} {at' : Nat → Nat × List Nat} {P : Nat → Int} {fr : Nat → Prop} {wp : Nat → Nat} {w0 N : Nat} {h g : am_H} {r : Nat → Int} {ab k : Nat} {s rk : Nat} {as ls : List Int} {th : Option Int} {st : List Int} {rs : List uF} {G : vG} {L n d : Nat} {q q2 : Nat × Nat} {a dd : Int} {vs : List vl} {v : Int} {f : uF}
theorem WS_fr2 {g' : am_H} (h2 : ∀ j : Nat, (j : Int) < g 254 95 → g' 318 j = g 318 j) : ∀ {rs : List uF} {k : Nat}, WS g at' P k rs → (∀ j, j < rs.length → g' 317 j = g 317 j) → (∀ (q : uF) (rs' : List uF), rs = q :: rs' → g 317 rs'.length + ((at' k).2.length : Int) ≤ g 254 95) → WS g' at' P k rs
  | [], _, _, _, _ => trivial
  | q :: rs, k, ⟨w1, w2, w3, w4, w5⟩, h1, hb => by
    have b := hb q rs rfl
    unfold WS
    rw [h1 rs.length (by rw [List.length_cons]; omega), h1 (rs.length - 1) (by rw [List.length_cons]; omega)]
    refine ⟨w1.fr (fun j j1 j2 => h2 j (by rw [List.length_map] at j2; omega)), w2, w3, w4, WS_fr2 h2 w5 (fun j hj => h1 j (by rw [List.length_cons]; omega)) (fun q' rs' e => ?_)⟩
    have z := w4 (by rw [e]; exact List.cons_ne_nil _ _)
    rw [e, List.length_cons, Nat.add_sub_cancel] at z
    rw [e, List.length_cons] at b
    omega
theorem hN_21 {dp : Nat} : hN h dp 21 (dp + 1) = h 21 dp ∧ ∀ j, j ≠ dp + 1 → hN h dp 21 j = h 21 j := by
  unfold hN
  rw [p_up_c _ _ _ _ _ (by decide), p_up_c _ _ _ _ _ (by decide)]
  refine ⟨p_up_s _ _ _ _, fun j hj => by rw [p_up_n _ _ _ _ _ _ (Or.inr hj), p_up_c _ _ _ _ _ (by decide)]⟩
theorem u_call {c u m m' nl k1 bs : Nat} (U : UR ky lab fs h0 g0 at' P fr wp w0 N h g r ab k (s, as, ls, th, st, rk) rs G) (R : hrg ((q.1 : Int), a, dd, r)) (Y : LU h lab fs gv 1 q [(15, bs + u, m)]) (e0 : g 277 k = 10) (hk5 : k < 5000) (ec : g 278 k = (c : Int)) (hc : c < 1000) (e287 : 8 ≤ g 287 c) (e288 : g 288 c = (u : Int)) (hu61 : u < 61) (F : lat h lab fs gv 1 (fs (bs + u), 0) (14, bs + u, nl)) (hw2 : fs (bs + u) + 12 + 5 * nl < 32768) (hgv : gv (bs + u) = m) (e267 : g 267 u = (m' : Int)) (hm' : m' ≤ 12) (e268 : g 268 u = (nl : Int)) (hnl : nl ≤ 12) (so : g 264 u = 1 ∨ g 264 u = 2 ∨ g 264 u = 3) (hm : m = m' + (if g 264 u = 3 then 1 else 0)) (hml : m ≤ st.length) (e269 : g 269 u = (k1 : Int)) (hc1 : g 264 u = 1 → 0 ≤ g 263 u ∧ g 263 u < 13) (h262 : g 264 u = 1 → g 262 (g 263 u).toNat ≤ 1000) (Yh : LU h lab fs gv 1 (fs (bs + u) + 12 + 5 * nl, 0) (hdN g u)) (hq2 : q2 = lfold (fs (bs + u) + 12 + 5 * nl, 0) (hdN g u)) (hk : k + 1 < N) (h281 : g0 281 (k + 1) = (s : Int)) (h277 : g0 277 k = 10) (ha : at' (k + 1) = ((at' k).1 - m + 1, (at' k).2)) (hk1 : k1 < N ∧ g0 281 k1 = (u : Int) ∧ at' k1 = (0, [])) (hwpk : wp (k + 1) = q.1 + 4) (frk : fr k) (hlen : (at' k).2.length ≤ 30) (hs : st.length ≤ 352) (hu : ust rs + st.length ≤ 15000)
    (next : ∀ (h' g' : am_H) (a2 d2 : Int) (r2 : Nat → Int) (ab2 : Nat) (q' : uF) (rs' : List uF) (G' : vG), UR ky lab fs h0 g0 at' P fr wp w0 N h' g' r2 ab2 k1 q' rs' G' → g' 254 96 = g 254 96 + 1 → hrg ((q2.1 : Int), a2, d2, r2) → GOAL ky L n d h0 g0 h' g' q2.2 ((q2.1 : Int), a2, d2, r2)) : GOAL ky L n d h0 g0 h g q.2 ((q.1 : Int), a, dd, r) := by
  obtain ⟨⟨hi, C, I⟩, ⟨M, B⟩, ⟨⟨u8, u9, u10, u11⟩, us, u13, u100⟩, ⟨W, u95, upl, frs⟩, ⟨⟨k1', k2, k3, k4⟩, ht⟩, g0', g1'⟩ := id U
  have k3 : st.length = (at' k).1 := k3
  have e88 : g 254 88 = ((rs.length + 1 : Nat) : Int) := M.2.2.1.2.1
  have e99 : g 254 99 = -1 := M.2.2.1.2.2.2
  have h10 : h 17 10 = ((rs.length + 1 : Nat) : Int) := by rw [u10, e88]
  have b95 : 0 ≤ g 254 95 ∧ g 254 95 ≤ 30 * ((rs.length : Int) + 1) := by
    have := W.2.1
    rw [u95]; omega
  have hw4 : q.1 + 4 < 32768 := by
    have := Y.2.2.1
    exact this
  have mk1 : h 16 (fs (bs + u)) = 1 := F.2.1
  have CC := c_call (L := L) (n := n) (a := a) (d := dd) (r := r) (dp := rs.length + 1) Y.1 hw4 hi mk1 R h10 (by omega) ⟨by omega, by omega⟩
  obtain ⟨g1, h1, M1, B1, f1, e1, ek, c1⟩ := m_at hk5 M B
  have fg1 : ∀ j, j ≠ 98 → g1 254 j = g 254 j := fun j hj => by rw [h1, p_up_n _ _ _ _ _ _ (Or.inr hj)]
  have ff1 : p_fr mcC mcF g g1 := by rw [h1]; exact (p_fr.refl g).upf _ _ _ rfl
  have D : am_D (d + 13) 17 118 [am_r (am_a 254)] (zS L, g) = am_xV (zS L) (am_xV (zS L) (am_D (d + 11) 17 111 [am_r (am_a 254), am_i (u : Int)] (zS L, g1)) (am_up1 (zS L)) fun h5 => some (.inl none, (zS L, h5))) (am_up1 (zS L)) fun h41 => some (.inl none, (zS L, h41)) := by
    rw [D_17_118, p_idx (by omega) (by omega), show (g 254 98).toNat = k by omega, e0, if_neg (by decide), if_neg (by decide), if_neg (by decide), if_neg (by decide), if_neg (by decide), if_neg (by decide), if_neg (by decide), if_neg (by decide), if_neg (by decide), if_neg (by decide), if_pos rfl, p_idx (by omega) (by omega), show (g 254 98).toNat = k by omega, ec, ← h1, D_17_115, p_idx (by omega) (by omega), p_idx (by omega) (by omega), Int.toNat_natCast, c1 287 (by decide), c1 288 (by decide), if_neg (by omega), e288]
  have fsb := (hi.2.2.2 (bs + u)).2
  by_cases cs : h 17 8 = h 17 9
  · -- no steps are left
    have cg : g1 254 96 = g1 254 97 := by rw [fg1 96 (by decide), fg1 97 (by decide), ← u8, ← u9]; exact cs
    have eH : hE h (rs.length + 1) = hS 1 h := if_pos cs
    rw [eH] at CC
    rw [D_17_111, m_step, if_pos cg, p_xI, if_pos rfl, p_xV, p_xV] at D
    have fx : ∀ j, j ≠ 98 → j ≠ 99 → am_up g1 254 99 1 254 j = g 254 j := fun j h1 h2 => by rw [p_up_n _ _ _ _ _ _ (Or.inr h2), fg1 j h1]
    have cx : ∀ c, c ≠ 254 → am_up g1 254 99 1 c = g c := fun c hc => by rw [p_up_c _ _ _ _ _ hc, c1 c hc]
    have SS := u_stop (L := L) (n := n) (a := (fs (bs + u) : Int)) (dd := ((q.1 + 4 : Nat) : Int)) (w := fs (bs + u)) (e := 1) (h1 := h) (g' := am_up g1 254 99 1) (dp := rs.length + 1) U R.2.2 fsb (by decide) (by decide) (p_fr.refl h) (M.1.same (fun a ha => cx a (by omega)) (fun j hj => fx j (by omega) (by omega))) (p_up_s _ _ _ _) (by rw [fx 100 (by decide) (by decide)]; exact u100) (by rw [fx 96 (by decide) (by decide)]; exact u8) (fun j hj => fx j (by omega) (by omega)) h10 (by omega) (by rw [fx 95 (by decide) (by decide), frs frk]; unfold wtop; rw [cx 318 (by decide), fx 74 (by decide) (by decide)]) (by rw [fx 95 (by decide) (by decide)]; omega) (ff1.upf _ _ _ rfl)
    exact ⟨1, _, _, CC _ SS.1, LPx.step e99 D LPx.refl, SS.2⟩
  · have cg : g1 254 96 ≠ g1 254 97 := by rw [fg1 96 (by decide), fg1 97 (by decide), ← u8, ← u9]; exact cs
    by_cases cd : rs.length + 1 = 40
    · -- no frames are left
      have eH : hE h (rs.length + 1) = hS 2 (am_up h 17 8 (h 17 8 + 1)) := by unfold hE; rw [if_neg cs, if_pos cd]
      rw [eH] at CC
      rw [D_17_111, m_step, if_neg cg, p_xI, if_neg (by decide), p_up_n _ _ _ _ _ _ (Or.inr (show 88 ≠ 96 by decide)), fg1 88 (by decide), e88, if_pos (by omega), p_xV, p_xV, fg1 96 (by decide), p_w (by omega) (by omega)] at D
      have fx : ∀ j, j ≠ 98 → j ≠ 99 → j ≠ 96 → am_up (am_up g1 254 96 (g 254 96 + 1)) 254 99 2 254 j = g 254 j := fun j h1 h2 h3 => by rw [p_up_n _ _ _ _ _ _ (Or.inr h2), p_up_n _ _ _ _ _ _ (Or.inr h3), fg1 j h1]
      have cx : ∀ c, c ≠ 254 → am_up (am_up g1 254 96 (g 254 96 + 1)) 254 99 2 c = g c := fun c hc => by rw [p_up_c _ _ _ _ _ hc, p_up_c _ _ _ _ _ hc, c1 c hc]
      have SS := u_stop (L := L) (n := n) (a := (fs (bs + u) : Int)) (dd := ((q.1 + 4 : Nat) : Int)) (w := fs (bs + u)) (e := 2) (h1 := am_up h 17 8 (h 17 8 + 1)) (g' := am_up (am_up g1 254 96 (g 254 96 + 1)) 254 99 2) (dp := rs.length + 1) U R.2.2 fsb (by decide) (by decide) ((p_fr.refl h).upf _ _ _ rfl) (M.1.same (fun a ha => cx a (by omega)) (fun j hj => fx j (by omega) (by omega) (by omega))) (p_up_s _ _ _ _) (by rw [fx 100 (by decide) (by decide) (by decide)]; exact u100) (by rw [p_up_s, p_up_n _ _ _ _ _ _ (Or.inr (by decide)), p_up_s, u8]) (fun j hj => fx j (by omega) (by omega) (by omega)) h10 (by omega) (by rw [fx 95 (by decide) (by decide) (by decide), p_up_c _ _ _ _ _ (by decide), frs frk]; unfold wtop; rw [cx 318 (by decide), fx 74 (by decide) (by decide) (by decide)]) (by rw [fx 95 (by decide) (by decide) (by decide)]; omega) ((ff1.upf _ _ _ rfl).upf _ _ _ rfl)
      exact ⟨2, _, _, CC _ SS.1, LPx.step e99 D LPx.refl, SS.2⟩
    · have eH : hE h (rs.length + 1) = hN h (rs.length + 1) := by unfold hE; rw [if_neg cs, if_neg cd]
      rw [eH] at CC
      obtain ⟨g2, th2, M2, B2, ⟨y96, y89, yf⟩, ⟨y317, y317'⟩, yc, yth, y3, yD⟩ := m_enter (d := d) (L := L) (u := u) (m := m) (m' := m') (nl := nl) (k1 := k1) M1 B1 hu (by omega) (by rw [fg1 96 (by decide)]; omega) cg hu61 (by rw [c1 267 (by decide)]; exact e267) hm' (by rw [c1 268 (by decide)]; exact e268) hnl (by rw [c1 264 (by decide)]; exact so) (by rw [c1 264 (by decide)]; exact hm) hml (by rw [c1 269 (by decide)]; exact e269) (by rw [c1 264 (by decide), c1 263 (by decide)]; exact hc1)
      have yc' : ∀ c, c ≠ 254 → c ≠ 312 → c ≠ 314 → c ≠ 315 → c ≠ 316 → c ≠ 317 → g2 c = g c := fun c h1 h2 h3 h4 h5 h6 => by rw [yc c h1 h2 h3 h4 h5 h6, c1 c h1]
      have s264 : g2 264 = g 264 := yc' 264 (by decide) (by decide) (by decide) (by decide) (by decide) (by decide)
      have s263 : g2 263 = g 263 := yc' 263 (by decide) (by decide) (by decide) (by decide) (by decide) (by decide)
      have s262 : g2 262 = g 262 := yc' 262 (by decide) (by decide) (by decide) (by decide) (by decide) (by decide)
      have hdE : hdN g2 u = hdN g u := by unfold hdN; rw [s264, s263, s262]
      have hN13 : hN h (rs.length + 1) 13 = h 13 := hN_c (by decide) (by decide)
      have hN16 : hN h (rs.length + 1) 16 = h 16 := hN_c (by decide) (by decide)
      have hiN : HI (hN h (rs.length + 1)) lab fs := hi.eq hN13 hN16 (hN_f (by decide) (by decide) (by decide))
      have R0 : hrg ((fs (bs + u) : Int), (fs (bs + u) : Int), ((q.1 + 4 : Nat) : Int), r) := ⟨⟨by dsimp only; omega, by dsimp only; omega⟩, ⟨by dsimp only; omega, by dsimp only; omega⟩, R.2.2⟩
      obtain ⟨a2, d2, r2, ab2, ⟨R2, go2⟩, C2⟩ := c_fun (L := L) (n := n) (h1 := hN h (rs.length + 1)) (k := k + 1) (u := bs + u) (m := m) (nl := nl) (q := q) hN13 hN16 (hN_f (by decide) (by decide) (by decide)) hi F hw2 hgv C hml (by rw [hm]; split <;> omega) hnl hs (by omega) hwpk hw4 R0 u
      have c264 : g1 264 = g 264 := c1 264 (by decide)
      rw [c264] at yth y3
      rw [c264, c1 262 (by decide), c1 263 (by decide)] at yD
      have IN : IOR ky G (hN h (rs.length + 1)) := I.eq (fun j hj => hN_f (by omega) (by omega) (by omega)) (hN_c (by decide) (by decide)) (hN_c (by decide) (by decide))
      have HH := u_head (L := L) (n := n) (d := d) (q' := (fs (bs + u) + 12 + 5 * nl, 0)) (q2 := q2) (D0 := am_D (d + 11) 17 111 [am_r (am_a 254), am_i (u : Int)] (zS L, g1)) R2 rfl hiN IN C2 (by rw [hdE]; exact Yh.eq hN13 hN16) (by rw [hdE]; exact hq2) M2 B2 (by omega) (by rw [s264]; exact so) (by rw [s264, s262, s263]; exact h262) (by rw [s264]; exact yth) (by rw [s264]; exact y3) (by rw [s264, s262, s263]; exact yD)
      have yfr : p_fr mcC mcF g g2 := by
        intro cc j hcc hj
        by_cases z : cc = 254
        · subst z
          rw [yf j (by intro z; subst z; revert hj; decide) (by intro z; subst z; revert hj; decide) (by intro z; subst z; revert hj; decide) (by intro z; subst z; revert hj; decide) (by intro z; subst z; revert hj; decide)]
          exact fg1 j (by intro z; subst z; revert hj; decide)
        · rw [yc' cc z (by intro z2; subst z2; revert hcc; decide) (by intro z2; subst z2; revert hcc; decide) (by intro z2; subst z2; revert hcc; decide) (by intro z2; subst z2; revert hcc; decide) (by intro z2; subst z2; revert hcc; decide)]
      have hNfr : p_fr ccC ccF h (hN h (rs.length + 1)) := by
        unfold hN; exact ((((p_fr.refl h).upf _ _ _ rfl).upc _ _ _ rfl).upf _ _ _ rfl).upf _ _ _ rfl
      have g2f : ∀ j, j ≠ 87 → j ≠ 88 → j ≠ 89 → j ≠ 96 → j ≠ 98 → g2 254 j = g 254 j := fun j h1 h2 h3 h4 h5 => by rw [yf j h1 h2 h3 h4 h5, fg1 j h5]
      have g318 : g2 318 = g 318 := yc' 318 (by decide) (by decide) (by decide) (by decide) (by decide) (by decide)
      have g317 : g2 317 (rs.length + 1) = g 254 95 := by rw [y317, fg1 95 (by decide)]
      have g317' : ∀ j, j ≠ rs.length + 1 → g2 317 j = g 317 j := fun j hj => by rw [y317' j hj, c1 317 (by decide)]
      have wtg : ∀ w, wtop g2 w = wtop g w := fun w => by unfold wtop; rw [g318, g2f 74 (by decide) (by decide) (by decide) (by decide) (by decide)]
      have n8 : hN h (rs.length + 1) 17 8 = g2 254 96 := by
        rw [y96, fg1 96 (by decide), ← u8]
        unfold hN; rw [p_up_n _ _ _ _ _ _ (Or.inr (by decide)), p_up_n _ _ _ _ _ _ (Or.inr (by decide)), p_up_c _ _ _ _ _ (by decide), p_up_s]
      have n11 : hN h (rs.length + 1) 17 11 = g2 254 89 := by
        rw [y89, fg1 89 (by decide), ← u11]
        unfold hN; rw [p_up_s]
        by_cases z : ((rs.length + 1 : Nat) : Int) + 1 ≤ h 17 11
        · rw [if_pos z, if_neg (by omega)]
        · rw [if_neg z, if_pos (by omega)]
      have n10 : hN h (rs.length + 1) 17 10 = ((rs.length + 1 : Nat) : Int) + 1 := by
        unfold hN; rw [p_up_n _ _ _ _ _ _ (Or.inr (by decide)), p_up_s]
      have n9 : hN h (rs.length + 1) 17 9 = g2 254 97 := by rw [hN_f (by decide) (by decide) (by decide), g2f 97 (by decide) (by decide) (by decide) (by decide) (by decide)]; exact u9
      have pls : ∀ j, j ≤ rs.length + 1 → hN h (rs.length + 1) 21 j = wtop g2 (g2 317 j) := fun j hj => by
        rw [hN_21.2 j (by omega), wtg]
        by_cases z : j = rs.length + 1
        · rw [z, g317]; exact frs frk
        · rw [g317' j z]; exact upl j (by omega)
      rcases HH with ⟨h2, g3, a3, d3, r3, th3, x1, x2, x3, x4, ⟨G2, x5, x6, x7⟩, x8, x9, x10, x11⟩ | ⟨e, v, G2, hf, g3, x1, x2, x3, x4, x5, x6, x7, x8, xr⟩
      · rw [x1, p_xV, p_xV] at D
        have g3c : ∀ c, c = 317 ∨ c = 318 → g3 c = g2 c := fun c hc => by rcases hc with rfl | rfl <;> exact x10.cell _ rfl rfl
        have g3f : ∀ j, j = 96 ∨ j = 97 ∨ j = 88 ∨ j = 89 ∨ j = 95 ∨ j = 74 → g3 254 j = g2 254 j := fun j hj => by rcases hj with rfl | rfl | rfl | rfl | rfl | rfl <;> exact x10 254 _ rfl rfl
        have wtg3 : ∀ w, wtop g3 w = wtop g2 w := fun w => by unfold wtop; rw [g3c 318 (by omega), g3f 74 (by omega)]
        have U' : UR ky lab fs h0 g0 at' P fr wp w0 N h2 g3 r3 ab2 k1 (u, (st.take m).reverse, List.replicate nl 0, th3, [], k + 1) ((s, as, ls, th, st.drop m, rk) :: rs) G2 := by
          obtain ⟨w1, w2, w3, w4, w5⟩ := id W
          refine ⟨⟨x4, x6, x5⟩, ⟨x7, x8⟩, ⟨⟨?_, ?_, ?_, ?_⟩, ?_, ?_, ?_⟩, ⟨⟨?_, ?_, ?_, ?_, ?_⟩, ?_, fun j hj => ?_, fun _ => ?_⟩, ⟨⟨hk1.1, hk1.2.1, ?_, ?_⟩, ⟨?_, hk, h281, ⟨C.2.2.1, C.2.2.2⟩, Nat.succ_le_succ (Nat.zero_le _), ?_⟩, ht⟩, g0'.trans (hNfr.trans (x9.mono rfl rfl)), g1'.trans (yfr.trans (x10.mono rfl rfl))⟩
          · rw [x9 17 8 rfl rfl, n8, g3f 96 (by omega)]
          · rw [x9 17 9 rfl rfl, n9, g3f 97 (by omega)]
          · rw [x9 17 10 rfl rfl, n10, g3f 88 (by omega), M2.2.2.1.2.1, List.length_cons, List.length_cons]; rfl
          · rw [x9 17 11 rfl rfl, n11, g3f 89 (by omega)]
          · rw [g3f 96 (by omega), g3f 97 (by omega), y96, fg1 96 (by decide), g2f 97 (by decide) (by decide) (by decide) (by decide) (by decide)]
            rw [fg1 96 (by decide), fg1 97 (by decide)] at cg
            omega
          · rw [x9 17 13 rfl rfl, hN_f (by decide) (by decide) (by decide)]; exact u13
          · rw [x11, g2f 100 (by decide) (by decide) (by decide) (by decide) (by decide)]; exact u100
          · rw [hk1.2.2]; trivial
          · rw [List.length_cons, g3c 317 (by omega), g317]; omega
          · intro z; cases z
          · intro _
            rw [List.length_cons, Nat.add_sub_cancel, g3c 317 (by omega), g317, g317' _ (by omega), u95, ha]
          · -- the caller's row of work
            exact WS_fr2 (g := g) (fun j _ => by rw [g3c 318 (by omega), g318]) (rs := (s, as, ls, th, st.drop m, rk) :: rs) (k := k + 1) ⟨by rw [ha]; exact w1, w2, w3, w4, w5⟩ (fun j hj => by rw [List.length_cons] at hj; rw [g3c 317 (by omega), g317' j (by omega)]) (fun q' rs' e => by
              obtain ⟨-, e⟩ := List.cons.inj e
              rw [← e, ha, u95]; exact Int.le_refl _)
          · rw [g3f 95 (by omega), g2f 95 (by decide) (by decide) (by decide) (by decide) (by decide), hk1.2.2, List.length_cons, g3c 317 (by omega), g317]; show _ = _ + ((0 : Nat) : Int); omega
          · rw [List.length_cons] at hj
            rw [x9.cell 21 rfl rfl, wtg3, g3c 317 (by omega)]; exact pls j hj
          · rw [List.length_cons, x9.cell 21 rfl rfl, wtg3, g3f 95 (by omega), g2f 95 (by decide) (by decide) (by decide) (by decide) (by decide), hN_21.1, wtg]; exact frs frk
          · rw [hk1.2.2]; rfl
          · rw [List.length_cons]; omega
          · show (st.drop m).length + 1 = (at' (k + 1)).1
            rw [ha, List.length_drop, k3]
          · show g0 277 (k + 1 - 1) = 10
            rw [Nat.add_sub_cancel]; exact h277
        obtain ⟨e, hf, gf, o1, o2, o3⟩ := next h2 g3 a3 d3 r3 ab2 _ _ G2 U' (by rw [g3f 96 (by omega), y96, fg1 96 (by decide)]) x3
        exact ⟨e, hf, gf, CC _ (go2 _ (x2 _ o1)), LPx.step e99 D o2, o3⟩
      · rw [x1, p_xV, p_xV] at D
        obtain ⟨z1, z2, z3, z4, z5, z6, z7⟩ := x3
        have g3f : ∀ j, j = 96 ∨ j = 97 ∨ j = 88 ∨ j = 89 ∨ j = 95 ∨ j = 74 → g3 254 j = g2 254 j := fun j hj => by rcases hj with rfl | rfl | rfl | rfl | rfl | rfl <;> exact x8 254 _ rfl rfl
        have g95 : g3 254 95 = g 254 95 := by rw [g3f 95 (by omega), g2f 95 (by decide) (by decide) (by decide) (by decide) (by decide)]
        have wtg3 : ∀ w, wtop g3 w = wtop g2 w := fun w => by unfold wtop; rw [x8.cell 318 rfl rfl, g3f 74 (by omega)]
        refine ⟨e, hf, g3, CC _ (go2 _ x2), LPx.step e99 D LPx.refl, G2, ⟨z2, x4, z7⟩, ⟨z3, z4, x5, x6, ?_⟩, ⟨?_, ?_, ?_⟩, fun _ => ⟨rs.length + 1 + 1, ?_, by omega, ?_⟩, by rw [g95]; omega, g0'.trans (hNfr.trans (z1.mono rfl rfl)), g1'.trans (yfr.trans (x8.mono rfl rfl)), xr⟩
        · have y100 : g2 254 100 = 0 := by rw [g2f 100 (by decide) (by decide) (by decide) (by decide) (by decide)]; exact u100
          by_cases z : e = 3
          · rw [z5 z, x7, if_pos z]
          · rw [z6 z, x7, if_neg z, hN_f (by decide) (by decide) (by decide), u13, y100]
        · rw [z1 17 8 rfl rfl, n8, g3f 96 (by omega)]
        · rw [z1 17 9 rfl rfl, n9, g3f 97 (by omega)]
        · rw [z1 17 11 rfl rfl, n11, g3f 89 (by omega)]
        · rw [z1 17 10 rfl rfl, n10]; rfl
        · rw [z1.cell 21 rfl rfl, hN_21.1, g95, wtg3, wtg]; exact frs frk
end
