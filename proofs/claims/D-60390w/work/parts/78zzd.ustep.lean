/-! RUN, 25: a statement begins, a loop asks: on both sides -/
section
variable {ky : List Int} {lab fs gv : Nat → Nat} {h0 g0 : am_H} {at' : Nat → Nat × List Nat} {P : Nat → Int} {fr : Nat → Prop} {wp : Nat → Nat} {w0 N : Nat} {h g : am_H} {r : Nat → Int} {ab k : Nat} {s rk : Nat} {as ls : List Int} {th : Option Int} {st : List Int} {rs : List uF} {G : vG} {L n d : Nat} {q q2 : Nat × Nat} {a dd : Int} {vs : List vl} {x y : Int}
/-- the run stops at a watch -/
theorem u_stop {h1 g' : am_H} {e : Int} {w : Nat} {dp : Nat} (U : UR ky lab fs h0 g0 at' P fr wp w0 N h g r ab k (s, as, ls, th, st, rk) rs G) (R' : ∀ k, rg16 (r k)) (hw : w < 32768) (e0 : 0 ≤ e) (e3 : e ≠ 3) (f1 : p_fr [21] [(17, 8)] h h1) (R : MR ky G g') (e99 : g' 254 99 = e) (e100 : g' 254 100 = 0) (e8 : h1 17 8 = g' 254 96) (fg : ∀ j, j = 97 ∨ j = 89 → g' 254 j = g 254 j) (e10 : h 17 10 = (dp : Int)) (hd : dp ≤ 41) (pl : h1 21 dp = wtop g' (g' 254 95)) (b95 : 0 ≤ g' 254 95 ∧ g' 254 95 ≤ 1200) (f2 : p_fr mcC mcF g g') : H4 L n (hS e h1) ((w : Int), a, dd, r) (pI L e (rr (hS e h1) r)) ∧ UF ky h0 g0 (rr (hS e h1) r) g' e := by
  obtain ⟨⟨hi, C, I⟩, ⟨M, B⟩, ⟨⟨u8, u9, u10, u11⟩, us, u13, u100⟩, ⟨W, u95, upl, frs⟩, ⟨⟨k1, k2, k3, k4⟩, ht⟩, g0', g1'⟩ := U
  have s17 : ∀ j, j ≠ 12 → j ≠ 14 → hS e h1 17 j = h1 17 j := fun j h1 h2 => by unfold hS; rw [p_up_n _ _ _ _ _ _ (Or.inr h2), p_up_n _ _ _ _ _ _ (Or.inr h1)]
  have sc : ∀ c, c ≠ 17 → hS e h1 c = h1 c := fun c hc => by unfold hS; rw [p_up_c _ _ _ _ _ hc, p_up_c _ _ _ _ _ hc]
  have e12 : hS e h1 17 12 = e := by unfold hS; rw [p_up_n _ _ _ _ _ _ (Or.inr (by decide)), p_up_s]
  have e14 : hS e h1 17 14 = 0 := by unfold hS; rw [p_up_s]
  have rr17 : ∀ j, rr (hS e h1) r 17 j = hS e h1 17 j := fun j => by rw [rr_n _ _ (by decide)]
  have H := h4_stop (L := L) (n := n) (a := a) (d := dd) (r := r) hw e14
  rw [e12] at H
  refine ⟨H, G, ⟨?_, R, fun j j1 j2 => ?_⟩, ⟨by rw [rr17]; exact e12, by rw [rr17]; exact e14, e99, e0, ?_⟩, ⟨?_, ?_, ?_⟩, fun _ => ⟨dp, ?_, hd, ?_⟩, b95, ?_, g1'.trans f2, fun k => by rw [rr_18]; exact R' k⟩
  · refine IOR.rr (IOR.eq I (fun j hj => ?_) ?_ ?_) r
    · rw [s17 j (by omega) (by omega)]
      rcases hj with rfl | rfl | rfl <;> exact f1 17 _ rfl rfl
    · rw [sc 19 (by decide)]; exact f1.cell 19 rfl rfl
    · rw [sc 20 (by decide)]; exact f1.cell 20 rfl rfl
  · rw [rr_18]; exact C.1.2.2.2.2.2.2.1 j j1 j2
  · rw [rr17, s17 13 (by decide) (by decide), f1 17 13 rfl rfl, u13, e100]
  · rw [rr17, s17 8 (by decide) (by decide)]; exact e8
  · rw [rr17, s17 9 (by decide) (by decide), f1 17 9 rfl rfl, fg 97 (by omega)]; exact u9
  · rw [rr17, s17 11 (by decide) (by decide), f1 17 11 rfl rfl, fg 89 (by omega)]; exact u11
  · rw [rr17, s17 10 (by decide) (by decide), f1 17 10 rfl rfl]; exact e10
  · rw [rr_n _ _ (by decide), sc 21 (by decide)]; exact pl
  · have z1 : p_fr ccC ccF h (hS e h1) := by unfold hS; exact ((f1.mono rfl rfl).upf _ _ _ rfl).upf _ _ _ rfl
    exact g0'.trans (p_fr.mono (p_fr_rr (r := r) z1) rfl rfl)
theorem u_begin {p t : Nat} (U : UR ky lab fs h0 g0 at' P fr wp w0 N h g r ab k (s, as, ls, th, st, rk) rs G) (R : hrg ((q.1 : Int), a, dd, r)) (Y : LU h lab fs gv 1 q [(20, p, 0)]) (hq : q2 = lfold q [(20, p, 0)]) (hmk : h 16 q2.1 = ((p + 3 : Nat) : Int)) (hp : p ≤ 32000) (e0 : g 277 k = 11) (hk5 : k < 5000) (hk : k + 1 < N) (h281 : g0 281 (k + 1) = (s : Int)) (e303 : g 303 k = (p : Int)) (ePt : P t = (p : Int)) (ha : at' (k + 1) = ((at' k).1, t :: (at' k).2)) (hlen : (at' k).2.length < 30)
    (next : ∀ (h' g' : am_H) (a2 : Int), UR ky lab fs h0 g0 at' P fr wp w0 N h' g' r ab (k + 1) (s, as, ls, th, st, rk) rs G → g' 254 96 = g 254 96 + 1 → hrg ((q2.1 : Int), a2, dd, r) → GOAL ky L n d h0 g0 h' g' q2.2 ((q2.1 : Int), a2, dd, r)) : GOAL ky L n d h0 g0 h g q.2 ((q.1 : Int), a, dd, r) := by
  obtain ⟨⟨hi, C, I⟩, ⟨M, B⟩, ⟨⟨u8, u9, u10, u11⟩, us, u13, u100⟩, ⟨W, u95, upl, frs⟩, ⟨⟨k1, k2, k3, k4⟩, ht⟩, g0', g1'⟩ := id U
  have e88 : g 254 88 = ((rs.length + 1 : Nat) : Int) := M.2.2.1.2.1
  have e99 : g 254 99 = -1 := M.2.2.1.2.2.2
  have b95 : 0 ≤ g 254 95 ∧ g 254 95 < 1200 := by
    have := W.2.1
    rw [u95]; omega
  obtain ⟨g', D, x1, x2, x3, x4, x5, x6, x7, x8⟩ := m_11 (L := L) (d := d) hk5 M e0 b95
  have hq1 : q2.1 = (lstp q (20, p, 0)).1 := by rw [hq]; rfl
  have hq2 : q2.2 = p + 3 := by rw [hq]; rfl
  have h10 : h 17 10 = ((rs.length + 1 : Nat) : Int) := by rw [u10, e88]
  obtain ⟨a2, R2, go⟩ := c_step (L := L) (n := n) (dp := rs.length + 1) Y.1 hi.2.1 R (by rw [← hq1]; exact hmk) Y.2.2.1 h10 (by omega) ⟨by omega, by omega⟩ hp
  rw [← hq1] at R2 go
  have f2 : p_fr mcC mcF g g' := by
    intro c j hc hj
    by_cases z : c = 254
    · subst z
      refine x6 j ?_ ?_ ?_ ?_ ?_ <;> (intro z; subst z; revert hj; decide)
    · exact (x5 c z (by intro z2; subst z2; revert hc; decide)) ▸ rfl
  have hw : q2.1 < 32768 := by rw [hq1]; exact Y.2.2.1
  have wt : wtop g' (g' 254 95) = (p : Int) := by
    unfold wtop; rw [x2, if_pos (by omega), show (g 254 95 + 1 - 1).toNat = (g 254 95).toNat by congr 1; omega, x3, e303]
  by_cases c : h 17 8 = h 17 9
  · rw [if_pos c] at go
    have cg : g 254 96 = g 254 97 := by rw [← u8, ← u9]; exact c
    obtain ⟨z1, z2⟩ := x7 cg
    have SS := u_stop (L := L) (n := n) (a := a2) (dd := dd) (w := q2.1) (e := 1) (h1 := am_up h 21 (rs.length + 1) (p : Int)) (g' := g') (dp := rs.length + 1) U R.2.2 hw (by decide) (by decide) ((p_fr.refl h).upc _ _ _ rfl) (M.1.same (fun a ha => x5 a (by omega) (by omega)) (fun j hj => x6 j (by omega) (by omega) (by omega) (by omega) (by omega))) z2 (by rw [x6 100 (by decide) (by decide) (by decide) (by decide) (by decide)]; exact u100) (by rw [p_up_c _ _ _ _ _ (by decide), z1]; exact u8) (fun j hj => x6 j (by omega) (by omega) (by omega) (by omega) (by omega)) h10 (by omega) (by rw [p_up_s]; exact wt.symm) (by rw [x2]; omega) f2
    exact ⟨1, _, g', go _ SS.1, LPx.step e99 D LPx.refl, SS.2⟩
  · rw [if_neg c] at go
    have cg : g 254 96 ≠ g 254 97 := by rw [← u8, ← u9]; exact c
    obtain ⟨z1, z2⟩ := x8 cg
    rw [p_w (by omega) (by omega)] at z1
    obtain ⟨h', hh⟩ : ∃ h', h' = am_up (am_up h 21 (rs.length + 1) (p : Int)) 17 8 (h 17 8 + 1) := ⟨_, rfl⟩
    rw [← hh] at go
    have hc : ∀ c, c ≠ 17 → c ≠ 21 → h' c = h c := fun c h1 h2 => by rw [hh, p_up_c _ _ _ _ _ h1, p_up_c _ _ _ _ _ h2]
    have hf : ∀ j, j ≠ 8 → h' 17 j = h 17 j := fun j hj => by rw [hh, p_up_n _ _ _ _ _ _ (Or.inr hj), p_up_c _ _ _ _ _ (by decide)]
    have h21 : ∀ j, j ≠ rs.length + 1 → h' 21 j = h 21 j := fun j hj => by rw [hh, p_up_c _ _ _ _ _ (by decide), p_up_n _ _ _ _ _ _ (Or.inr hj)]
    have M' : MU ky g' (k + 1) G ((s, as, ls, th, st, rk) :: rs) := by
      have B1 : MB (am_up g 254 98 ((k + 1 : Nat) : Int)) ((s, as, ls, th, st, rk) :: rs) := B.fr (fun c hc => p_up_c _ _ _ _ _ (by omega))
      refine (M.pc B (k + 1)).keep B1 (fun a ha => by rw [x5 a (by omega) (by omega), p_up_c _ _ _ _ _ (by omega)]) (fun j _ => by rw [x5 312 (by omega) (by omega), p_up_c _ _ _ _ _ (by omega)]) (fun j hj => ?_)
      by_cases z98 : j = 98
      · rw [z98, x1, p_up_s]
      · rw [p_up_n _ _ _ _ _ _ (Or.inr z98)]
        by_cases z99 : j = 99
        · rw [z99, z2]
        · exact x6 j (by omega) (by omega) (by omega) (by omega) (by omega)
    have U' := U.go (k' := k + 1) M' (B.fr (fun a ha => x5 a (by omega) (by omega))) C (hi.eq (hc 13 (by decide) (by decide)) (hc 16 (by decide) (by decide)) (hf 14 (by decide))) (I.eq (fun j hj => hf j (by omega)) (hc 19 (by decide) (by decide)) (hc 20 (by decide) (by decide))) (by rw [hh, p_up_s, z1, u8]) (by rw [z1, x6 97 (by decide) (by decide) (by decide) (by decide) (by decide)]; omega) (fun j hj => hf j (by omega)) (fun j hj => x6 j (by omega) (by omega) (by omega) (by omega) (by omega)) (x5 317 (by decide) (by decide)) (fun f hf => h21 f (by omega)) (by
        rw [ha]
        have b := W.2.1
        refine ⟨?_, W.1.fr (fun j j1 j2 => x4 j (by rw [List.length_map] at j2; omega))⟩
        rw [List.length_map, show (g 317 rs.length).toNat + (at' k).2.length = (g 254 95).toNat by omega, x3, e303, ePt]) (by rw [x2, u95, ha]; show _ = _ + (((at' k).2.length + 1 : Nat) : Int); omega) (fun j hj => x4 j (by have := W.2.1; omega)) (fun _ => by rw [hh, p_up_c _ _ _ _ _ (by decide), p_up_s]; exact wt.symm) hk h281 (by rw [ha]; exact k3) (by rw [hh]; exact ((p_fr.refl h).upc _ _ _ rfl).upf _ _ _ rfl) f2
    obtain ⟨e, hf, gf, o1, o2, o3⟩ := next h' g' a2 U' z1 R2
    unfold CL at o1
    rw [if_neg (by omega)] at o1
    exact ⟨e, hf, gf, go _ o1, LPx.step e99 D o2, o3⟩
theorem u_ask {p t : Nat} {tl : List Nat} (U : UR ky lab fs h0 g0 at' P fr wp w0 N h g r ab k (s, as, ls, th, st, rk) rs G) (R : hrg ((q.1 : Int), a, dd, r)) (Y : LU h lab fs gv 1 q [(20, p, 0)]) (hq : q2 = lfold q [(20, p, 0)]) (hmk : h 16 q2.1 = ((p + 3 : Nat) : Int)) (hp : p ≤ 32000) (e0 : g 277 k = 17) (hk5 : k < 5000) (hk : k + 1 < N) (h281 : g0 281 (k + 1) = (s : Int)) (ePt : P t = (p : Int)) (ha : (at' k).2 = t :: tl ∧ at' (k + 1) = at' k) (hlen : (at' k).2.length ≤ 30)
    (next : ∀ (h' g' : am_H) (a2 : Int), UR ky lab fs h0 g0 at' P fr wp w0 N h' g' r ab (k + 1) (s, as, ls, th, st, rk) rs G → g' 254 96 = g 254 96 + 1 → hrg ((q2.1 : Int), a2, dd, r) → GOAL ky L n d h0 g0 h' g' q2.2 ((q2.1 : Int), a2, dd, r)) : GOAL ky L n d h0 g0 h g q.2 ((q.1 : Int), a, dd, r) := by
  obtain ⟨⟨hi, C, I⟩, ⟨M, B⟩, ⟨⟨u8, u9, u10, u11⟩, us, u13, u100⟩, ⟨W, u95, upl, frs⟩, ⟨⟨k1, k2, k3, k4⟩, ht⟩, g0', g1'⟩ := id U
  have e88 : g 254 88 = ((rs.length + 1 : Nat) : Int) := M.2.2.1.2.1
  have e99 : g 254 99 = -1 := M.2.2.1.2.2.2
  have W1 := W.1
  have W2 := W.2.1
  rw [ha.1] at W1 u95 hlen
  have b95 : 0 < g 254 95 ∧ g 254 95 ≤ 1200 := by
    rw [u95]; rw [List.length_cons] at hlen ⊢; omega
  have tp : g 318 (g 254 95 - 1).toNat = (p : Int) := by
    rw [← ePt, ← W1.1, List.length_map]
    congr 1
    rw [u95, List.length_cons]; omega
  have D := m_17 (L := L) (d := d) hk5 M e0
  have hq1 : q2.1 = (lstp q (20, p, 0)).1 := by rw [hq]; rfl
  have hq2 : q2.2 = p + 3 := by rw [hq]; rfl
  have h10 : h 17 10 = ((rs.length + 1 : Nat) : Int) := by rw [u10, e88]
  obtain ⟨a2, R2, go⟩ := c_step (L := L) (n := n) (dp := rs.length + 1) Y.1 hi.2.1 R (by rw [← hq1]; exact hmk) Y.2.2.1 h10 (by omega) ⟨by omega, by omega⟩ hp
  rw [← hq1] at R2 go
  have hw : q2.1 < 32768 := by rw [hq1]; exact Y.2.2.1
  by_cases c : h 17 8 = h 17 9
  · rw [if_pos c] at go
    have cg : g 254 96 = g 254 97 := by rw [← u8, ← u9]; exact c
    rw [if_pos cg] at D
    have fx : ∀ j, j ≠ 98 → j ≠ 99 → am_up (am_up g 254 98 ((k + 1 : Nat) : Int)) 254 99 1 254 j = g 254 j := fun j h1 h2 => by rw [p_up_n _ _ _ _ _ _ (Or.inr h2), p_up_n _ _ _ _ _ _ (Or.inr h1)]
    have cx : ∀ c, c ≠ 254 → am_up (am_up g 254 98 ((k + 1 : Nat) : Int)) 254 99 1 c = g c := fun c hc => by rw [p_up_c _ _ _ _ _ hc, p_up_c _ _ _ _ _ hc]
    have SS := u_stop (L := L) (n := n) (a := a2) (dd := dd) (w := q2.1) (e := 1) (h1 := am_up h 21 (rs.length + 1) (p : Int)) (g' := am_up (am_up g 254 98 ((k + 1 : Nat) : Int)) 254 99 1) (dp := rs.length + 1) U R.2.2 hw (by decide) (by decide) ((p_fr.refl h).upc _ _ _ rfl) (M.1.same (fun a ha => cx a (by omega)) (fun j hj => fx j (by omega) (by omega))) (p_up_s _ _ _ _) (by rw [fx 100 (by decide) (by decide)]; exact u100) (by rw [p_up_c _ _ _ _ _ (by decide), fx 96 (by decide) (by decide)]; exact u8) (fun j hj => fx j (by omega) (by omega)) h10 (by omega) (by rw [p_up_s, fx 95 (by decide) (by decide)]; unfold wtop; rw [if_pos b95.1, cx 318 (by decide), tp]) (by rw [fx 95 (by decide) (by decide)]; omega) (((p_fr.refl g).upf _ _ _ rfl).upf _ _ _ rfl)
    exact ⟨1, _, _, go _ SS.1, LPx.step e99 D LPx.refl, SS.2⟩
  · rw [if_neg c] at go
    have cg : g 254 96 ≠ g 254 97 := by rw [← u8, ← u9]; exact c
    rw [if_neg cg, p_w (by omega) (by omega)] at D
    obtain ⟨g', hg⟩ : ∃ g', g' = am_up (am_up g 254 98 ((k + 1 : Nat) : Int)) 254 96 (g 254 96 + 1) := ⟨_, rfl⟩
    rw [← hg] at D
    have fx : ∀ j, j ≠ 98 → j ≠ 96 → g' 254 j = g 254 j := fun j h1 h2 => by rw [hg, p_up_n _ _ _ _ _ _ (Or.inr h2), p_up_n _ _ _ _ _ _ (Or.inr h1)]
    have cx : ∀ c, c ≠ 254 → g' c = g c := fun c hc => by rw [hg, p_up_c _ _ _ _ _ hc, p_up_c _ _ _ _ _ hc]
    have z1 : g' 254 96 = g 254 96 + 1 := by rw [hg, p_up_s]
    obtain ⟨h', hh⟩ : ∃ h', h' = am_up (am_up h 21 (rs.length + 1) (p : Int)) 17 8 (h 17 8 + 1) := ⟨_, rfl⟩
    rw [← hh] at go
    have hc : ∀ c, c ≠ 17 → c ≠ 21 → h' c = h c := fun c h1 h2 => by rw [hh, p_up_c _ _ _ _ _ h1, p_up_c _ _ _ _ _ h2]
    have hf : ∀ j, j ≠ 8 → h' 17 j = h 17 j := fun j hj => by rw [hh, p_up_n _ _ _ _ _ _ (Or.inr hj), p_up_c _ _ _ _ _ (by decide)]
    have h21 : ∀ j, j ≠ rs.length + 1 → h' 21 j = h 21 j := fun j hj => by rw [hh, p_up_c _ _ _ _ _ (by decide), p_up_n _ _ _ _ _ _ (Or.inr hj)]
    have M' : MU ky g' (k + 1) G ((s, as, ls, th, st, rk) :: rs) := by
      have B1 : MB (am_up g 254 98 ((k + 1 : Nat) : Int)) ((s, as, ls, th, st, rk) :: rs) := B.fr (fun c hc => p_up_c _ _ _ _ _ (by omega))
      exact (M.pc B (k + 1)).keep B1 (fun a ha => by rw [hg, p_up_c _ _ _ _ _ (by omega)]) (fun j _ => by rw [hg, p_up_c _ _ _ _ _ (by omega)]) (fun j hj => by rw [hg, p_up_n _ _ _ _ _ _ (Or.inr (by omega))])
    have U' := U.go (k' := k + 1) M' (B.fr (fun a ha => cx a (by omega))) C (hi.eq (hc 13 (by decide) (by decide)) (hc 16 (by decide) (by decide)) (hf 14 (by decide))) (I.eq (fun j hj => hf j (by omega)) (hc 19 (by decide) (by decide)) (hc 20 (by decide) (by decide))) (by rw [hh, p_up_s, z1, u8]) (by rw [z1, fx 97 (by decide) (by decide)]; omega) (fun j hj => hf j (by omega)) (fun j hj => fx j (by omega) (by omega)) (cx 317 (by decide)) (fun f hf => h21 f (by omega)) (by rw [ha.2, cx 318 (by decide)]; exact W.1) (by rw [fx 95 (by decide) (by decide), ha.2, ha.1]; exact u95) (fun j hj => by rw [cx 318 (by decide)]) (fun _ => by rw [hh, p_up_c _ _ _ _ _ (by decide), p_up_s, fx 95 (by decide) (by decide)]; unfold wtop; rw [if_pos b95.1, cx 318 (by decide), tp]) hk h281 (by rw [ha.2]; exact k3) (by rw [hh]; exact ((p_fr.refl h).upc _ _ _ rfl).upf _ _ _ rfl) (by rw [hg]; exact ((p_fr.refl g).upf _ _ _ rfl).upf _ _ _ rfl)
    obtain ⟨e, hf, gf, o1, o2, o3⟩ := next h' g' a2 U' z1 R2
    unfold CL at o1
    rw [if_neg (by omega)] at o1
    exact ⟨e, hf, gf, go _ o1, LPx.step e99 D o2, o3⟩
end
