/-! RUN, 26: returns, on both sides -/
section
variable {ky : List Int} {lab fs gv : Nat → Nat} {h0 g0 : am_H} {at' : Nat → Nat × List Nat} {P : Nat → Int} {fr : Nat → Prop} {wp : Nat → Nat} {w0 N : Nat} {h g : am_H} {r : Nat → Int} {ab k : Nat} {s rk : Nat} {as ls : List Int} {th : Option Int} {st : List Int} {rs : List uF} {G : vG} {L n d : Nat} {q q2 : Nat × Nat} {a dd : Int} {vs : List vl} {v : Int} {f : uF}
/-- the model comes back -/
theorem m_18 (hk : k < 5000) (M : MU ky g k G ((s, as, ls, th, [v], rk) :: rs)) (B : MB g ((s, as, ls, th, [v], rk) :: rs)) (e0 : g 277 k = 18) (hu : ust rs ≤ 15000) (hd : rs.length < 40) : am_D (d + 13) 17 118 [am_r (am_a 254)] (zS L, g) = am_xV (zS L) (am_xV (zS L) (if rs.length = 0 then pV L (am_up (am_up (am_up (am_up (am_up (am_up g 254 98 ((k + 1 : Nat) : Int)) 254 87 (ust rs : Int)) 254 88 (rs.length : Int)) 254 95 (g 317 rs.length)) 254 98 (g 314 rs.length)) 254 99 0) else am_xV (zS L) (am_D (d + 10) 17 81 [am_r (am_a 254), am_i v] (zS L, am_up (am_up (am_up (am_up (am_up g 254 98 ((k + 1 : Nat) : Int)) 254 87 (ust rs : Int)) 254 88 (rs.length : Int)) 254 95 (g 317 rs.length)) 254 98 (g 314 rs.length))) (am_up1 (zS L)) fun h5 => some (.inl none, (zS L, h5))) (am_up1 (zS L)) fun h20 => some (.inl none, (zS L, h20))) (am_up1 (zS L)) fun h42 => some (.inl none, (zS L, h42)) := by
  have ek : g 254 98 = (k : Int) := M.2.2.1.2.2.1
  have e88 : g 254 88 = ((rs.length + 1 : Nat) : Int) := M.2.2.1.2.1
  obtain ⟨p1, p2, -⟩ := M.pop B
  have p1' : am_up g 254 98 ((k : Int) + 1) 254 87 = ((ust rs + 1 : Nat) : Int) := by rw [p_up_n _ _ _ _ _ _ (Or.inr (by decide))]; exact p1
  rw [m_stm hk ek (by omega), ek, p_w (x := (k : Int) + 1) (by omega) (by omega), D_17_119, p_idx (by omega) (by omega), Int.toNat_natCast, p_up_c _ _ _ _ _ (show 277 ≠ 254 by decide), e0, if_neg (by decide), if_neg (by decide), if_neg (by decide), if_neg (by decide), if_neg (by decide), if_neg (by decide), if_neg (by decide), if_pos rfl, D_17_117, m_pop _ L p1' (by omega), p_xI]
  have x88 : am_up (am_up g 254 98 ((k : Int) + 1)) 254 87 (ust rs : Int) 254 88 = ((rs.length + 1 : Nat) : Int) := by rw [p_up_n _ _ _ _ _ _ (Or.inr (by decide)), p_up_n _ _ _ _ _ _ (Or.inr (by decide))]; exact e88
  have x313 : am_up g 254 98 ((k : Int) + 1) 313 (ust rs) = v := by rw [p_up_c _ _ _ _ _ (by decide)]; exact p2
  rw [x88, x313, p_w (by omega) (by omega), p_idx (by omega) (by omega), p_idx (by omega) (by omega), show (((rs.length + 1 : Nat) : Int) - 1).toNat = rs.length by omega, show ((rs.length + 1 : Nat) : Int) - 1 = (rs.length : Int) by omega, p_up_c _ _ _ _ _ (show 317 ≠ 254 by decide), p_up_c _ _ _ _ _ (show 317 ≠ 254 by decide), p_up_c _ _ _ _ _ (show 314 ≠ 254 by decide), p_up_c _ _ _ _ _ (show 314 ≠ 254 by decide)]
  by_cases z : rs.length = 0
  · rw [if_pos (by omega), if_pos z]; rfl
  · rw [if_neg (by omega), if_neg z]; rfl
theorem u_ret (U : UR ky lab fs h0 g0 at' P fr wp w0 N h g r ab k (s, as, ls, th, st, rk) (f :: rs) G) (R : hrg ((q.1 : Int), a, dd, r)) (Y : LU h lab fs gv 1 q [(16, 0, 0)]) (hq : q.2 = 0) (e0 : g 277 k = 18) (hk5 : k < 5000) (hu : ust (f :: rs) ≤ 15000) (hat : (at' k).1 = 1) (rst : ∀ w ∈ st, rg16 w) (hlen : (at' k).2.length ≤ 30) (hwp : ∀ rk, rk < N → 1 ≤ rk → g0 277 (rk - 1) = 10 → wp rk < 32768)
    (next : ∀ (h' g' : am_H) (a2 d2 : Int) (r2 : Nat → Int) (ab2 : Nat) (q' : uF), UR ky lab fs h0 g0 at' P fr wp w0 N h' g' r2 ab2 rk q' rs G → g' 254 96 = g 254 96 → 1 ≤ rk → g0 277 (rk - 1) = 10 → hrg ((wp rk : Int), a2, d2, r2) → GOAL ky L n d h0 g0 h' g' 0 ((wp rk : Int), a2, d2, r2)) : GOAL ky L n d h0 g0 h g q.2 ((q.1 : Int), a, dd, r) := by
  obtain ⟨⟨hi, C, I⟩, ⟨M, B⟩, ⟨⟨u8, u9, u10, u11⟩, us, u13, u100⟩, ⟨W, u95, upl, frs⟩, ⟨⟨k1, k2, k3, k4⟩, ht1, ht2⟩, g0', g1'⟩ := id U
  obtain ⟨t1, t2, t3, t4, t5, t6⟩ := ht1
  dsimp only at t1 t2 t3 t5 t6
  obtain ⟨v, rfl⟩ : ∃ v, st = [v] := by
    have k3 : st.length = (at' k).1 := k3
    match st, k3 with
    | [v], _ => exact ⟨v, rfl⟩
    | [], h => rw [hat] at h; cases h
    | _ :: _ :: _, h => rw [hat, List.length_cons, List.length_cons] at h; omega
  have e88 : g 254 88 = (((f :: rs).length + 1 : Nat) : Int) := M.2.2.1.2.1
  have e99 : g 254 99 = -1 := M.2.2.1.2.2.2
  have h10 : h 17 10 = (((f :: rs).length + 1 : Nat) : Int) := by rw [u10, e88]
  have D := m_18 (L := L) (d := d) hk5 M B e0 hu k4
  rw [if_neg (by rw [List.length_cons]; omega)] at D
  obtain ⟨m1, m2, ⟨m3, m4, m5, m6⟩, m7, m8, m9, m10, m11⟩ := id M
  have e314 : g 314 (f :: rs).length = (rk : Int) := m7.1.2
  obtain ⟨w1, w2, w3, w4, w5⟩ := id W
  have z4 := w4 (List.cons_ne_nil _ _)
  rw [e314] at D
  obtain ⟨g1, hg1⟩ : ∃ g1, g1 = am_up (am_up (am_up (am_up (am_up g 254 98 ((k + 1 : Nat) : Int)) 254 87 (ust (f :: rs) : Int)) 254 88 ((f :: rs).length : Int)) 254 95 (g 317 (f :: rs).length)) 254 98 (rk : Int) := ⟨_, rfl⟩
  rw [← hg1] at D
  have c1 : ∀ c, c ≠ 254 → g1 c = g c := fun c hc => by rw [hg1, p_up_c _ _ _ _ _ hc, p_up_c _ _ _ _ _ hc, p_up_c _ _ _ _ _ hc, p_up_c _ _ _ _ _ hc, p_up_c _ _ _ _ _ hc]
  have f1 : ∀ j, j ≠ 87 → j ≠ 88 → j ≠ 95 → j ≠ 98 → g1 254 j = g 254 j := fun j h1 h2 h3 h4 => by rw [hg1, p_up_n _ _ _ _ _ _ (Or.inr h4), p_up_n _ _ _ _ _ _ (Or.inr h3), p_up_n _ _ _ _ _ _ (Or.inr h2), p_up_n _ _ _ _ _ _ (Or.inr h1), p_up_n _ _ _ _ _ _ (Or.inr h4)]
  have M1 : MU ky g1 rk G ((f.1, f.2.1, f.2.2.1, f.2.2.2.1, uSt f, f.2.2.2.2.2) :: rs) := by
    refine ⟨m1.same (fun a ha => c1 a (by omega)) (fun j hj => f1 j (by omega) (by omega) (by omega) (by omega)), fun j hj => by rw [c1 311 (by omega)]; exact m2 j hj, ⟨?_, ?_, ?_, ?_⟩, MFS.fr (fun a ha => c1 a (by omega)) (fs := f :: rs) B.2 ⟨m9, m10, m11⟩ (fun j _ => by rw [c1 312 (by omega)]) (fun j _ => by rw [c1 313 (by omega)])⟩
    · rw [hg1, p_up_n _ _ _ _ _ _ (Or.inr (by decide)), p_up_n _ _ _ _ _ _ (Or.inr (by decide)), p_up_n _ _ _ _ _ _ (Or.inr (by decide)), p_up_s]; rfl
    · rw [hg1, p_up_n _ _ _ _ _ _ (Or.inr (by decide)), p_up_n _ _ _ _ _ _ (Or.inr (by decide)), p_up_s]; rfl
    · rw [hg1, p_up_s]
    · rw [f1 99 (by decide) (by decide) (by decide) (by decide)]; exact e99
  have B1 : MB g1 ((f.1, f.2.1, f.2.2.1, f.2.2.2.1, uSt f, f.2.2.2.2.2) :: rs) := MB.fr (fun a ha => c1 a (by omega)) (fs := f :: rs) B.2
  have hu' : ust rs + (uSt f).length ≤ 15000 := hu
  have rv : am_s16 v = v := s16_id (rst v (List.mem_singleton.2 rfl))
  have PP := m_put (d + 8) L v M1.2.2.1.1 (show ust rs + (uSt f).length < 20000 by omega)
  have M2 := M1.put B1 v
  rw [PP, p_xV, p_xV, p_xV, rv] at D
  obtain ⟨g', hg'⟩ : ∃ g', g' = am_up (am_up g1 313 (ust ((f.1, f.2.1, f.2.2.1, f.2.2.2.1, uSt f, f.2.2.2.2.2) :: rs)) v) 254 87 ((ust ((f.1, f.2.1, f.2.2.1, f.2.2.2.1, uSt f, f.2.2.2.2.2) :: rs) + 1 : Nat) : Int) := ⟨_, rfl⟩
  have M2 : MU ky g' rk G ((f.1, f.2.1, f.2.2.1, f.2.2.2.1, v :: uSt f, f.2.2.2.2.2) :: rs) := by rw [hg']; exact M2
  rw [← hg'] at D
  have c2 : ∀ c, c ≠ 254 → c ≠ 313 → g' c = g c := fun c h1 h2 => by rw [hg', p_up_c _ _ _ _ _ h1, p_up_c _ _ _ _ _ h2, c1 c h1]
  have f2 : ∀ j, j ≠ 87 → g' 254 j = g1 254 j := fun j hj => by rw [hg', p_up_n _ _ _ _ _ _ (Or.inr hj), p_up_c _ _ _ _ _ (by decide)]
  have g95 : g' 254 95 = g 317 (f :: rs).length := by rw [f2 95 (by decide), hg1, p_up_n _ _ _ _ _ _ (Or.inr (by decide)), p_up_s]
  have ff : p_fr mcC mcF g g' := by
    rw [hg', hg1]
    exact (((((((p_fr.refl g).upf _ _ _ rfl).upf _ _ _ rfl).upf _ _ _ rfl).upf _ _ _ rfl).upf _ _ _ rfl).upc _ _ _ rfl).upf _ _ _ rfl
  obtain ⟨a2, d2, r2, ab2, ⟨R2, go⟩, C2⟩ := c_ret (L := L) (n := n) Y.1 hq hi C (hwp rk t2 t5 t6) R h10 (by rw [List.length_cons] at k4 ⊢; omega) t4
  have lc : (f :: rs).length = rs.length + 1 := rfl
  obtain ⟨h', hh⟩ : ∃ h', h' = am_up h 17 10 ((((f :: rs).length + 1 : Nat) : Int) - 1) := ⟨_, rfl⟩
  rw [← hh] at go
  have hc : ∀ c, c ≠ 17 → h' c = h c := fun c h1 => by rw [hh, p_up_c _ _ _ _ _ h1]
  have hf : ∀ j, j ≠ 10 → h' 17 j = h 17 j := fun j hj => by rw [hh, p_up_n _ _ _ _ _ _ (Or.inr hj)]
  have wt : ∀ w, wtop g' w = wtop g w := fun w => by unfold wtop; rw [c2 318 (by decide) (by decide), f2 74 (by decide), f1 74 (by decide) (by decide) (by decide) (by decide)]
  have U' : UR ky lab fs h0 g0 at' P fr wp w0 N h' g' r2 ab2 rk (f.1, f.2.1, f.2.2.1, f.2.2.2.1, v :: uSt f, f.2.2.2.2.2) rs G := by
    refine ⟨⟨hi.eq (hc 13 (by decide)) (hc 16 (by decide)) (hf 14 (by decide)), C2, I.eq (fun j hj => hf j (by omega)) (hc 19 (by decide)) (hc 20 (by decide))⟩, ⟨M2, MB.fr (fun a ha => by rw [c2 a (by omega) (by omega)]) (fs := f :: rs) B.2⟩, ⟨⟨?_, ?_, ?_, ?_⟩, ?_, ?_, ?_⟩, ⟨?_, ?_, fun j hj => ?_, fun _ => ?_⟩, ⟨⟨t2, t3, ?_, ?_⟩, ht2⟩, g0'.trans (by rw [hh]; exact (p_fr.refl h).upf _ _ _ rfl), g1'.trans ff⟩
    · rw [hf 8 (by decide), f2 96 (by decide), f1 96 (by decide) (by decide) (by decide) (by decide)]; exact u8
    · rw [hf 9 (by decide), f2 97 (by decide), f1 97 (by decide) (by decide) (by decide) (by decide)]; exact u9
    · rw [hh, p_up_s, f2 88 (by decide), hg1, p_up_n _ _ _ _ _ _ (Or.inr (by decide)), p_up_n _ _ _ _ _ _ (Or.inr (by decide)), p_up_s, lc]; omega
    · rw [hf 11 (by decide), f2 89 (by decide), f1 89 (by decide) (by decide) (by decide) (by decide)]; exact u11
    · rw [f2 96 (by decide), f1 96 (by decide) (by decide) (by decide) (by decide), f2 97 (by decide), f1 97 (by decide) (by decide) (by decide) (by decide)]; exact us
    · rw [hf 13 (by decide)]; exact u13
    · rw [f2 100 (by decide), f1 100 (by decide) (by decide) (by decide) (by decide)]; exact u100
    · -- the rows of work below
      have := WS_fr (g' := g') (fun j _ => by rw [c2 317 (by decide) (by decide)]) (fun j _ => by rw [c2 318 (by decide) (by decide)]) w5 (by rw [List.length_cons] at k4 ⊢; omega) (fun q' rs' e => by
        cases e
        rw [lc, Nat.add_sub_cancel] at z4
        dsimp only at z4 ⊢
        rw [u95, lc]
        omega)
      exact this
    · rw [g95, z4, lc, Nat.add_sub_cancel, c2 317 (by decide) (by decide)]
    · rw [hc 21 (by decide), wt, c2 317 (by decide) (by decide)]; exact upl j (by rw [lc]; omega)
    · rw [hc 21 (by decide), wt, g95]; exact upl (rs.length + 1) (by rw [lc]; omega)
    · exact t1
    · rw [lc] at k4; omega
  obtain ⟨e, hf', gf, o1, o2, o3⟩ := next h' g' a2 d2 r2 ab2 _ U' (by rw [f2 96 (by decide), f1 96 (by decide) (by decide) (by decide) (by decide)]) t5 t6 R2
  unfold CL at o1
  rw [if_pos rfl] at o1
  exact ⟨e, hf', gf, go _ o1, LPx.step e99 D o2, o3⟩
/-- the last return -/
theorem u_ret0 (U : UR ky lab fs h0 g0 at' P fr wp w0 N h g r ab k (s, as, ls, th, st, rk) [] G) (R : hrg ((q.1 : Int), a, dd, r)) (Y : LU h lab fs gv 1 q [(16, 0, 0)]) (hq : q.2 = 0) (e0 : g 277 k = 18) (hk5 : k < 5000) (hat : (at' k).1 = 1) (hw0 : w0 < 32768)
    (HB : ∀ (h' : am_H) (a2 d2 : Int) (r2 : Nat → Int), HI h' lab fs → h' 13 = h 13 → h' 16 = h 16 → IOR ky G h' → r2 0 = ((17001 : Nat) : Int) → (∀ k, 16 ≤ k → k < 17000 → r2 k = G.1 k) → hrg ((w0 : Int), a2, d2, r2) → ∃ hf, H3 L n h' ((w0 : Int), a2, d2, r2) (pI L 0 hf) ∧ hEnd ky h' 0 0 G hf ∧ ∀ k, rg16 (hf 18 k)) : GOAL ky L n d h0 g0 h g q.2 ((q.1 : Int), a, dd, r) := by
  obtain ⟨⟨hi, C, I⟩, ⟨M, B⟩, ⟨⟨u8, u9, u10, u11⟩, us, u13, u100⟩, ⟨W, u95, upl, frs⟩, ⟨⟨k1, k2, k3, k4⟩, ht⟩, g0', g1'⟩ := id U
  obtain ⟨v, rfl⟩ : ∃ v, st = [v] := by
    have k3 : st.length = (at' k).1 := k3
    match st, k3 with
    | [v], _ => exact ⟨v, rfl⟩
    | [], h => rw [hat] at h; cases h
    | _ :: _ :: _, h => rw [hat, List.length_cons, List.length_cons] at h; omega
  have e88 : g 254 88 = ((1 : Nat) : Int) := M.2.2.1.2.1
  have e99 : g 254 99 = -1 := M.2.2.1.2.2.2
  have h10 : h 17 10 = ((1 : Nat) : Int) := by rw [u10, e88]
  have D := m_18 (L := L) (d := d) hk5 M B e0 (Nat.zero_le _) k4
  rw [if_pos (show ([] : List uF).length = 0 from rfl), p_xV, p_xV] at D
  obtain ⟨g', hg'⟩ : ∃ g', g' = am_up (am_up (am_up (am_up (am_up (am_up g 254 98 ((k + 1 : Nat) : Int)) 254 87 (ust [] : Int)) 254 88 (([] : List uF).length : Int)) 254 95 (g 317 ([] : List uF).length)) 254 98 (g 314 ([] : List uF).length)) 254 99 0 := ⟨_, rfl⟩
  rw [← hg'] at D
  have c1 : ∀ c, c ≠ 254 → g' c = g c := fun c hc => by rw [hg', p_up_c _ _ _ _ _ hc, p_up_c _ _ _ _ _ hc, p_up_c _ _ _ _ _ hc, p_up_c _ _ _ _ _ hc, p_up_c _ _ _ _ _ hc, p_up_c _ _ _ _ _ hc]
  have f1 : ∀ j, j ≠ 87 → j ≠ 88 → j ≠ 95 → j ≠ 98 → j ≠ 99 → g' 254 j = g 254 j := fun j h1 h2 h3 h4 h5 => by rw [hg', p_up_n _ _ _ _ _ _ (Or.inr h5), p_up_n _ _ _ _ _ _ (Or.inr h4), p_up_n _ _ _ _ _ _ (Or.inr h3), p_up_n _ _ _ _ _ _ (Or.inr h2), p_up_n _ _ _ _ _ _ (Or.inr h1), p_up_n _ _ _ _ _ _ (Or.inr h4)]
  obtain ⟨a2, d2, r2, ⟨R2, go⟩, z0, zm, zb1, zb2⟩ := c_ret0 (L := L) (n := n) Y.1 hq hi C hw0 R h10 (by decide)
  have eab : ab = 17000 := by omega
  subst eab
  obtain ⟨h', hh⟩ : ∃ h', h' = am_up h 17 10 (((1 : Nat) : Int) - 1) := ⟨_, rfl⟩
  rw [← hh] at go
  have hc : ∀ c, c ≠ 17 → h' c = h c := fun c h1 => by rw [hh, p_up_c _ _ _ _ _ h1]
  have hf : ∀ j, j ≠ 10 → h' 17 j = h 17 j := fun j hj => by rw [hh, p_up_n _ _ _ _ _ _ (Or.inr hj)]
  obtain ⟨hf', H3', E, E2⟩ := HB h' a2 d2 r2 (hi.eq (hc 13 (by decide)) (hc 16 (by decide)) (hf 14 (by decide))) (hc 13 (by decide)) (hc 16 (by decide)) (I.eq (fun j hj => hf j (by omega)) (hc 19 (by decide)) (hc 20 (by decide))) z0 zm R2
  obtain ⟨x1, x2, x3, x4, x5, x6, x7⟩ := E
  have w0' : g' 254 95 = 0 := by
    rw [hg', p_up_n _ _ _ _ _ _ (Or.inr (by decide)), p_up_n _ _ _ _ _ _ (Or.inr (by decide)), p_up_s]
    exact W.2.2.1 rfl
  refine ⟨0, hf', g', go _ H3', LPx.step e99 D LPx.refl, G, ⟨x2, M.1.same (fun a ha => c1 a (by omega)) (fun j hj => f1 j (by omega) (by omega) (by omega) (by omega) (by omega)), x7⟩, ⟨x3, x4, by rw [hg', p_up_s], Int.le_refl _, ?_⟩, ⟨?_, ?_, ?_⟩, fun z => absurd rfl z, by rw [w0']; omega, g0'.trans (p_fr.trans (by rw [hh]; exact (p_fr.refl h).upf _ _ _ rfl) (x1.mono rfl rfl)), g1'.trans (by rw [hg']; exact ((((((p_fr.refl g).upf _ _ _ rfl).upf _ _ _ rfl).upf _ _ _ rfl).upf _ _ _ rfl).upf _ _ _ rfl).upf _ _ _ rfl), E2⟩
  · rw [x6 (by decide), hf 13 (by decide), u13, f1 100 (by decide) (by decide) (by decide) (by decide) (by decide), u100]
  · rw [x1 17 8 rfl rfl, hf 8 (by decide), f1 96 (by decide) (by decide) (by decide) (by decide) (by decide)]; exact u8
  · rw [x1 17 9 rfl rfl, hf 9 (by decide), f1 97 (by decide) (by decide) (by decide) (by decide) (by decide)]; exact u9
  · rw [x1 17 11 rfl rfl, hf 11 (by decide), f1 89 (by decide) (by decide) (by decide) (by decide) (by decide)]; exact u11
end
