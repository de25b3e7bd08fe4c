/-! RUN, 24: statements and jumps, on both sides, joined -/
section
variable {ky : List Int} {lab fs gv : Nat → Nat} {h0 g0 : am_H} {at' : Nat → Nat × List Nat} {P : Nat → Int} {fr : Nat → Prop} {wp : Nat → Nat} {w0 N : Nat} {h g : am_H} {r : Nat → Int} {ab k : Nat} {s rk : Nat} {as ls : List Int} {th : Option Int} {st : List Int} {rs : List uF} {G : vG} {L n d : Nat} {q q2 : Nat × Nat} {a dd : Int} {vs : List vl} {x y : Int}
/-- a state in which only the model's place and its row of work have changed -/
theorem UR.go {g' h' : am_H} {r' : Nat → Int} {st' : List Int} {k' : Nat} (U : UR ky lab fs h0 g0 at' P fr wp w0 N h g r ab k (s, as, ls, th, st, rk) rs G) (M' : MU ky g' k' G ((s, as, ls, th, st', rk) :: rs)) (B' : MB g' ((s, as, ls, th, st', rk) :: rs)) (C' : CU r' wp w0 ab (s, as, ls, th, st', rk) rs G)
    (hi' : HI h' lab fs) (I' : IOR ky G h') (e8 : h' 17 8 = g' 254 96) (es : 0 ≤ g' 254 96 ∧ g' 254 96 ≤ g' 254 97) (fh : ∀ j, j = 9 ∨ j = 10 ∨ j = 11 ∨ j = 13 → h' 17 j = h 17 j) (fg : ∀ j, j = 97 ∨ j = 88 ∨ j = 89 ∨ j = 100 ∨ j = 74 → g' 254 j = g 254 j) (c317 : g' 317 = g 317) (h21 : ∀ f, f ≤ rs.length → h' 21 f = h 21 f)
    (W' : SK (g' 318) (g 317 rs.length).toNat ((at' k').2.map P)) (w95 : g' 254 95 = g 317 rs.length + ((at' k').2.length : Int)) (w318 : ∀ j : Nat, (j : Int) < g 317 rs.length → g' 318 j = g 318 j) (hfr : fr k' → h' 21 (rs.length + 1) = wtop g' (g' 254 95)) (hk : k' < N) (h281 : g0 281 k' = (s : Int)) (hh : st'.length = (at' k').1) (f0 : p_fr ccC ccF h h') (f1 : p_fr mcC mcF g g') : UR ky lab fs h0 g0 at' P fr wp w0 N h' g' r' ab k' (s, as, ls, th, st', rk) rs G := by
  obtain ⟨⟨hi, C, I⟩, ⟨M, B⟩, ⟨⟨u8, u9, u10, u11⟩, us, u13, u100⟩, ⟨W, u95, pl, frs⟩, ⟨⟨k1, k2, k3, k4⟩, ht⟩, g0', g1'⟩ := U
  obtain ⟨w1, w2, w3, w4, w5⟩ := W
  refine ⟨⟨hi', C', I'⟩, ⟨M', B'⟩, ⟨⟨e8, ?_, ?_, ?_⟩, ⟨es.1, es.2, ?_⟩, ?_, ?_⟩, ⟨⟨?_, ?_, ?_, ?_, ?_⟩, ?_, fun j hj => ?_, hfr⟩, ⟨⟨hk, h281, hh, k4⟩, ht⟩, g0'.trans f0, g1'.trans f1⟩
  · rw [fh 9 (by omega), fg 97 (by omega)]; exact u9
  · rw [fh 10 (by omega), fg 88 (by omega)]; exact u10
  · rw [fh 11 (by omega), fg 89 (by omega)]; exact u11
  · rw [fg 97 (by omega)]; exact us.2.2
  · rw [fh 13 (by omega)]; exact u13
  · rw [fg 100 (by omega)]; exact u100
  · rw [c317]; exact W'
  · rw [c317]; exact w2
  · rw [c317]; exact w3
  · rw [c317]; exact w4
  · -- rows of work below
    have low : ∀ {rs' : List uF} {k : Nat}, WS g at' P k rs' → rs'.length ≤ rs.length → (∀ (q : uF) (rs'' : List uF), rs' = q :: rs'' → g 317 rs''.length + ((at' k).2.length : Int) ≤ g 317 rs.length) → WS g' at' P k rs' := by
      intro rs'
      induction rs' with
      | nil => intro k _ _ _; trivial
      | cons q0 rs0 ihs =>
        intro k0 ⟨v1, v2, v3, v4, v5⟩ hl hb
        have b := hb q0 rs0 rfl
        rw [List.length_cons] at hl
        unfold WS
        rw [c317]
        refine ⟨v1.fr (fun j j1 j2 => w318 j (by rw [List.length_map] at j2; omega)), v2, v3, v4, ihs v5 (by omega) (fun q1 rs1 e => ?_)⟩
        have z := v4 (by rw [e]; exact List.cons_ne_nil _ _)
        rw [e, List.length_cons, Nat.add_sub_cancel] at z
        rw [e, List.length_cons] at b
        omega
    refine low w5 (Nat.le_refl _) (fun q0 rs0 e => ?_)
    have z := w4 (by rw [e]; exact List.cons_ne_nil _ _)
    rw [e, List.length_cons, Nat.add_sub_cancel] at z
    rw [e, List.length_cons]
    dsimp only at z ⊢
    omega
  · rw [c317]; exact w95
  · have le := WS.le (rs := (s, as, ls, th, st, rk) :: rs) (k := k) (g := g) (at' := at') (P := P) ⟨w1, w2, w3, w4, w5⟩ j (by rw [List.length_cons]; omega) _ _ rfl
    rw [h21 j hj, c317, pl j hj]
    unfold wtop
    rw [fg 74 (by omega)]
    by_cases z : 0 < g 317 j
    · rw [if_pos z, if_pos z, w318 _ (by omega)]
    · rw [if_neg z, if_neg z]
theorem u_done (U : UR ky lab fs h0 g0 at' P fr wp w0 N h g r ab k (s, as, ls, th, st, rk) rs G) (R : hrg ((q.1 : Int), a, dd, r)) (e0 : g 277 k = 12) (hk5 : k < 5000) (hk : k + 1 < N) (h281 : g0 281 (k + 1) = (s : Int)) (ha : (at' k).2 ≠ [] ∧ at' (k + 1) = ((at' k).1, (at' k).2.tail)) (hfr : ¬ fr (k + 1)) (hlen : (at' k).2.length ≤ 30)
    (next : ∀ (g' : am_H), UR ky lab fs h0 g0 at' P fr wp w0 N h g' r ab (k + 1) (s, as, ls, th, st, rk) rs G → g' 254 96 = g 254 96 → GOAL ky L n d h0 g0 h g' q.2 ((q.1 : Int), a, dd, r)) : GOAL ky L n d h0 g0 h g q.2 ((q.1 : Int), a, dd, r) := by
  obtain ⟨⟨hi, C, I⟩, ⟨M, B⟩, ⟨⟨e8, e9, e10, e11⟩, es, e13, e100⟩, ⟨W, e95, pl, frs⟩, ⟨⟨k1, k2, k3, k4⟩, ht⟩, f0, f1⟩ := id U
  obtain ⟨t, tl, et⟩ := List.exists_cons_of_ne_nil ha.1
  have b95 : 0 ≤ g 254 95 ∧ g 254 95 ≤ 1200 := by
    have := W.2.1
    rw [e95]; omega
  have D := m_12 (L := L) (d := d) hk5 M e0
  obtain ⟨g', hg⟩ : ∃ g', g' = am_up (am_up g 254 98 ((k + 1 : Nat) : Int)) 254 95 (am_w (g 254 95 - 1)) := ⟨_, rfl⟩
  rw [← hg] at D
  have c : ∀ a, a ≠ 254 → g' a = g a := fun a ha => by rw [hg, p_up_c _ _ _ _ _ ha, p_up_c _ _ _ _ _ ha]
  have f : ∀ j, j ≠ 95 → j ≠ 98 → g' 254 j = g 254 j := fun j h1 h2 => by rw [hg, p_up_n _ _ _ _ _ _ (Or.inr h1), p_up_n _ _ _ _ _ _ (Or.inr h2)]
  have M' : MU ky g' (k + 1) G ((s, as, ls, th, st, rk) :: rs) := by
    have c' : ∀ a, a ≠ 254 → g' a = am_up g 254 98 ((k + 1 : Nat) : Int) a := fun a ha => by rw [hg, p_up_c _ _ _ _ _ ha]
    have B1 : MB (am_up g 254 98 ((k + 1 : Nat) : Int)) ((s, as, ls, th, st, rk) :: rs) := B.fr (fun c hc => p_up_c _ _ _ _ _ (by omega))
    exact (M.pc B (k + 1)).keep B1 (fun a ha => c' a (by omega)) (fun j _ => by rw [c' 312 (by omega)]) (fun j hj => by rw [hg, p_up_n _ _ _ _ _ _ (Or.inr (by omega))])
  have e95' : g' 254 95 = g 254 95 - 1 := by rw [hg, p_up_s, p_w (by omega) (by omega)]
  have U' := U.go M' (B.fr (fun a ha => c a (by omega))) C hi I (by rw [f 96 (by decide) (by decide)]; exact e8) (by rw [f 96 (by decide) (by decide), f 97 (by decide) (by decide)]; exact ⟨es.1, es.2.1⟩) (fun j _ => rfl) (fun j hj => f j (by omega) (by omega)) (c 317 (by decide)) (fun _ _ => rfl) (by
      rw [ha.2, c 318 (by decide)]
      have := W.1
      rw [et] at this ⊢
      exact this.2) (by rw [e95', e95, ha.2, et]; show _ + ((tl.length + 1 : Nat) : Int) - 1 = _ + (tl.length : Int); omega) (fun j _ => by rw [c 318 (by decide)]) (fun z => absurd z hfr) hk h281 (by rw [ha.2]; exact k3) (p_fr.refl h) (by rw [hg]; exact ((p_fr.refl g).upf _ _ _ rfl).upf _ _ _ rfl)
  obtain ⟨e, hf, gf, o1, o2, o3⟩ := next g' U' (f 96 (by decide) (by decide))
  exact ⟨e, hf, gf, o1, LPx.step M.2.2.1.2.2.2 D o2, o3⟩
/-- the model goes to a label and past it -/
theorem m_pass {t : Nat} {g1 : am_H} (M : MU ky g1 t G ((s, as, ls, th, st, rk) :: rs)) (B : MB g1 ((s, as, ls, th, st, rk) :: rs)) (ht : t < 5000) (e0 : g1 277 t = 20) : ∃ g', am_D (d + 13) 17 118 [am_r (am_a 254)] (zS L, g1) = pV L g' ∧ MU ky g' (t + 1) G ((s, as, ls, th, st, rk) :: rs) ∧ (∀ c, c ≠ 254 → g' c = g1 c) ∧ (∀ j, j ≠ 98 → g' 254 j = g1 254 j) ∧ p_fr mcC mcF g1 g' :=
  ⟨_, m_20 ht M e0, M.pc B (t + 1), fun c hc => p_up_c _ _ _ _ _ hc, fun j hj => p_up_n _ _ _ _ _ _ (Or.inr hj), (p_fr.refl g1).upf _ _ _ rfl⟩
/-- only the place has changed -/
theorem UR.pl {g' : am_H} {r' : Nat → Int} {st' : List Int} {k' : Nat} (U : UR ky lab fs h0 g0 at' P fr wp w0 N h g r ab k (s, as, ls, th, st, rk) rs G) (M' : MU ky g' k' G ((s, as, ls, th, st', rk) :: rs)) (C' : CU r' wp w0 ab (s, as, ls, th, st', rk) rs G) (c : ∀ c, c ≠ 254 → g' c = g c) (f : ∀ j, j ≠ 98 → j ≠ 87 → g' 254 j = g 254 j) (ha : (at' k').2 = (at' k).2) (hfr : fr k' → fr k) (hk : k' < N) (h281 : g0 281 k' = (s : Int)) (hh : st'.length = (at' k').1) (f1 : p_fr mcC mcF g g') : UR ky lab fs h0 g0 at' P fr wp w0 N h g' r' ab k' (s, as, ls, th, st', rk) rs G := by
  obtain ⟨⟨hi, C, I⟩, ⟨M, B⟩, ⟨⟨e8, e9, e10, e11⟩, es, e13, e100⟩, ⟨W, e95, pl, frs⟩, ⟨⟨k1, k2, k3, k4⟩, ht⟩, f0, f1'⟩ := id U
  refine U.go M' (MB.fr (fun a ha => c a (by omega)) (fs := (s, as, ls, th, st, rk) :: rs) B) C' hi I (by rw [f 96 (by decide) (by decide)]; exact e8) (by rw [f 96 (by decide) (by decide), f 97 (by decide) (by decide)]; exact ⟨es.1, es.2.1⟩) (fun j _ => rfl) (fun j hj => f j (by omega) (by omega)) (c 317 (by decide)) (fun _ _ => rfl) (by rw [ha, c 318 (by decide)]; exact W.1) (by rw [f 95 (by decide) (by decide), ha]; exact e95) (fun j _ => by rw [c 318 (by decide)]) (fun z => ?_) hk h281 hh (p_fr.refl h) f1
  rw [f 95 (by decide) (by decide)]
  unfold wtop
  rw [c 318 (by decide), f 74 (by decide) (by decide)]
  exact frs (hfr z)
theorem u_label {x : Nat} (U : UR ky lab fs h0 g0 at' P fr wp w0 N h g r ab k (s, as, ls, th, st, rk) rs G) (R : hrg ((q.1 : Int), a, dd, r)) (Y : LU h lab fs gv 1 q [(11, x, 0)]) (hq : q2 = lfold q [(11, x, 0)]) (e0 : g 277 k = 20) (hk5 : k < 5000) (hk : k + 1 < N) (h281 : g0 281 (k + 1) = (s : Int)) (ha : at' (k + 1) = at' k) (hfr : ¬ fr (k + 1))
    (next : ∀ (g' : am_H) (a2 : Int), UR ky lab fs h0 g0 at' P fr wp w0 N h g' r ab (k + 1) (s, as, ls, th, st, rk) rs G → g' 254 96 = g 254 96 → hrg ((q2.1 : Int), a2, dd, r) → GOAL ky L n d h0 g0 h g' q2.2 ((q2.1 : Int), a2, dd, r)) : GOAL ky L n d h0 g0 h g q.2 ((q.1 : Int), a, dd, r) := by
  obtain ⟨⟨hi, C, I⟩, ⟨M, B⟩, -, -, ⟨⟨k1, k2, k3, k4⟩, ht⟩, -⟩ := id U
  obtain ⟨g', D, M', c, f, f1⟩ := m_pass (L := L) (d := d) M B hk5 e0
  have U' := U.pl M' C c (fun j h1 _ => f j h1) (by rw [ha]) (fun z => absurd z hfr) hk h281 (by rw [ha]; exact k3) f1
  obtain ⟨a2, R2, go⟩ := c_label (L := L) (n := n) Y.1 hi.2.1 R
  rw [hq] at next
  obtain ⟨e, hf, gf, o1, o2, o3⟩ := next g' a2 U' (f 96 (by decide)) R2
  exact ⟨e, hf, gf, go _ o1, LPx.step M.2.2.1.2.2.2 D o2, o3⟩
theorem u_jump {y t : Nat} (U : UR ky lab fs h0 g0 at' P fr wp w0 N h g r ab k (s, as, ls, th, st, rk) rs G) (R : hrg ((q.1 : Int), a, dd, r)) (Y : LU h lab fs gv 1 q [(12, y, 0)]) (e0 : g 277 k = 16) (hk5 : k < 5000) (e78 : g 278 k = (t : Int)) (ht5 : t < 5000) (et : g 277 t = 20) (hk : t + 1 < N) (h281 : g0 281 (t + 1) = (s : Int)) (hl : lab y = q2.1) (hq : q2.2 = 0) (ha : at' (t + 1) = at' k) (hfr : ¬ fr (t + 1))
    (next : ∀ (g' : am_H) (a2 : Int), UR ky lab fs h0 g0 at' P fr wp w0 N h g' r ab (t + 1) (s, as, ls, th, st, rk) rs G → g' 254 96 = g 254 96 → hrg ((q2.1 : Int), a2, dd, r) → GOAL ky L n d h0 g0 h g' q2.2 ((q2.1 : Int), a2, dd, r)) : GOAL ky L n d h0 g0 h g q.2 ((q.1 : Int), a, dd, r) := by
  obtain ⟨⟨hi, C, I⟩, ⟨M, B⟩, -, -, ⟨⟨k1, k2, k3, k4⟩, ht⟩, -⟩ := id U
  have D1 := m_16 (L := L) (d := d) hk5 M e0
  rw [e78] at D1
  have B1 : MB (am_up g 254 98 ((k + 1 : Nat) : Int)) ((s, as, ls, th, st, rk) :: rs) := B.fr (fun c hc => p_up_c _ _ _ _ _ (by omega))
  have M1 := (M.pc B (k + 1)).pc B1 t
  have B2 : MB (am_up (am_up g 254 98 ((k + 1 : Nat) : Int)) 254 98 (t : Int)) ((s, as, ls, th, st, rk) :: rs) := B1.fr (fun c hc => p_up_c _ _ _ _ _ (by omega))
  obtain ⟨g', D, M', c, f, f1⟩ := m_pass (L := L) (d := d) M1 B2 ht5 (by rw [p_up_c _ _ _ _ _ (by decide), p_up_c _ _ _ _ _ (by decide)]; exact et)
  have U' := U.pl M' C (fun a ha => by rw [c a ha, p_up_c _ _ _ _ _ ha, p_up_c _ _ _ _ _ ha]) (fun j h1 _ => by rw [f j h1, p_up_n _ _ _ _ _ _ (Or.inr h1), p_up_n _ _ _ _ _ _ (Or.inr h1)]) (by rw [ha]) (fun z => absurd z hfr) hk h281 (by rw [ha]; exact k3) ((((p_fr.refl g).upf _ _ _ rfl).upf _ _ _ rfl).trans f1)
  obtain ⟨a2, R2, go⟩ := c_goto (L := L) (n := n) Y.1 hi R
  rw [hl] at R2 go
  obtain ⟨e, hf, gf, o1, o2, o3⟩ := next g' a2 U' (by rw [f 96 (by decide), p_up_n _ _ _ _ _ _ (Or.inr (by decide)), p_up_n _ _ _ _ _ _ (Or.inr (by decide))]) R2
  unfold CL at o1
  rw [if_pos hq] at o1
  exact ⟨e, hf, gf, go _ o1, LPx.step M.2.2.1.2.2.2 D1 (LPx.step M1.2.2.1.2.2.2 D o2), o3⟩
/-- where the value is 0 -/
theorem u_false {x y t : Nat} {v : Int} (U : UR ky lab fs h0 g0 at' P fr wp w0 N h g r ab k (s, as, ls, th, v :: st, rk) rs G) (R : hrg ((q.1 : Int), a, dd, r)) (Y : LU h lab fs gv 1 q [(13, x, 0), (12, y, 0), (11, x, 0)]) (hq : q2 = lfold q [(13, x, 0), (12, y, 0), (11, x, 0)]) {q3 : Nat × Nat} (e0 : g 277 k = 15) (hk5 : k < 5000) (hu : ust rs + st.length ≤ 15000) (e78 : g 278 k = (t : Int)) (ht5 : t < 5000) (et : g 277 t = 20) (hk : k + 1 < N) (h281 : g0 281 (k + 1) = (s : Int)) (hkt : t + 1 < N) (h281t : g0 281 (t + 1) = (s : Int)) (hl : lab y = q3.1) (hq3 : q3.2 = 0) (ha : at' (k + 1) = (st.length, (at' k).2)) (hat : at' (t + 1) = (st.length, (at' k).2)) (hfr : fr (k + 1) → fr k) (hfrt : ¬ fr (t + 1))
    (next : ∀ (g' : am_H) (a2 d2 : Int) (r2 : Nat → Int), UR ky lab fs h0 g0 at' P fr wp w0 N h g' r2 ab (k + 1) (s, as, ls, th, st, rk) rs G → g' 254 96 = g 254 96 → hrg ((q2.1 : Int), a2, d2, r2) → GOAL ky L n d h0 g0 h g' q2.2 ((q2.1 : Int), a2, d2, r2))
    (next2 : ∀ (g' : am_H) (a2 d2 : Int) (r2 : Nat → Int), UR ky lab fs h0 g0 at' P fr wp w0 N h g' r2 ab (t + 1) (s, as, ls, th, st, rk) rs G → g' 254 96 = g 254 96 → hrg ((q3.1 : Int), a2, d2, r2) → GOAL ky L n d h0 g0 h g' q3.2 ((q3.1 : Int), a2, d2, r2)) : GOAL ky L n d h0 g0 h g q.2 ((q.1 : Int), a, dd, r) := by
  obtain ⟨⟨hi, C, I⟩, ⟨M, B⟩, -, -, ⟨⟨k1, k2, k3, k4⟩, ht⟩, -⟩ := id U
  obtain ⟨g1, h1, M1, B1, f1, e1, ek, c1⟩ := m_at hk5 M B
  obtain ⟨p1, p2, M2⟩ := M1.pop B1
  have D0 : am_D (d + 13) 17 118 [am_r (am_a 254)] (zS L, g) = pV L (if v = 0 then am_up (am_up g1 254 87 ((ust rs + st.length : Nat) : Int)) 254 98 (t : Int) else am_up g1 254 87 ((ust rs + st.length : Nat) : Int)) := by
    rw [m_stm hk5 ek (by omega), ← h1, D_17_119, p_idx (by omega) (by omega), Int.toNat_natCast, c1 277 (by decide), e0, if_neg (by decide), if_neg (by decide), if_neg (by decide), if_neg (by decide), if_pos rfl, m_pop _ L p1 (by omega), p2, p_xI]
    by_cases z : v = 0
    · rw [if_pos z, if_pos z, p_idx (by omega) (by omega), Int.toNat_natCast, p_up_c _ _ _ _ _ (show 278 ≠ 254 by decide), c1 278 (by decide), e78, p_xV]
    · rw [if_neg z, if_neg z, p_xV]
  have fg1 : ∀ j, j ≠ 98 → g1 254 j = g 254 j := fun j hj => by rw [h1, p_up_n _ _ _ _ _ _ (Or.inr hj)]
  have B2 : MB (am_up g1 254 87 ((ust rs + st.length : Nat) : Int)) ((s, as, ls, th, st, rk) :: rs) := MB.fr (fun c hc => p_up_c _ _ _ _ _ (by omega)) (fs := (s, as, ls, th, st, rk) :: rs) B1
  obtain ⟨a2, d2, r2, ⟨R2, go⟩, C2⟩ := c_false (L := L) (n := n) Y hi C R
  have ff := (p_fr.refl g).upf (cs := mcC) (fs := mcF) 254 98 (am_w (g 254 98 + 1)) rfl
  rw [← h1] at ff
  by_cases z : v = 0
  · rw [if_pos z] at D0 R2 go
    rw [hl] at R2 go
    have M3 := M2.pc B2 t
    have B3 : MB (am_up (am_up g1 254 87 ((ust rs + st.length : Nat) : Int)) 254 98 (t : Int)) ((s, as, ls, th, st, rk) :: rs) := B2.fr (fun c hc => p_up_c _ _ _ _ _ (by omega))
    obtain ⟨g', D, M', c, f, f2⟩ := m_pass (L := L) (d := d) M3 B3 ht5 (by rw [p_up_c _ _ _ _ _ (by decide), p_up_c _ _ _ _ _ (by decide), c1 277 (by decide)]; exact et)
    have fx : ∀ j, j ≠ 98 → j ≠ 87 → g' 254 j = g 254 j := fun j h1 h2 => by rw [f j h1, p_up_n _ _ _ _ _ _ (Or.inr h1), p_up_n _ _ _ _ _ _ (Or.inr h2), fg1 j h1]
    have U' := U.pl M' C2 (fun a ha => by rw [c a ha, p_up_c _ _ _ _ _ ha, p_up_c _ _ _ _ _ ha, c1 a ha]) fx (by rw [hat]) (fun z => absurd z hfrt) hkt h281t (by rw [hat]) (((ff.upf _ _ _ rfl).upf _ _ _ rfl).trans f2)
    obtain ⟨e, hf, gf, o1, o2, o3⟩ := next2 g' a2 d2 r2 U' (fx 96 (by decide) (by decide)) R2
    unfold CL at o1
    rw [if_pos hq3] at o1
    exact ⟨e, hf, gf, go _ o1, LPx.step M.2.2.1.2.2.2 D0 (LPx.step M3.2.2.1.2.2.2 D o2), o3⟩
  · rw [if_neg z] at D0 R2 go
    rw [← hq] at R2 go
    have e2 : q2.2 = 0 := by rw [hq]; rfl
    have fx : ∀ j, j ≠ 98 → j ≠ 87 → am_up g1 254 87 ((ust rs + st.length : Nat) : Int) 254 j = g 254 j := fun j h1 h2 => by rw [p_up_n _ _ _ _ _ _ (Or.inr h2), fg1 j h1]
    have U' := U.pl M2 C2 (fun a ha => by rw [p_up_c _ _ _ _ _ ha, c1 a ha]) fx (by rw [ha]) hfr hk h281 (by rw [ha]) (ff.upf _ _ _ rfl)
    obtain ⟨e, hf, gf, o1, o2, o3⟩ := next _ a2 d2 r2 U' (fx 96 (by decide) (by decide)) R2
    unfold CL at o1
    rw [if_pos e2] at o1
    exact ⟨e, hf, gf, go _ o1, LPx.step M.2.2.1.2.2.2 D0 o2, o3⟩
end
