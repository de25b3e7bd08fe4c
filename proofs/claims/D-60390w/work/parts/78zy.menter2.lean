/-! RUN, 20: the model: a sub of the text is called -/
section
variable {ky : List Int} {L d : Nat} {g g' g1 g2 : am_H} {k : Nat} {G : vG} {rs fr : List uF} {s rk : Nat} {as ls : List Int} {th tm : Option Int} {st : List Int} {x y : Int}
theorem m_e8 {x1 : Int} {u2 u4 : Option am_V} {f : Nat} (hf : f < 41) (s0 : Int) (hd : g 254 88 = (f : Int)) : am_E (am_D (d + 10)) m_17_111 (.inl 8) [some (am_r (am_a 254)), some (am_i x1), u2, some (am_i (f : Int)), u4] [am_i s0, am_i (f : Int), am_r (am_a 316)] (zS L, g) = am_E (am_D (d + 10)) m_17_111 (.inl 10) [some (am_r (am_a 254)), some (am_i x1), u2, some (am_i (f : Int)), u4] [am_i (if g 254 89 < (f : Int) + 1 then (f : Int) + 1 else g 254 89), am_r (am_a 254)] (zS L, am_up (am_up (am_up (am_up (am_up g 316 f s0) 314 f (g 254 98)) 315 f x1) 317 f (g 254 95)) 254 88 ((f : Int) + 1)) := by
  have e : ∀ j, am_up g 316 f s0 254 j = g 254 j := fun j => by rw [p_up_c _ _ _ _ _ (by decide)]
  rw [q_17_111_8, p_arr rfl, p_idx (by omega) (by omega), show Nat.beq 316 0 = false from rfl, Int.toNat_natCast]
  dsimp only [cond]
  rw [p_idx (by omega) (by omega), p_idx (by omega) (by omega), p_idx (by omega) (by omega), Int.toNat_natCast, e, e, e, e, hd, p_w (by omega) (by omega)]
  by_cases z : g 254 89 < (f : Int) + 1
  · rw [if_pos z, if_pos z]
  · rw [if_neg z, if_neg z]
theorem MF.fr2 {f : Nat} {q : uF} (M : MF g f q) (h : ∀ c, c = 264 ∨ c = 267 ∨ c = 268 → g' c = g c) (h3 : ∀ c, c = 314 ∨ c = 315 ∨ c = 316 → g' c f = g c f) (h2 : ∀ j, 24 * f ≤ j → j < 24 * f + 24 → g' 312 j = g 312 j) (b : g 267 q.1 ≤ 12 ∧ g 268 q.1 ≤ 12) : MF g' f q := by
  obtain ⟨m1, ⟨m2, m3⟩, ⟨m4, m5⟩, m6⟩ := M
  unfold MF
  rw [h 264 (by omega), h 267 (by omega), h 268 (by omega), h3 314 (by omega), h3 315 (by omega), h3 316 (by omega)]
  refine ⟨m1, ⟨fun z => ?_, fun z => ?_⟩, ⟨m4, m5.fr (fun j j1 j2 => h2 j (by omega) (by omega))⟩, m6⟩
  · obtain ⟨ps, p1, p2, p3⟩ := m2 z
    exact ⟨ps, p1, p2, p3.fr (fun j j1 j2 => h2 j (by omega) (by omega))⟩
  · obtain ⟨p2, p3⟩ := m3 z
    exact ⟨p2, p3.fr (fun j j1 j2 => h2 j (by omega) (by omega))⟩
theorem MFS.fr2 (h : ∀ c, c = 264 ∨ c = 267 ∨ c = 268 → g' c = g c) : ∀ {fs : List uF}, MB g fs → MFS g fs → (∀ c j, c = 314 ∨ c = 315 ∨ c = 316 → j < fs.length → g' c j = g c j) → (∀ j, j < 24 * fs.length → g' 312 j = g 312 j) → (∀ j, j < ust fs → g' 313 j = g 313 j) → MFS g' fs
  | [], _, _, _, _, _ => trivial
  | q :: rs, ⟨b1, b2⟩, ⟨m1, m2, m3⟩, h4, h2, h3 => ⟨m1.fr2 h (fun c hc => h4 c _ hc (Nat.lt_succ_self _)) (fun j j1 j2 => h2 j (by rw [List.length_cons]; omega)) ⟨b1.2.1, b1.2.2.2⟩, m2.fr (fun j j1 j2 => h3 j j2), m3.fr2 h b2 (fun c j hc hj => h4 c j hc (Nat.lt_succ_of_lt hj)) (fun j hj => h2 j (by rw [List.length_cons]; omega)) (fun j hj => h3 j (by show j < ust rs + (uSt q).length; omega))⟩
/-- a sub begins: steps are left, and frames -/
theorem m_enter {u m m' nl k1 : Nat} (M : MU ky g k G ((s, as, ls, th, st, rk) :: rs)) (B : MB g ((s, as, ls, th, st, rk) :: rs)) (hu : ust rs + st.length ≤ 15000) (hd : rs.length + 1 < 40) (h96 : 0 ≤ g 254 96 ∧ g 254 96 ≤ 5000) (hs : g 254 96 ≠ g 254 97) (hu61 : u < 61) (e267 : g 267 u = (m' : Int)) (hm' : m' ≤ 12) (e268 : g 268 u = (nl : Int)) (hnl : nl ≤ 12) (so : g 264 u = 1 ∨ g 264 u = 2 ∨ g 264 u = 3) (hm : m = m' + (if g 264 u = 3 then 1 else 0)) (hml : m ≤ st.length) (e269 : g 269 u = (k1 : Int)) (hc1 : g 264 u = 1 → 0 ≤ g 263 u ∧ g 263 u < 13) : ∃ g' th', MU ky g' k1 G ((u, (st.take m).reverse, List.replicate nl 0, th', [], k) :: (s, as, ls, th, st.drop m, rk) :: rs) ∧ MB g' ((u, (st.take m).reverse, List.replicate nl 0, th', [], k) :: (s, as, ls, th, st.drop m, rk) :: rs) ∧
    (g' 254 96 = g 254 96 + 1 ∧ g' 254 89 = (if g 254 89 < ((rs.length + 1 : Nat) : Int) + 1 then ((rs.length + 1 : Nat) : Int) + 1 else g 254 89) ∧ (∀ j, j ≠ 87 → j ≠ 88 → j ≠ 89 → j ≠ 96 → j ≠ 98 → g' 254 j = g 254 j)) ∧ (g' 317 (rs.length + 1) = g 254 95 ∧ ∀ j, j ≠ rs.length + 1 → g' 317 j = g 317 j) ∧ (∀ c, c ≠ 254 → c ≠ 312 → c ≠ 314 → c ≠ 315 → c ≠ 316 → c ≠ 317 → g' c = g c) ∧ (th' = if g 264 u = 2 then none else some (g' 316 (rs.length + 1))) ∧ (g 264 u = 3 → (st.take m).reverse[0]? = th') ∧
    am_D (d + 11) 17 111 [am_r (am_a 254), am_i (u : Int)] (zS L, g) = (if g 264 u = 1 then am_xI (zS L) (am_D (d + 10) 17 84 [am_r (am_a 254), am_i (if g 262 (g 263 u).toNat < 1 then 1 else g 262 (g 263 u).toNat)] (zS L, g')) (am_up1 (zS L)) fun v h8 => some (.inl none, (zS L, am_up h8 316 (rs.length + 1) v)) else pV L g') := by
  have e88 : g 254 88 = ((rs.length + 1 : Nat) : Int) := M.2.2.1.2.1
  have e98 : g 254 98 = (k : Int) := M.2.2.1.2.2.1
  obtain ⟨g1, hg1⟩ : ∃ g1, g1 = am_up g 254 96 (g 254 96 + 1) := ⟨_, rfl⟩
  have c1 : ∀ c, c ≠ 254 → g1 c = g c := fun c hc => by rw [hg1, p_up_c _ _ _ _ _ hc]
  have f1 : ∀ j, j ≠ 96 → g1 254 j = g 254 j := fun j hj => by rw [hg1, p_up_n _ _ _ _ _ _ (Or.inr hj)]
  have M1 : MU ky g1 k G ((s, as, ls, th, st, rk) :: rs) := M.keep B (fun a ha => c1 a (by omega)) (fun j _ => by rw [c1 312 (by omega)]) (fun j hj => f1 j (by omega))
  have B1 : MB g1 ((s, as, ls, th, st, rk) :: rs) := B.fr (fun c hc => c1 c (by omega))
  generalize hf : rs.length + 1 = f at *
  have M2 : MU ky (zr g1 f 24) k G ((s, as, ls, th, st, rk) :: rs) := M1.keep B1 (fun a ha => zr_c (by omega)) (fun j hj => by
    unfold zr; rw [if_pos rfl]; exact if_neg (by rw [List.length_cons] at hj; omega)) (fun j hj => by rw [zr_c (by decide)])
  have B2 : MB (zr g1 f 24) ((s, as, ls, th, st, rk) :: rs) := B1.fr (fun c hc => zr_c (by omega))
  have hmm : m' ≤ st.length := by omega
  obtain ⟨g3, r1, M3, B3, c3, f3, a3, z3⟩ := m_pars (d := d) (L := L) (x1 := (u : Int)) (u2 := some (am_i (m' : Int))) (by omega) hf.symm m' M2 B2 hmm hm' hu
  have E0 : am_D (d + 11) 17 111 [am_r (am_a 254), am_i (u : Int)] (zS L, g) = am_E (am_D (d + 10)) m_17_111 (.inl 5) [some (am_r (am_a 254)), some (am_i (u : Int)), some (am_i (m' : Int)), some (am_i (f : Int)), some (am_i (-1))] [] (zS L, g3) := by
    have z := m_zero (d := d) (L := L) (g := g1) (x1 := (u : Int)) (x2 := (m' : Int)) (f := f) (by omega) 0 24 rfl
    rw [zr_0, p_w (x := (m' : Int) - 1) (by omega) (by omega)] at z
    rw [D_17_111, m_step, if_neg hs, p_xI, if_neg (by decide), p_w (by omega) (by omega), ← hg1, f1 88 (by decide), e88, if_neg (by omega), p_idx (by omega) (by omega), Int.toNat_natCast, c1 267 (by decide), e267]
    exact z.trans r1
  have dl : ∀ i, (st.drop i).length = st.length - i := fun i => List.length_drop
  -- the object
  obtain ⟨g4, s0, E1, M4, B4, c4, f4, hob⟩ : ∃ g4 s0, am_E (am_D (d + 10)) m_17_111 (.inl 5) [some (am_r (am_a 254)), some (am_i (u : Int)), some (am_i (m' : Int)), some (am_i (f : Int)), some (am_i (-1))] [] (zS L, g3) = am_E (am_D (d + 10)) m_17_111 (.inl 8) [some (am_r (am_a 254)), some (am_i (u : Int)), some (am_i (m' : Int)), some (am_i (f : Int)), some (am_i (-1))] [am_i s0, am_i (f : Int), am_r (am_a 316)] (zS L, g4) ∧ MU ky g4 k G ((s, as, ls, th, st.drop m, rk) :: rs) ∧ MB g4 ((s, as, ls, th, st.drop m, rk) :: rs) ∧ (∀ c, c ≠ 254 → g4 c = g3 c) ∧ (∀ j, j ≠ 87 → g4 254 j = g3 254 j) ∧ ((g 264 u = 3 → (st.take m).reverse = s0 :: (st.take m').reverse) ∧ (g 264 u ≠ 3 → (st.take m).reverse = (st.take m').reverse)) := by
    have e264 : g3 264 u = g 264 u := by rw [c3 264 (by decide) (by decide), zr_c (by decide), c1 264 (by decide)]
    by_cases so3 : g 264 u = 3
    · rw [if_pos so3] at hm
      have hlt : m' < st.length := by omega
      have ed : st.drop m' = st[m'] :: st.drop m := by rw [hm]; exact List.drop_eq_getElem_cons hlt
      have et : st.take m = st.take m' ++ [st[m']] := by rw [hm]; exact List.take_succ_eq_append_getElem hlt
      rw [ed] at M3 B3
      obtain ⟨g4, h4, M4, B4, f4, e4, c4⟩ := ji_pop (d := d + 9) (L := L) M3 B3 (by rw [dl]; omega)
      refine ⟨g4, st[m'], ?_, M4, B4, c4, ?_, fun _ => by rw [et, List.reverse_append]; rfl, fun z => absurd so3 z⟩
      · rw [q_17_111_5, if_pos (by decide), p_idx (by omega) (by omega), Int.toNat_natCast, e264, if_pos so3, h4, p_xI]
      · intro j hj
        obtain ⟨p1, p2, p3⟩ := M3.pop B3
        rw [m_pop _ L p1 (by rw [dl]; omega)] at h4
        have : g4 = am_up g3 254 87 ((ust rs + (st.drop m).length : Nat) : Int) := by
          have := Option.some.inj h4
          exact ((Prod.mk.inj (Prod.mk.inj this).2).2).symm
        rw [this, p_up_n _ _ _ _ _ _ (Or.inr hj)]
    · rw [if_neg so3, Nat.add_zero] at hm
      subst hm
      refine ⟨g3, 0, ?_, M3, B3, fun _ _ => rfl, fun _ _ => rfl, fun z => absurd z so3, fun _ => rfl⟩
      rw [q_17_111_5, if_pos (by decide), p_idx (by omega) (by omega), Int.toNat_natCast, e264, if_neg so3]
  have cc : ∀ c, c ≠ 254 → c ≠ 312 → g4 c = g c := fun c h1 h2 => by rw [c4 c h1, c3 c h1 h2, zr_c h2, c1 c h1]
  have ff : ∀ j, j ≠ 87 → j ≠ 96 → g4 254 j = g 254 j := fun j h1 h2 => by rw [f4 j h1, f3 j h1, zr_c (by decide), f1 j h2]
  have E2 := m_e8 (d := d) (L := L) (g := g4) (x1 := (u : Int)) (u2 := some (am_i (m' : Int))) (u4 := some (am_i (-1))) (f := f) (by omega) s0 (by rw [ff 88 (by decide) (by decide)]; exact e88)
  rw [ff 89 (by decide) (by decide), ff 98 (by decide) (by decide), ff 95 (by decide) (by decide), e98] at E2
  obtain ⟨D, hD⟩ : ∃ D, D = (if g 254 89 < (f : Int) + 1 then (f : Int) + 1 else g 254 89) := ⟨_, rfl⟩
  rw [← hD] at E2
  obtain ⟨gE, hgE⟩ : ∃ gE, gE = am_up (am_up (am_up (am_up (am_up g4 316 f s0) 314 f (k : Int)) 315 f (u : Int)) 317 f (g 254 95)) 254 88 ((f : Int) + 1) := ⟨_, rfl⟩
  rw [← hgE] at E2
  have cE : ∀ c, c ≠ 254 → c ≠ 314 → c ≠ 315 → c ≠ 316 → c ≠ 317 → gE c = g4 c := fun c h1 h2 h3 h4 h5 => by rw [hgE, p_up_c _ _ _ _ _ h1, p_up_c _ _ _ _ _ h5, p_up_c _ _ _ _ _ h3, p_up_c _ _ _ _ _ h2, p_up_c _ _ _ _ _ h4]
  have fE : ∀ j, j ≠ 88 → gE 254 j = g4 254 j := fun j hj => by rw [hgE, p_up_n _ _ _ _ _ _ (Or.inr hj), p_up_c _ _ _ _ _ (by decide), p_up_c _ _ _ _ _ (by decide), p_up_c _ _ _ _ _ (by decide), p_up_c _ _ _ _ _ (by decide)]
  have i316 : gE 316 f = s0 ∧ ∀ j, j ≠ f → gE 316 j = g4 316 j := by
    rw [hgE, p_up_c _ _ _ _ _ (by decide), p_up_c _ _ _ _ _ (by decide), p_up_c _ _ _ _ _ (by decide), p_up_c _ _ _ _ _ (by decide)]
    exact ⟨p_up_s _ _ _ _, fun j hj => p_up_n _ _ _ _ _ _ (Or.inr hj)⟩
  have i314 : gE 314 f = (k : Int) ∧ ∀ j, j ≠ f → gE 314 j = g4 314 j := by
    rw [hgE, p_up_c _ _ _ _ _ (by decide), p_up_c _ _ _ _ _ (by decide), p_up_c _ _ _ _ _ (by decide)]
    exact ⟨p_up_s _ _ _ _, fun j hj => by rw [p_up_n _ _ _ _ _ _ (Or.inr hj), p_up_c _ _ _ _ _ (by decide)]⟩
  have i315 : gE 315 f = (u : Int) ∧ ∀ j, j ≠ f → gE 315 j = g4 315 j := by
    rw [hgE, p_up_c _ _ _ _ _ (by decide), p_up_c _ _ _ _ _ (by decide)]
    exact ⟨p_up_s _ _ _ _, fun j hj => by rw [p_up_n _ _ _ _ _ _ (Or.inr hj), p_up_c _ _ _ _ _ (by decide), p_up_c _ _ _ _ _ (by decide)]⟩
  have i317 : gE 317 f = g 254 95 ∧ ∀ j, j ≠ f → gE 317 j = g4 317 j := by
    rw [hgE, p_up_c _ _ _ _ _ (by decide)]
    exact ⟨p_up_s _ _ _ _, fun j hj => by rw [p_up_n _ _ _ _ _ _ (Or.inr hj), p_up_c _ _ _ _ _ (by decide), p_up_c _ _ _ _ _ (by decide), p_up_c _ _ _ _ _ (by decide)]⟩
  obtain ⟨g', hg'⟩ : ∃ g', g' = am_up (am_up gE 254 89 D) 254 98 (k1 : Int) := ⟨_, rfl⟩
  have cg : ∀ c, c ≠ 254 → g' c = gE c := fun c hc => by rw [hg', p_up_c _ _ _ _ _ hc, p_up_c _ _ _ _ _ hc]
  have fg : ∀ j, j ≠ 89 → j ≠ 98 → g' 254 j = gE 254 j := fun j h1 h2 => by rw [hg', p_up_n _ _ _ _ _ _ (Or.inr h2), p_up_n _ _ _ _ _ _ (Or.inr h1)]
  have ca : ∀ c, c ≠ 254 → c ≠ 312 → c ≠ 314 → c ≠ 315 → c ≠ 316 → c ≠ 317 → g' c = g c := fun c h1 h2 h3 h4 h5 h6 => by rw [cg c h1, cE c h1 h3 h4 h5 h6, cc c h1 h2]
  have c312 : g' 312 = g3 312 := by rw [cg 312 (by decide), cE 312 (by decide) (by decide) (by decide) (by decide) (by decide), c4 312 (by decide)]
  have zz : ∀ j, 24 * f + m' ≤ j → j < 24 * f + 24 → g' 312 j = 0 := fun j h1 h2 => by
    rw [c312, z3 j (Or.inr h1)]
    unfold zr; rw [if_pos rfl]; exact if_pos (by omega)
  have lt' : ((st.take m').reverse.length : Int) = (m' : Int) := by rw [List.length_reverse, List.length_take]; omega
  refine ⟨g', if g 264 u = 2 then none else some (g' 316 f), ⟨?_, ?_, ⟨?_, ?_, ?_, ?_⟩, ⟨⟨?_, ?_⟩, ⟨fun z => ?_, fun z => ?_⟩, ⟨?_, ?_⟩, fun z => ?_⟩, trivial, ?_⟩, ⟨?_, ?_⟩, ⟨?_, ?_, fun j h1 h2 h3 h4 h5 => ?_⟩, ⟨?_, fun j hj => ?_⟩, ca, rfl, fun z => ?_, ?_⟩
  · exact M4.1.same (fun a ha => by rw [cg a (by omega), cE a (by omega) (by omega) (by omega) (by omega) (by omega)]) (fun j hj => by rw [fg j (by omega) (by omega), fE j (by omega)])
  · intro j hj; rw [cg 311 (by omega), cE 311 (by omega) (by omega) (by omega) (by omega) (by omega)]; exact M4.2.1 j hj
  · rw [fg 87 (by decide) (by decide), fE 87 (by decide)]; exact M4.2.2.1.1
  · rw [fg 88 (by decide) (by decide), hgE, p_up_s, List.length_cons, List.length_cons, ← hf]; rfl
  · rw [hg', p_up_s]
  · rw [fg 99 (by decide) (by decide), fE 99 (by decide)]; exact M4.2.2.1.2.2.2
  · rw [List.length_cons, hf, cg 315 (by decide)]; exact i315.1
  · rw [List.length_cons, hf, cg 314 (by decide)]; exact i314.1
  · rw [ca 264 (by decide) (by decide) (by decide) (by decide) (by decide) (by decide)] at z
    refine ⟨(st.take m').reverse, ?_, ?_, ?_⟩
    · rw [List.length_cons, hf, cg 316 (by decide), i316.1]; exact hob.1 z
    · rw [lt', ca 267 (by decide) (by decide) (by decide) (by decide) (by decide) (by decide), e267]
    · rw [List.length_cons, hf, c312]; exact a3
  · rw [ca 264 (by decide) (by decide) (by decide) (by decide) (by decide) (by decide)] at z
    rw [hob.2 z]
    refine ⟨?_, ?_⟩
    · rw [lt', ca 267 (by decide) (by decide) (by decide) (by decide) (by decide) (by decide), e267]
    · rw [List.length_cons, hf, c312]; exact a3
  · rw [List.length_replicate, ca 268 (by decide) (by decide) (by decide) (by decide) (by decide) (by decide), e268]
  · rw [List.length_cons, hf]
    intro i v hi
    have hl := (List.getElem?_eq_some_iff.1 hi).1
    rw [List.length_replicate] at hl
    rw [List.getElem?_replicate, if_pos hl] at hi
    rw [zz _ (by omega) (by omega)]; exact Option.some.inj hi
  · rw [ca 264 (by decide) (by decide) (by decide) (by decide) (by decide) (by decide)] at z
    rw [if_neg z, List.length_cons, hf]
  · exact M4.2.2.2.fr2 (fun c hc => by rw [cg c (by omega), cE c (by omega) (by omega) (by omega) (by omega) (by omega)]) B4 (fun c j hc hj => by
      rw [List.length_cons, hf] at hj
      rcases hc with rfl | rfl | rfl
      · rw [cg 314 (by decide)]; exact i314.2 j (by omega)
      · rw [cg 315 (by decide)]; exact i315.2 j (by omega)
      · rw [cg 316 (by decide)]; exact i316.2 j (by omega)) (fun j hj => by rw [c312, c4 312 (by decide)]) (fun j hj => by rw [cg 313 (by decide), cE 313 (by decide) (by decide) (by decide) (by decide) (by decide)])
  · rw [ca 267 (by decide) (by decide) (by decide) (by decide) (by decide) (by decide), ca 268 (by decide) (by decide) (by decide) (by decide) (by decide) (by decide)]
    dsimp only; omega
  · exact B4.fr (fun c hc => by rw [cg c (by omega), cE c (by omega) (by omega) (by omega) (by omega) (by omega)])
  · rw [fg 96 (by decide) (by decide), fE 96 (by decide), f4 96 (by decide), f3 96 (by decide), zr_c (by decide), hg1, p_up_s]
  · rw [hg', p_up_n _ _ _ _ _ _ (Or.inr (by decide)), p_up_s]; exact hD
  · rw [fg j h3 h5, fE j h2, ff j h1 h4]
  · rw [cg 317 (by decide)]; exact i317.1
  · rw [cg 317 (by decide), i317.2 j hj, cc 317 (by decide) (by decide)]
  · rw [hob.1 z, if_neg (by omega), cg 316 (by decide), i316.1]; rfl
  · rw [E0, E1, E2, q_17_111_10, p_idx (by omega) (by omega), p_idx (by omega) (by omega), Int.toNat_natCast, cE 264 (by decide) (by decide) (by decide) (by decide) (by decide), cc 264 (by decide) (by decide), cE 269 (by decide) (by decide) (by decide) (by decide) (by decide), cc 269 (by decide) (by decide), e269, ← hg']
    by_cases so1 : g 264 u = 1
    · have hc1 := hc1 so1
      rw [if_pos so1, if_pos so1, p_idx (by omega) (by omega), Int.toNat_natCast, cE 263 (by decide) (by decide) (by decide) (by decide) (by decide), cc 263 (by decide) (by decide), p_idx (by omega) (by omega), cE 262 (by decide) (by decide) (by decide) (by decide) (by decide), cc 262 (by decide) (by decide)]
      by_cases z : g 262 (g 263 u).toNat < 1
      · rw [if_pos z, if_pos z]
        congr 1
        funext v h8
        rw [p_idx (by omega) (by omega), Int.toNat_natCast]
      · rw [if_neg z, if_neg z]
        congr 1
        funext v h8
        rw [p_idx (by omega) (by omega), Int.toNat_natCast]
    · rw [if_neg so1, if_neg so1]
end
