/-! RUN, 35: run() of both sides, joined -/
/-- the model's tables that a run looks at -/
def stC : List Nat := [262, 263, 264, 267, 268, 269, 272, 275, 276, 277, 278, 279, 281, 284, 285, 286, 287, 288, 297, 303, 304]
section
variable {lab fs gv : Nat → Nat} {h h' g g' : am_H} {at' : Nat → Nat × List Nat} {P : Nat → Int} {fr : Nat → Prop} {qp : Nat → Nat × Nat} {N bs : Nat}
theorem lat_eq (e1 : h' 13 = h 13) (e2 : h' 16 = h 16) (wd : Nat) (q : Nat × Nat) (l : vl) : lat h' lab fs gv wd q l = lat h lab fs gv wd q l := by
  have d1 : ∀ p ws, cd h' p ws = cd h p ws := fun p ws => propext ⟨fun c => c.eq e1.symm e2.symm, fun c => c.eq e1 e2⟩
  unfold lat
  simp only [e1, e2, d1]
theorem LU_eq (e1 : h' 13 = h 13) (e2 : h' 16 = h 16) (wd : Nat) (q : Nat × Nat) (l : List vl) : LU h' lab fs gv wd q l = LU h lab fs gv wd q l := propext ⟨fun c => c.eq e1.symm e2.symm, fun c => c.eq e1 e2⟩
theorem SubF_eq (e1 : h' 13 = h 13) (e2 : h' 16 = h 16) (eg : ∀ c ∈ stC, g' c = g c) (u : Nat) : SubF lab fs gv h' g' at' qp N bs u = SubF lab fs gv h g at' qp N bs u := by
  unfold SubF hdN
  simp only [lat_eq e1 e2, LU_eq e1 e2, eg 262 (by decide), eg 263 (by decide), eg 264 (by decide), eg 267 (by decide), eg 268 (by decide), eg 269 (by decide), eg 281 (by decide)]
theorem ItF_eq (e1 : h' 13 = h 13) (e2 : h' 16 = h 16) (eg : ∀ c ∈ stC, g' c = g c) (k : Nat) : ItF lab fs gv h' g' at' P fr qp N bs k = ItF lab fs gv h g at' P fr qp N bs k := by
  unfold ItF KD VK obN ldN stN
  simp only [SubF_eq e1 e2 eg, LU_eq e1 e2, e2, eg 264 (by decide), eg 267 (by decide), eg 268 (by decide), eg 272 (by decide), eg 275 (by decide), eg 276 (by decide), eg 277 (by decide), eg 278 (by decide), eg 279 (by decide), eg 281 (by decide), eg 284 (by decide), eg 285 (by decide), eg 286 (by decide), eg 287 (by decide), eg 288 (by decide), eg 297 (by decide), eg 303 (by decide), eg 304 (by decide)]
end
/-- a program stands on both sides -/
def PGM (lab fs gv : Nat → Nat) (h : am_H) (at' : Nat → Nat × List Nat) (P : Nat → Int) (fr : Nat → Prop) (qp : Nat → Nat × Nat) (N bs u ws : Nat) : Prop :=
  (∀ k, k < N → ItF lab fs gv h h at' P fr qp N bs k) ∧ SubF lab fs gv h h at' qp N bs u ∧ (h 264 u = 2 ∧ h 267 u = 0 ∧ h 254 72 = (u : Int)) ∧ LU h lab fs gv 0 (ws, 0) (begN (bs + u)) ∧ (cmw h 6 shL ∧ SYS h lab fs ∧ ∀ q, lab q < 32768 ∧ fs q < 32768) ∧ cmw h 0 (([((17000 : Nat) : Int), -5104] ++ wKeep ((0 : Nat) : Int)) ++ [(ws : Int), -5497]) ∧ h 1 17 = h 254 74
/-- keys on both sides -/
def KYS (ky : List Int) (h : am_H) : Prop := (h 1 15 = (ky.length : Int) ∧ h 254 102 = (ky.length : Int) ∧ ky.length ≤ 200) ∧ ∀ j c, ky[j]? = some c → am_and (am_s8 (h 22 j)) 255 = c ∧ h 319 j = c ∧ 0 ≤ c ∧ c ≤ 255
/-- behind a run -/
def RAN (ky : List Int) (h : am_H) : Prop := ∃ G, (IOR ky G h ∧ MR ky G h ∧ ∀ a, 16 ≤ a → a < 17000 → h 18 a = G.1 a) ∧ (h 17 8 = h 254 96 ∧ h 17 11 = h 254 89 ∧ h 17 13 = h 254 100 ∧ h 1 3 = h 254 4 ∧ h 1 16 = h 254 104) ∧ h 254 107 = 0
/-- what runs change -/
def rjC : List Nat := [18, 19, 20, 21, 308, 309, 310, 311, 312, 313, 314, 315, 316, 317, 318, 320, 321]
def rjF : List (Nat × Nat) := [(1, 3), (1, 16), (17, 5), (17, 6), (17, 7), (17, 8), (17, 9), (17, 10), (17, 11), (17, 12), (17, 13), (17, 14), (254, 4), (254, 81), (254, 87), (254, 88), (254, 89), (254, 95), (254, 96), (254, 97), (254, 98), (254, 99), (254, 100), (254, 103), (254, 104), (254, 106), (254, 107), (254, 108)]
section
variable {lab fs gv : Nat → Nat} {h : am_H} {at' : Nat → Nat × List Nat} {P : Nat → Int} {fr : Nat → Prop} {qp : Nat → Nat × Nat} {N bs u ws : Nat} {ky : List Int} {L n d : Nat}
theorem run_join {fuel : Nat} (PG : PGM lab fs gv h at' P fr qp N bs u ws) (K : KYS ky h) (hl : h 1 18 ≠ 0) (hp : h 254 71 ≠ 0) (hf : fuel ≤ 5000) (hr : ∀ k, rg16 (h 18 k)) : ∃ e h1 h2, am_D (n + 5) 0 24 [am_r (am_a 1), am_i (fuel : Int)] (zS L, h) = pI L e h1 ∧ am_D (d + 14) 17 121 [am_r (am_a 254), am_i (fuel : Int)] (zS L, h1) = pI L e h2 ∧ RAN ky h2 ∧ (∀ k, rg16 (h2 18 k)) ∧ p_fr rjC rjF h h2 := by
  obtain ⟨ST, SM, ⟨so, p0, e72⟩, LB, ⟨i1, i2, i3⟩, c0, e17⟩ := PG
  obtain ⟨⟨k1, k2, k3⟩, k4⟩ := K
  obtain ⟨h3, a1, ⟨b5, b6, b7, b8, b9, b10, b11, b13, b14⟩, a21, a19, a18, a18', a17', run⟩ := c_run (L := L) (n := n) (fuel := fuel) hl k3 k1 hf
  have e13 : h3 13 = h 13 := a1 13 (by decide) (by decide) (by decide) (by decide)
  have e16 : h3 16 = h 16 := a1 16 (by decide) (by decide) (by decide) (by decide)
  have hi : HI h3 lab fs := ⟨i1.eq e13 e16, by rw [b14]; decide, fun s q hq => by
    obtain ⟨z1, z2, z3⟩ := i2 s q hq
    exact ⟨z1.eq e13 e16, z2, z3.eq e13 e16⟩, i3⟩
  have I : IOR ky gz0 h3 := by
    refine ⟨⟨b5, k3, fun j c hc => ?_⟩, ⟨b6, Nat.zero_le _⟩, b7, Nat.zero_le _, fun j c hc => (by cases hc)⟩
    have hj : j < ky.length := (List.getElem?_eq_some_iff.1 hc).1
    obtain ⟨z1, z2, z3⟩ := k4 j c hc
    rw [a19 j hj]; exact ⟨z1, z3⟩
  -- the model's heap at its start: its cells are still those of h
  have key : ∀ g : am_H, (∀ c ∈ stC, g c = h c) → g 319 = h 319 → g 254 = h 254 → ∀ g2 : am_H, (∀ c, c ≠ 308 → c ≠ 311 → g2 c = g c) → (∀ k, k < 16512 → g2 308 k = 0) → (∀ k, k < 12 → g2 311 k = 0) → ∃ e hf g1 gf, H3 L n h3 (0, 0, 0, h3 18) (pI L e hf) ∧ am_D (d + 13) 17 111 [am_r (am_a 254), am_i (u : Int)] (zS L, m_fs (fuel : Int) g2) = pV L g1 ∧ LPx L d g1 gf ∧ UF ky h3 (m_fs (fuel : Int) g2) hf gf e := by
    intro g hg hg9 hg4 g2 hc h308 h311
    have eg : ∀ c ∈ stC, m_fs (fuel : Int) g2 c = h c := fun c hcc => by
      have n254 : c ≠ 254 := by intro z; subst z; revert hcc; decide
      rw [m_fs_c n254, hc c (by intro z; subst z; revert hcc; decide) (by intro z; subst z; revert hcc; decide)]; exact hg c hcc
    have f4 : m_fs (fuel : Int) g2 254 = p_set (p_set (p_set (p_set (p_set (p_set (p_set (p_set (p_set (p_set (p_set (p_set (p_set (p_set (h 254) 81 0) 87 0) 88 0) 89 0) 95 0) 96 0) 97 (fuel : Int)) 98 0) 99 (-1)) 100 0) 103 0) 106 0) 107 0) 108 1 := by rw [m_fs_f, hc 254 (by decide) (by decide), hg4]
    have m319 : m_fs (fuel : Int) g2 319 = h 319 := by rw [m_fs_c (by decide), hc 319 (by decide) (by decide), hg9]
    refine u_run (u := u) (ws := ws) (fuel := fuel) (bs := bs) (N := N) (at' := at') (P := P) (fr := fr) (qp := qp) (lab := lab) (fs := fs) (gv := gv) a18 (fun k => ?_) (fun k hk => by rw [ItF_eq e13 e16 eg]; exact ST k hk) (by rw [SubF_eq e13 e16 eg]; exact SM) (by rw [eg 264 (by decide)]; exact so) (by rw [eg 267 (by decide)]; exact p0) (LB.eq e13 e16) hi (c0.eq e13 e16) I b8 b9 hf b10 b11 b13 ?_ (fun a ha => by rw [m_fs_c (by decide)]; exact h308 a ha) (fun j hj => by rw [m_fs_c (by decide)]; exact h311 j hj) (by rw [f4]; rfl) (by rw [f4]; rfl) (by rw [f4]; rfl) (by rw [f4]; rfl) ⟨by rw [f4]; exact k2, k3, fun j c hc => by rw [m319]; exact (k4 j c hc).2⟩ (by rw [f4]; rfl) (by rw [f4]; rfl) (by rw [f4]; rfl) (by rw [f4]; rfl) (by rw [f4]; rfl) (by rw [f4]; rfl) (by rw [f4]; rfl) (by rw [f4]; rfl) (by rw [f4]; rfl)
    · by_cases z : k < 32768
      · rw [a18 k z]; exact ⟨by decide, by decide⟩
      · rw [a18' k (by omega)]; exact hr k
    · rw [a21, f4, e17]; rfl
  -- the component's run is the same, wherever the model begins
  obtain ⟨gA, q1, q2, q3, qm⟩ := m_run (L := L) (d := d) (g := h) (fuel := fuel) hp hf
  obtain ⟨e, hf1, gA1, gAf, o1, o2, o3, o4⟩ := key h (fun _ _ => rfl) rfl rfl gA q1 q2 q3
  obtain ⟨GA, -, ⟨-, -, -, ee0, -⟩, -, pA, -, fA, -, rA⟩ := id o4
  have C := run e hf1 o1 (fun z => by obtain ⟨dp, y1, y2, -⟩ := pA z; rw [y1]; omega)
  obtain ⟨h1, hh1⟩ : ∃ h1, h1 = am_up (am_up hf1 1 16 (am_w (hf1 1 15 - hf1 17 6))) 1 3 (if e = 0 then -1 else hf1 21 (hf1 17 10).toNat) := ⟨_, rfl⟩
  rw [← hh1] at C
  have ch1 : ∀ c, c ≠ 1 → h1 c = hf1 c := fun c hc => by rw [hh1, p_up_c _ _ _ _ _ hc, p_up_c _ _ _ _ _ hc]
  have cm1 : ∀ c, c ≠ 1 → c ≠ 17 → c ≠ 18 → c ≠ 19 → c ≠ 20 → c ≠ 21 → h1 c = h c := fun c z1 z2 z3 z4 z5 z6 => by
    rw [ch1 c z1]
    funext j
    rw [fA c j (by unfold ccC; simp; omega) (by unfold ccF; simp; omega), a1 c z2 z3 z4 z6]
  have f254 : h1 254 = h 254 := cm1 254 (by decide) (by decide) (by decide) (by decide) (by decide) (by decide)
  obtain ⟨gB, t1, t2, t3, tm⟩ := m_run (L := L) (d := d) (g := h1) (fuel := fuel) (by rw [f254]; exact hp) hf
  obtain ⟨e', hf2, g1, gf, p1, p2, p3, p4⟩ := key h1 (fun c hc => cm1 c (by intro z; subst z; revert hc; decide) (by intro z; subst z; revert hc; decide) (by intro z; subst z; revert hc; decide) (by intro z; subst z; revert hc; decide) (by intro z; subst z; revert hc; decide) (by intro z; subst z; revert hc; decide)) (cm1 319 (by decide) (by decide) (by decide) (by decide) (by decide) (by decide)) f254 gB t1 t2 t3
  have same := (o1 none none none none none none none).symm.trans (p1 none none none none none none none)
  have ees : e = e' ∧ hf1 = hf2 := by
    have s1 := Prod.mk.inj (Option.some.inj same)
    refine ⟨?_, (Prod.mk.inj s1.2).2⟩
    have s2 := Option.some.inj (Sum.inl.inj s1.1)
    injection s2
  obtain ⟨rfl, rfl⟩ := ees
  obtain ⟨G, ⟨u1, u2, u3⟩, ⟨v1, v2, v3, v4, v5⟩, ⟨w1, w2, w3⟩, pl, wb, fB, fM, rB⟩ := p4
  have u72 : h1 254 72 = (u : Int) := by rw [f254]; exact e72
  have D := tm g1 gf e (by rw [u72]; exact p2) p3 v3 v4 wb
  obtain ⟨h2, hh2⟩ : ∃ h2, h2 = am_up (am_up gf 254 4 (if e = 0 then -1 else wtop gf (gf 254 95))) 254 104 (am_w (gf 254 102 - gf 254 103)) := ⟨_, rfl⟩
  rw [← hh2] at D
  have c2 : ∀ c, c ≠ 254 → h2 c = gf c := fun c hc => by rw [hh2, p_up_c _ _ _ _ _ hc, p_up_c _ _ _ _ _ hc]
  have f2 : ∀ j, j ≠ 4 → j ≠ 104 → h2 254 j = gf 254 j := fun j z1 z2 => by rw [hh2, p_up_n _ _ _ _ _ _ (Or.inr z2), p_up_n _ _ _ _ _ _ (Or.inr z1)]
  have cM : ∀ c, c ≠ 254 → mcC.contains c = false → gf c = h1 c := fun c z1 z2 => by
    have z3 : c ≠ 308 ∧ c ≠ 311 := ⟨fun z => by subst z; revert z2; decide, fun z => by subst z; revert z2; decide⟩
    funext j
    rw [fM c j z2 (by unfold mcF; simp; omega), m_fs_c z1, t1 c z3.1 z3.2]
  have k17 : h2 17 = hf1 17 := by rw [c2 17 (by decide), cM 17 (by decide) rfl, ch1 17 (by decide)]
  have k19 : h2 19 = hf1 19 := by rw [c2 19 (by decide), cM 19 (by decide) rfl, ch1 19 (by decide)]
  have k20 : h2 20 = hf1 20 := by rw [c2 20 (by decide), cM 20 (by decide) rfl, ch1 20 (by decide)]
  have k18 : h2 18 = hf1 18 := by rw [c2 18 (by decide), cM 18 (by decide) rfl, ch1 18 (by decide)]
  have k1' : h2 1 = h1 1 := by rw [c2 1 (by decide), cM 1 (by decide) rfl]
  have e102 : gf 254 102 = (ky.length : Int) := by
    rw [fM 254 102 rfl rfl, m_fs_f, t1 254 (by decide) (by decide), f254]; exact k2
  have e115 : hf1 1 15 = (ky.length : Int) := by
    rw [fB 1 15 rfl rfl, a1 1 (by decide) (by decide) (by decide) (by decide)]; exact k1
  refine ⟨e, h1, h2, C, D, ⟨G, ⟨u1.eq (fun j _ => by rw [k17]) k19 k20, u2.same (fun a ha => c2 a (by omega)) (fun j hj => f2 j (by omega) (by omega)), fun a h1 h2 => by rw [k18]; exact u3 a h1 h2⟩, ⟨?_, ?_, ?_, ?_, ?_⟩, by rw [f2 107 (by decide) (by decide), fM 254 107 rfl rfl, m_fs_f]; rfl⟩, fun k => by rw [k18]; exact rB k, ?_⟩
  · rw [k17, f2 96 (by decide) (by decide)]; exact w1
  · rw [k17, f2 89 (by decide) (by decide)]; exact w3
  · rw [k17, f2 100 (by decide) (by decide)]; exact v5
  · rw [k1', hh1, p_up_s, hh2, p_up_n _ _ _ _ _ _ (Or.inr (by decide)), p_up_s]
    by_cases z : e = 0
    · rw [if_pos z, if_pos z]
    · obtain ⟨dp, y1, y2, y3⟩ := pl z
      rw [if_neg z, if_neg z, y1, Int.toNat_natCast]; exact y3
  · rw [k1', hh1, p_up_n _ _ _ _ _ _ (Or.inr (by decide)), p_up_s, hh2, p_up_s, e115, e102, u1.2.1.1, u2.2.2.2.1.1]
  · intro c j hc hj
    by_cases z1 : c = 254
    · subst z1
      have nj : ∀ m, (254, m) ∈ rjF → j ≠ m := fun m hm z => by subst z; rw [List.contains_eq_mem] at hj; simp [hm] at hj
      rw [f2 j (nj 4 (by decide)) (nj 104 (by decide)), fM 254 j rfl (by
        unfold mcF
        have := nj 4 (by decide); have := nj 81 (by decide); have := nj 87 (by decide); have := nj 88 (by decide); have := nj 89 (by decide); have := nj 95 (by decide); have := nj 96 (by decide); have := nj 98 (by decide); have := nj 99 (by decide); have := nj 100 (by decide); have := nj 103 (by decide); have := nj 106 (by decide); have := nj 108 (by decide)
        simp; omega), m_fs_f, p_set_n _ _ _ _ (nj 108 (by decide)), p_set_n _ _ _ _ (nj 107 (by decide)), p_set_n _ _ _ _ (nj 106 (by decide)), p_set_n _ _ _ _ (nj 103 (by decide)), p_set_n _ _ _ _ (nj 100 (by decide)), p_set_n _ _ _ _ (nj 99 (by decide)), p_set_n _ _ _ _ (nj 98 (by decide)), p_set_n _ _ _ _ (nj 97 (by decide)), p_set_n _ _ _ _ (nj 96 (by decide)), p_set_n _ _ _ _ (nj 95 (by decide)), p_set_n _ _ _ _ (nj 89 (by decide)), p_set_n _ _ _ _ (nj 88 (by decide)), p_set_n _ _ _ _ (nj 87 (by decide)), p_set_n _ _ _ _ (nj 81 (by decide)), t1 254 (by decide) (by decide), f254]
    · have nc : ∀ m ∈ rjC, c ≠ m := fun m hm z => by subst z; rw [List.contains_eq_mem] at hc; simp [hm] at hc
      have mc : mcC.contains c = false := by
        have := nc 308 (by decide); have := nc 309 (by decide); have := nc 310 (by decide); have := nc 311 (by decide); have := nc 312 (by decide); have := nc 313 (by decide); have := nc 314 (by decide); have := nc 315 (by decide); have := nc 316 (by decide); have := nc 317 (by decide); have := nc 318 (by decide); have := nc 320 (by decide); have := nc 321 (by decide)
        unfold mcC; simp; omega
      rw [c2 c z1, cM c z1 mc]
      by_cases z2 : c = 1
      · subst z2
        have nj : ∀ m, (1, m) ∈ rjF → j ≠ m := fun m hm z => by subst z; rw [List.contains_eq_mem] at hj; simp [hm] at hj
        rw [hh1, p_up_n _ _ _ _ _ _ (Or.inr (nj 3 (by decide))), p_up_n _ _ _ _ _ _ (Or.inr (nj 16 (by decide))), fB 1 j rfl (by unfold ccF; simp), a1 1 (by decide) (by decide) (by decide) (by decide)]
      · rw [ch1 c z2]
        by_cases z3 : c = 17
        · subst z3
          have nj : ∀ m, (17, m) ∈ rjF → j ≠ m := fun m hm z => by subst z; rw [List.contains_eq_mem] at hj; simp [hm] at hj
          have := nj 5 (by decide); have := nj 6 (by decide); have := nj 7 (by decide); have := nj 8 (by decide); have := nj 9 (by decide); have := nj 10 (by decide); have := nj 11 (by decide); have := nj 12 (by decide); have := nj 13 (by decide); have := nj 14 (by decide)
          rw [fB 17 j rfl (by unfold ccF; simp; omega)]
          exact a17' j (by omega)
        · rw [fB c j (by
            have := nc 18 (by decide); have := nc 20 (by decide); have := nc 21 (by decide)
            unfold ccC; simp; omega) (by unfold ccF; simp; omega), a1 c z3 (nc 18 (by decide)) (nc 19 (by decide)) (nc 21 (by decide))]
end
