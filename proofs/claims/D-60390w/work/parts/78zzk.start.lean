/-! RUN, 32: both runs from their beginning -/
section
variable {ky : List Int} {L d n : Nat} {g : am_H} {G : vG}
/-- the model enters main -/
theorem m_enter0 {u nl k1 : Nat} (R : MR ky G g) (hst : ∀ j, j < 12 → g 311 j = G.1 (20 + j)) (e87 : g 254 87 = 0) (e88 : g 254 88 = 0) (e89 : g 254 89 = 0) (e98 : g 254 98 = 0) (e99 : g 254 99 = -1) (e96 : g 254 96 = 0) (hs : g 254 96 ≠ g 254 97) (hu61 : u < 61) (e267 : g 267 u = 0) (e268 : g 268 u = (nl : Int)) (hnl : nl ≤ 12) (so : g 264 u = 2) (e269 : g 269 u = (k1 : Int)) : ∃ g', am_D (d + 13) 17 111 [am_r (am_a 254), am_i (u : Int)] (zS L, g) = pV L g' ∧ MU ky g' k1 G [(u, [], List.replicate nl 0, none, [], 0)] ∧ MB g' [(u, [], List.replicate nl 0, none, [], 0)] ∧ (g' 254 96 = 1 ∧ g' 254 89 = 1 ∧ g' 317 0 = g 254 95) ∧ (∀ j, j ≠ 88 → j ≠ 89 → j ≠ 96 → j ≠ 98 → g' 254 j = g 254 j) ∧ (∀ c, c ≠ 254 → c ≠ 312 → c ≠ 314 → c ≠ 315 → c ≠ 316 → c ≠ 317 → g' c = g c) ∧ p_fr mcC mcF g g' := by
  obtain ⟨g1, hg1⟩ : ∃ g1, g1 = am_up g 254 96 1 := ⟨_, rfl⟩
  have c1 : ∀ c, c ≠ 254 → g1 c = g c := fun c hc => by rw [hg1, p_up_c _ _ _ _ _ hc]
  have f1 : ∀ j, j ≠ 96 → g1 254 j = g 254 j := fun j hj => by rw [hg1, p_up_n _ _ _ _ _ _ (Or.inr hj)]
  obtain ⟨g3, hg3⟩ : ∃ g3, g3 = zr g1 0 24 := ⟨_, rfl⟩
  have c3 : ∀ c, c ≠ 312 → g3 c = g1 c := fun c hc => by rw [hg3, zr_c hc]
  have z := m_zero (d := d + 2) (L := L) (g := g1) (x1 := (u : Int)) (x2 := 0) (f := 0) (by decide) 0 24 rfl
  rw [zr_0, p_w (x := 0 - 1) (by decide) (by decide), ← hg3] at z
  have E2 := m_e8 (d := d + 2) (L := L) (g := g3) (x1 := (u : Int)) (u2 := some (am_i 0)) (u4 := some (am_i (0 - 1))) (f := 0) (by decide) 0 (by rw [c3 254 (by decide), f1 88 (by decide), e88]; rfl)
  have z3 : ∀ j, g3 254 j = g1 254 j := fun j => by rw [c3 254 (by decide)]
  rw [z3, z3, z3, f1 89 (by decide), e89, f1 98 (by decide), e98, f1 95 (by decide), if_pos (by decide)] at E2
  obtain ⟨gE, hgE⟩ : ∃ gE, gE = am_up (am_up (am_up (am_up (am_up g3 316 0 0) 314 0 0) 315 0 (u : Int)) 317 0 (g 254 95)) 254 88 (((0 : Nat) : Int) + 1) := ⟨_, rfl⟩
  rw [← hgE] at E2
  have cE : ∀ c, c ≠ 254 → c ≠ 314 → c ≠ 315 → c ≠ 316 → c ≠ 317 → gE c = g3 c := fun c h1 h2 h3 h4 h5 => by rw [hgE, p_up_c _ _ _ _ _ h1, p_up_c _ _ _ _ _ h5, p_up_c _ _ _ _ _ h3, p_up_c _ _ _ _ _ h2, p_up_c _ _ _ _ _ h4]
  have fE : ∀ j, j ≠ 88 → gE 254 j = g1 254 j := fun j hj => by rw [hgE, p_up_n _ _ _ _ _ _ (Or.inr hj), p_up_c _ _ _ _ _ (by decide), p_up_c _ _ _ _ _ (by decide), p_up_c _ _ _ _ _ (by decide), p_up_c _ _ _ _ _ (by decide), z3]
  obtain ⟨g', hg'⟩ : ∃ g', g' = am_up (am_up gE 254 89 (((0 : Nat) : Int) + 1)) 254 98 (k1 : Int) := ⟨_, rfl⟩
  have cg : ∀ c, c ≠ 254 → g' c = gE c := fun c hc => by rw [hg', p_up_c _ _ _ _ _ hc, p_up_c _ _ _ _ _ hc]
  have fg : ∀ j, j ≠ 89 → j ≠ 98 → g' 254 j = gE 254 j := fun j h1 h2 => by rw [hg', p_up_n _ _ _ _ _ _ (Or.inr h2), p_up_n _ _ _ _ _ _ (Or.inr h1)]
  have ca : ∀ c, c ≠ 254 → c ≠ 312 → c ≠ 314 → c ≠ 315 → c ≠ 316 → c ≠ 317 → g' c = g c := fun c h1 h2 h3 h4 h5 h6 => by rw [cg c h1, cE c h1 h3 h4 h5 h6, c3 c h2, c1 c h1]
  have D : am_D (d + 13) 17 111 [am_r (am_a 254), am_i (u : Int)] (zS L, g) = pV L g' := by
    rw [D_17_111, m_step, if_neg hs, p_xI, if_neg (by decide), e96, p_w (x := 0 + 1) (by decide) (by decide), show (0 : Int) + 1 = 1 from rfl, ← hg1, f1 88 (by decide), e88, if_neg (by decide), p_idx (by omega) (by omega), Int.toNat_natCast, c1 267 (by decide), e267]
    refine z.trans ?_
    have e264 : g3 264 u = 2 := by rw [c3 264 (by decide), c1 264 (by decide)]; exact so
    rw [q_17_111_5, if_pos (by decide), p_idx (by omega) (by omega), Int.toNat_natCast, e264, if_neg (by decide)]
    refine E2.trans ?_
    rw [q_17_111_10, p_idx (by omega) (by omega), p_idx (by omega) (by omega), Int.toNat_natCast, cE 264 (by decide) (by decide) (by decide) (by decide) (by decide), e264, if_neg (by decide), cE 269 (by decide) (by decide) (by decide) (by decide) (by decide), c3 269 (by decide), c1 269 (by decide), e269, ← hg']
  have e317 : g' 317 0 = g 254 95 := by rw [cg 317 (by decide), hgE, p_up_c _ _ _ _ _ (by decide), p_up_s]
  refine ⟨g', D, ⟨?_, fun j hj => ?_, ⟨?_, ?_, ?_, ?_⟩, ⟨⟨?_, ?_⟩, ⟨fun z => ?_, fun _ => ⟨?_, ?_⟩⟩, ⟨?_, ?_⟩, fun z => ?_⟩, trivial, trivial⟩, ⟨?_, trivial⟩, ⟨?_, ?_, e317⟩, fun j h1 h2 h3 h4 => ?_, ca, ?_⟩
  · exact R.same (fun a ha => ca a (by omega) (by omega) (by omega) (by omega) (by omega) (by omega)) (fun j hj => by rw [fg j (by omega) (by omega), fE j (by omega), f1 j (by omega)])
  · rw [ca 311 (by decide) (by decide) (by decide) (by decide) (by decide) (by decide)]; exact hst j hj
  · rw [fg 87 (by decide) (by decide), fE 87 (by decide), f1 87 (by decide), e87]; rfl
  · rw [fg 88 (by decide) (by decide), hgE, p_up_s]; rfl
  · rw [hg', p_up_s]
  · rw [fg 99 (by decide) (by decide), fE 99 (by decide), f1 99 (by decide)]; exact e99
  · show g' 315 0 = _
    rw [cg 315 (by decide), hgE, p_up_c _ _ _ _ _ (by decide), p_up_c _ _ _ _ _ (by decide), p_up_s]
  · show g' 314 0 = _
    rw [cg 314 (by decide), hgE, p_up_c _ _ _ _ _ (by decide), p_up_c _ _ _ _ _ (by decide), p_up_c _ _ _ _ _ (by decide), p_up_s]; rfl
  · rw [ca 264 (by decide) (by decide) (by decide) (by decide) (by decide) (by decide), so] at z; exact absurd z (by decide)
  · rw [ca 267 (by decide) (by decide) (by decide) (by decide) (by decide) (by decide), e267]; rfl
  · intro i v hi; cases hi
  · rw [List.length_replicate, ca 268 (by decide) (by decide) (by decide) (by decide) (by decide) (by decide), e268]
  · intro i v hi
    have hl := (List.getElem?_eq_some_iff.1 hi).1
    rw [List.length_replicate] at hl
    rw [List.getElem?_replicate, if_pos hl] at hi
    rw [← Option.some.inj hi, cg 312 (by decide), cE 312 (by decide) (by decide) (by decide) (by decide) (by decide), hg3]
    unfold zr; rw [if_pos rfl]; exact if_pos (by show 24 * 0 ≤ 24 * 0 + 12 + i ∧ 24 * 0 + 12 + i < 24 * 0 + 24; omega)
  · rw [ca 264 (by decide) (by decide) (by decide) (by decide) (by decide) (by decide)] at z; exact absurd so z
  · rw [ca 267 (by decide) (by decide) (by decide) (by decide) (by decide) (by decide), ca 268 (by decide) (by decide) (by decide) (by decide) (by decide) (by decide)]
    dsimp only; omega
  · rw [fg 96 (by decide) (by decide), fE 96 (by decide), hg1, p_up_s]
  · rw [hg', p_up_n _ _ _ _ _ _ (Or.inr (by decide)), p_up_s]; rfl
  · rw [fg j h2 h4, fE j h1, f1 j h3]
  · intro cc j hcc hj
    by_cases z : cc = 254
    · subst z
      rw [fg j (by intro z; subst z; revert hj; decide) (by intro z; subst z; revert hj; decide), fE j (by intro z; subst z; revert hj; decide), f1 j (by intro z; subst z; revert hj; decide)]
    · rw [ca cc z (by intro z2; subst z2; revert hcc; decide) (by intro z2; subst z2; revert hcc; decide) (by intro z2; subst z2; revert hcc; decide) (by intro z2; subst z2; revert hcc; decide) (by intro z2; subst z2; revert hcc; decide)]
end
