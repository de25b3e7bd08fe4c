/-! CHIPS, 13: the model's links and parts -/
section
variable {d L : Nat} {K V P : Nat → Int} {W : Nat → List Int} {Z i : Nat} {g h : am_H}
/-- where the model stands within a chip: CS chips ahead of it, its first pin, part and inner name; its pins, inner names -/
def mcI (K V P : Nat → Int) (W : Nat → List Int) (Z i : Nat) (g : am_H) (CS : List (Nat × Nat × Nat × Nat)) (tok : Nat) (PS ps : List (Nat × Int × Bool)) (TS : List (Nat × Nat)) (tf : Nat) (LS : List cLk) (IS I : List Nat) (h : am_H) : Prop :=
  mcN K V P W Z i g h ∧ fR V (CS ++ [(tok, PS.length, tf, IS.length)], PS ++ ps, TS, LS, IS ++ I) h ∧ (∀ p ∈ ps, p.1 ≤ Z ∧ K p.1 = 2) ∧ (∀ t ∈ I, t ≤ Z ∧ K t = 2) ∧ ps.length ≤ 12 ∧ I.length ≤ 100 ∧ 4 * LS.length ≤ i + 1 ∧ (IS ++ I).length ≤ LS.length
theorem fR.up3 {F : fM} {c : Nat} {v : Int} {k : Nat} (R : fR V F h) (hc : c = 329 ∨ c = 345) (hk : F.1.length ≤ k) : fR V F (am_up h c k v) := by
  obtain ⟨r0, r1, r2, r3, r4, r5⟩ := R
  have n254 : ∀ j, am_up h c k v 254 j = h 254 j := fun j => by rw [p_up_c _ _ _ _ _ (by omega)]
  have nc : ∀ c', c' ≠ 329 → c' ≠ 345 → am_up h c k v c' = h c' := fun c' z1 z2 => p_up_c _ _ _ _ _ (by omega)
  refine ⟨?_, fun j x hx => ?_, ?_, ?_, ?_, ?_⟩
  · unfold fRc; rw [n254, n254, n254, n254, n254]; exact r0
  · have := (List.getElem?_eq_some_iff.1 hx).1
    rw [nc 328 (by decide) (by decide), nc 334 (by decide) (by decide), p_up_n _ _ _ _ 329 _ (Or.inr (by omega)), p_up_n _ _ _ _ 345 _ (Or.inr (by omega))]
    exact r1 j x hx
  · rw [nc 331 (by decide) (by decide), nc 333 (by decide) (by decide), nc 330 (by decide) (by decide), nc 332 (by decide) (by decide)]; exact r2
  · rw [nc 335 (by decide) (by decide), nc 336 (by decide) (by decide)]; exact r3
  · unfold fRl; rw [nc 337 (by decide) (by decide), nc 338 (by decide) (by decide), nc 339 (by decide) (by decide), nc 340 (by decide) (by decide), nc 341 (by decide) (by decide), nc 342 (by decide) (by decide), nc 343 (by decide) (by decide), nc 344 (by decide) (by decide)]; exact r4
  · rw [nc 346 (by decide) (by decide)]; exact r5
/-- a place of a link's row behind all links -/
theorem fR.upl {F : fM} {c : Nat} {v : Int} (R : fR V F h) (hc : 337 ≤ c ∧ c ≤ 344) : fR V F (am_up h c F.2.2.2.1.length v) := by
  obtain ⟨r0, r1, r2, r3, r4, r5⟩ := R
  have nc : ∀ c', (c' < 337 ∨ 344 < c') → am_up h c F.2.2.2.1.length v c' = h c' := fun c' z1 => p_up_c _ _ _ _ _ (by omega)
  have nl : ∀ c' k, k < F.2.2.2.1.length → am_up h c F.2.2.2.1.length v c' k = h c' k := fun c' k z1 => p_up_n _ _ _ _ _ _ (Or.inr (by omega))
  refine ⟨?_, ?_, ?_, ?_, fun k l hl => ?_, ?_⟩
  · unfold fRc; rw [nc 254 (by omega)]; exact r0
  · rw [nc 328 (by omega), nc 329 (by omega), nc 334 (by omega), nc 345 (by omega)]; exact r1
  · rw [nc 331 (by omega), nc 333 (by omega), nc 330 (by omega), nc 332 (by omega)]; exact r2
  · rw [nc 335 (by omega), nc 336 (by omega)]; exact r3
  · have hk := (List.getElem?_eq_some_iff.1 hl).1
    unfold fRl
    rw [nl _ k hk, nl _ k hk, nl _ k hk, nl _ k hk, nl _ k hk, nl _ k hk, nl _ k hk, nl _ k hk]
    exact r4 k l hl
  · rw [nc 346 (by omega)]; exact r5
/-- one more link -/
theorem fR.lnk {F : fM} {l : cLk} (R : fR V F h) (hl : fRl l F.2.2.2.1.length h) (hb : F.2.2.2.1.length < 550) : fR V (F.1, F.2.1, F.2.2.1, F.2.2.2.1 ++ [l], F.2.2.2.2) (am_up h 254 134 ((F.2.2.2.1.length : Int) + 1)) := by
  obtain ⟨⟨a, b, c, d, e⟩, r1, r2, r3, r4, r5⟩ := R
  have nc : ∀ c', c' ≠ 254 → am_up h 254 134 ((F.2.2.2.1.length : Int) + 1) c' = h c' := fun c' z => p_up_c _ _ _ _ _ z
  refine ⟨⟨?_, ?_, ?_, ⟨?_, ?_⟩, ?_⟩, ?_, ?_, ?_, fun k x hx => ?_, ?_⟩
  · rw [p_up_n _ _ _ _ _ _ (Or.inr (by decide))]; exact a
  · rw [p_up_n _ _ _ _ _ _ (Or.inr (by decide))]; exact b
  · rw [p_up_n _ _ _ _ _ _ (Or.inr (by decide))]; exact c
  · rw [p_up_s]; dsimp only; rw [List.length_append, List.length_singleton]; omega
  · dsimp only; rw [List.length_append, List.length_singleton]; omega
  · rw [p_up_n _ _ _ _ _ _ (Or.inr (by decide))]; exact e
  · rw [nc 328 (by decide), nc 329 (by decide), nc 334 (by decide), nc 345 (by decide)]; exact r1
  · rw [nc 331 (by decide), nc 333 (by decide), nc 330 (by decide), nc 332 (by decide)]; exact r2
  · rw [nc 335 (by decide), nc 336 (by decide)]; exact r3
  · unfold fRl
    rw [nc 337 (by decide), nc 338 (by decide), nc 339 (by decide), nc 340 (by decide), nc 341 (by decide), nc 342 (by decide), nc 343 (by decide), nc 344 (by decide)]
    dsimp only at hx
    by_cases y : k < F.2.2.2.1.length
    · rw [List.getElem?_append_left y] at hx
      exact r4 k x hx
    · have : k = F.2.2.2.1.length := by
        have := (List.getElem?_eq_some_iff.1 hx).1
        rw [List.length_append, List.length_singleton] at this; omega
      subst this
      rw [List.getElem?_append_right (Nat.le_refl _), Nat.sub_self] at hx
      cases hx
      exact hl
  · rw [nc 346 (by decide)]; exact r5
/-- one more inner name -/
theorem fR.inn {F : fM} {t : Nat} (R : fR V F h) (hb : F.2.2.2.2.length < 550) : fR V (F.1, F.2.1, F.2.2.1, F.2.2.2.1, F.2.2.2.2 ++ [t]) (am_up (am_up h 346 F.2.2.2.2.length (t : Int)) 254 144 ((F.2.2.2.2.length : Int) + 1)) := by
  obtain ⟨⟨a, b, c, d, e⟩, r1, r2, r3, r4, r5⟩ := R
  obtain ⟨H, hH⟩ : ∃ H, H = am_up (am_up h 346 F.2.2.2.2.length (t : Int)) 254 144 ((F.2.2.2.2.length : Int) + 1) := ⟨_, rfl⟩
  rw [← hH]
  have nc : ∀ c', c' ≠ 254 → c' ≠ 346 → H c' = h c' := fun c' z1 z2 => by rw [hH, p_up_c _ _ _ _ _ z1, p_up_c _ _ _ _ _ z2]
  have n254 : ∀ j, j ≠ 144 → H 254 j = h 254 j := fun j hj => by rw [hH, p_up_n _ _ _ _ _ _ (Or.inr hj), p_up_c _ _ _ _ _ (by decide)]
  refine ⟨⟨?_, ?_, ?_, ?_, ⟨?_, ?_⟩⟩, ?_, ?_, ?_, ?_, fun k x hx => ?_⟩
  · rw [n254 _ (by decide)]; exact a
  · rw [n254 _ (by decide)]; exact b
  · rw [n254 _ (by decide)]; exact c
  · rw [n254 _ (by decide)]; exact d
  · rw [hH, p_up_s]; dsimp only; rw [List.length_append, List.length_singleton]; omega
  · dsimp only; rw [List.length_append, List.length_singleton]; omega
  · rw [nc 328 (by decide) (by decide), nc 329 (by decide) (by decide), nc 334 (by decide) (by decide), nc 345 (by decide) (by decide)]; exact r1
  · rw [nc 331 (by decide) (by decide), nc 333 (by decide) (by decide), nc 330 (by decide) (by decide), nc 332 (by decide) (by decide)]; exact r2
  · rw [nc 335 (by decide) (by decide), nc 336 (by decide) (by decide)]; exact r3
  · unfold fRl
    rw [nc 337 (by decide) (by decide), nc 338 (by decide) (by decide), nc 339 (by decide) (by decide), nc 340 (by decide) (by decide), nc 341 (by decide) (by decide), nc 342 (by decide) (by decide), nc 343 (by decide) (by decide), nc 344 (by decide) (by decide)]
    exact r4
  · dsimp only at hx
    by_cases y : k < F.2.2.2.2.length
    · rw [List.getElem?_append_left y] at hx
      rw [hH, p_up_c _ _ _ _ _ (by decide), p_up_n _ _ _ _ _ _ (Or.inr (by omega))]
      exact r5 k x hx
    · have : k = F.2.2.2.2.length := by
        have := (List.getElem?_eq_some_iff.1 hx).1
        rw [List.length_append, List.length_singleton] at this; omega
      subst this
      rw [List.getElem?_append_right (Nat.le_refl _), Nat.sub_self] at hx
      cases hx
      rw [hH, p_up_c _ _ _ _ _ (by decide), p_up_s]
theorem mcN.frm {g h h' : am_H} (N : mcN K V P W Z i g h) (f : p_fr mcCx mcFx h h') (e1 : h' 254 10 = h 254 10) (e2 : h' 254 11 = h 254 11) : mcN K V P W Z i g h' := ⟨N.1.fr f, by rw [e1]; exact N.2.1, N.2.2.1, by rw [e2]; exact N.2.2.2.1, N.2.2.2.2.trans f⟩
/-- a link: the model -/
theorem mx_link {CS : List (Nat × Nat × Nat × Nat)} {tok tf : Nat} {PS ps : List (Nat × Int × Bool)} {TS : List (Nat × Nat)} {LS : List cLk} {IS I : List Nat} (S : mcI K V P W Z i g CS tok PS ps TS tf LS IS I h) (hL4 : 4 * LS.length ≤ i) : match c_lnk K V (ps.map (·.1)) I i with
      | .inl e => ∃ h', am_D (d + 5) 17 153 [am_r (am_a 254)] (zS L, h) = pV L h' ∧ mcB P g e h'
      | .inr w => ∃ h1, am_D (d + 5) 17 153 [am_r (am_a 254)] (zS L, h) = pV L h1 ∧ mcI K V P W Z w.1.2.2.2.2 g CS tok PS ps TS tf (LS ++ [w.1]) IS w.2 h1 ∧ i + 3 ≤ w.1.2.2.2.2 := by
  obtain ⟨N, R, hps, hI, l12, l100, hLS, hIS⟩ := S
  have ub := N.ub
  have z2 := N.1.1.1
  have B := R.lim
  obtain ⟨a1, a2, a3, a4, a5⟩ := N.1.2.1 i N.2.2.1
  have kk := kmp_i a5
  have e134 : ∀ {h' : am_H}, fR V (CS ++ [(tok, PS.length, tf, IS.length)], PS ++ ps, TS, LS, IS ++ I) h' → h' 254 134 = (LS.length : Int) := fun R' => R'.1.2.2.2.1.1
  have lb : LS.length ≤ 500 := by omega
  have fault : ∀ {e : cF} {h' : am_H}, mcB P g e h' → 0 < h' 254 11 := fun Be => by obtain ⟨-, ⟨y1, y2⟩, -⟩ := Be; omega
  rw [D_17_153, D_17_24, N.2.1, p_idx (by omega) (by omega), Int.toNat_natCast, a1]
  unfold c_lnk
  by_cases c1 : K i = 2
  · obtain ⟨r1, N1⟩ := mx_go (d := d + 2) (L := L) N (by rw [c1]; omega)
    obtain ⟨h1, e1⟩ : ∃ h1, h1 = am_up h 254 10 ((i + 1 : Nat) : Int) := ⟨_, rfl⟩
    rw [← e1] at r1 N1
    have R1 : fR V (CS ++ [(tok, PS.length, tf, IS.length)], PS ++ ps, TS, LS, IS ++ I) h1 := R.fr (by rw [e1]; exact (p_fr.refl h).upf _ _ _ rfl)
    rw [if_pos c1, if_pos (kk.2.1.2 c1), r1, p_xV, N1.2.2.2.1, if_pos rfl, N1.2.1, p_w (by omega) (by omega), show ((i + 1 : Nat) : Int) - 1 = (i : Int) by omega]
    rw [p_xI, N1.2.2.2.1, if_neg (by decide), e134 R1, p_idx (by omega) (by omega), Int.toNat_natCast]
    obtain ⟨h2, e2⟩ : ∃ h2, h2 = am_up h1 337 LS.length (i : Int) := ⟨_, rfl⟩
    have R2 : fR V (CS ++ [(tok, PS.length, tf, IS.length)], PS ++ ps, TS, LS, IS ++ I) h2 := by rw [e2]; exact R1.upl (c := 337) (by omega)
    have N2 : mcN K V P W Z (i + 1) g h2 := by rw [e2]; exact N1.up (Or.inl rfl) (by omega)
    rw [← e2]
    have mr := mx_range (d := d) (L := L) N2 R2.lim
    have rrx := c_rng_rg (V := V) N.1.1 (i := i + 1) N1.2.2.1
    cases hr : c_rng K V (i + 1) with
    | inl e =>
      rw [hr] at mr
      obtain ⟨h', r3, b3, -⟩ := mr
      dsimp only
      have b3' := b3
      obtain ⟨-, -, -, -, ⟨y1, y2⟩, -⟩ := b3'
      obtain ⟨h'', e''⟩ : ∃ h'', h'' = am_up (am_up (am_up h' 338 (h' 254 134).toNat (h' 254 148)) 339 (h' 254 134).toNat (h' 254 149)) 340 (h' 254 134).toNat (h' 254 150) := ⟨_, rfl⟩
      have b4 : mcB P g e h'' := by rw [e'']; exact ((b3.up (Or.inl rfl) (Or.inl (by decide))).up (Or.inl rfl) (Or.inl (by decide))).up (Or.inl rfl) (Or.inl (by decide))
      refine ⟨h'', ?_, b4⟩
      rw [r3, p_xV, p_idx (by omega) (by omega), p_idx (by omega) (by omega), p_idx (by omega) (by omega), ← e'', mz_needSign b4, p_xV, if_pos (fault b4)]
    | inr q =>
      rw [hr] at mr rrx
      dsimp only at mr rrx ⊢
      obtain ⟨h3, r3, N3, f3, x1, x2, x3⟩ := mr
      have R3 := R2.fr (f3.mono rfl rfl)
      have y337 : h3 337 LS.length = (i : Int) := by rw [f3.cell 337 rfl rfl, e2, p_up_s]
      rw [r3, p_xV, e134 R3, p_idx (by omega) (by omega), p_idx (by omega) (by omega), p_idx (by omega) (by omega), Int.toNat_natCast, x1, x2, x3]
      obtain ⟨h4, e4⟩ : ∃ h4, h4 = am_up (am_up (am_up h3 338 LS.length q.1) 339 LS.length q.2.1) 340 LS.length q.2.2.1 := ⟨_, rfl⟩
      have R4 : fR V (CS ++ [(tok, PS.length, tf, IS.length)], PS ++ ps, TS, LS, IS ++ I) h4 := by rw [e4]; exact ((R3.upl (c := 338) (by omega)).upl (c := 339) (by omega)).upl (c := 340) (by omega)
      have N4 : mcN K V P W Z q.2.2.2 g h4 := by rw [e4]; exact ((N3.up (Or.inl rfl) (by omega)).up (Or.inl rfl) (by omega)).up (Or.inl rfl) (by omega)
      rw [← e4]
      have lft : ∀ h' : am_H, (∀ c k, c = 337 ∨ c = 338 ∨ c = 339 ∨ c = 340 → h' c k = h4 c k) → h' 337 LS.length = (i : Int) ∧ h' 338 LS.length = q.1 ∧ h' 339 LS.length = q.2.1 ∧ h' 340 LS.length = q.2.2.1 := fun h' hh => by
        rw [hh _ _ (by omega), hh _ _ (by omega), hh _ _ (by omega), hh _ _ (by omega), e4]
        refine ⟨?_, ?_, ?_, ?_⟩
        · rw [p_up_c _ _ _ _ _ (by decide), p_up_c _ _ _ _ _ (by decide), p_up_c _ _ _ _ _ (by decide)]; exact y337
        · rw [p_up_c _ _ _ _ _ (by decide), p_up_c _ _ _ _ _ (by decide), p_up_s]
        · rw [p_up_c _ _ _ _ _ (by decide), p_up_s]
        · rw [p_up_s]
      rcases mx_needSign (d := d + 1) (L := L) N4 R4.lim 61 (by decide) (by decide) with ⟨z, h', r5, b5, -⟩ | ⟨z, r5, N5⟩
      · rw [if_neg z]
        exact ⟨h', by rw [r5, p_xV, if_pos (fault b5)], b5⟩
      rw [if_pos z, r5, p_xV, N5.2.2.2.1, if_neg (by decide)]
      obtain ⟨h5, e5⟩ : ∃ h5, h5 = am_up h4 254 10 ((q.2.2.2 + 1 : Nat) : Int) := ⟨_, rfl⟩
      rw [← e5] at N5 ⊢
      obtain ⟨r, er⟩ : ∃ r, r = q.2.2.2 + 1 := ⟨_, rfl⟩
      rw [← er] at N5 ⊢
      have hir : i + 2 ≤ r := by omega
      have R5 := R4.fr (h' := h5) (by rw [e5]; exact (p_fr.refl h4).upf _ _ _ rfl)
      rw [e134 R5, p_idx (by omega) (by omega), Int.toNat_natCast, N5.2.1, q_17_153_3, p_up_c _ _ _ _ _ (by decide), e134 R5, p_idx (by omega) (by omega), Int.toNat_natCast]
      obtain ⟨h6, e6⟩ : ∃ h6, h6 = am_up (am_up h5 341 LS.length (r : Int)) 342 LS.length (-1) := ⟨_, rfl⟩
      have R6 : fR V (CS ++ [(tok, PS.length, tf, IS.length)], PS ++ ps, TS, LS, IS ++ I) h6 := by rw [e6]; exact (R5.upl (c := 341) (by omega)).upl (c := 342) (by omega)
      have N6 : mcN K V P W Z r g h6 := by rw [e6]; exact (N5.up (Or.inl rfl) (by omega)).up (Or.inl rfl) (by omega)
      rw [← e6]
      have rgt : ∀ h' : am_H, (∀ c k, c = 337 ∨ c = 338 ∨ c = 339 ∨ c = 340 ∨ c = 341 → h' c k = h6 c k) → (h' 337 LS.length = (i : Int) ∧ h' 338 LS.length = q.1 ∧ h' 339 LS.length = q.2.1 ∧ h' 340 LS.length = q.2.2.1) ∧ h' 341 LS.length = (r : Int) := fun h' hh => by
        refine ⟨lft h' (fun c k hc => ?_), ?_⟩
        · rw [hh c k (by omega), e6, p_up_c _ _ _ _ _ (by omega), p_up_c _ _ _ _ _ (by omega), e5, p_up_c _ _ _ _ _ (by omega)]
        · rw [hh 341 _ (by omega), e6, p_up_c _ _ _ _ _ (by decide), p_up_s]
      have x342 : h6 342 LS.length = -1 := by rw [e6, p_up_s]
      -- a constant
      have konst : (cWd K V 4 r ∨ cWd K V 5 r) → ∃ h1, (am_xV (zS L) (am_D (d + 4) 17 21 [am_r (am_a 254)] (zS L, h6)) (am_up1 (zS L)) fun h4 => some (.inl none, (zS L, am_up h4 254 134 (am_w (h4 254 134 + 1))))) = pV L h1 ∧ mcI K V P W Z (r + 1) g CS tok PS ps TS tf (LS ++ [(i, (q.1, q.2.1, q.2.2.1), r, (-1, 0, 0), r + 1)]) IS I h1 ∧ i + 3 ≤ r + 1 := by
        intro hw
        obtain ⟨r7, N7⟩ := mx_go (d := d + 3) (L := L) N6 (by rcases hw with y | y <;> (rw [y.1]; omega))
        obtain ⟨h7, e7⟩ : ∃ h7, h7 = am_up h6 254 10 ((r + 1 : Nat) : Int) := ⟨_, rfl⟩
        rw [← e7] at r7 N7
        have R7 := R6.fr (h' := h7) (by rw [e7]; exact (p_fr.refl h6).upf _ _ _ rfl)
        have n7 : ∀ c k, c ≠ 254 → h7 c k = h6 c k := fun c k hc => by rw [e7, p_up_c _ _ _ _ _ hc]
        refine ⟨_, by rw [r7, p_xV, e134 R7, p_w (by omega) (by omega)], ⟨N7.up (Or.inr rfl) (by omega), ?_, hps, hI, l12, l100, ?_, ?_⟩, by omega⟩
        · refine R7.lnk (l := (i, (q.1, q.2.1, q.2.2.1), r, (-1, 0, 0), r + 1)) ?_ (by dsimp only; omega)
          obtain ⟨y1, y2⟩ := rgt h7 (fun c k hc => n7 c k (by omega))
          exact ⟨y1, y2, by rw [n7 342 _ (by decide)]; exact x342, fun y => absurd rfl y⟩
        · rw [List.length_append, List.length_singleton]; omega
        · have := hIS
          rw [List.length_append] at this ⊢
          rw [List.length_append, List.length_singleton]; omega
      unfold c_rgt
      rw [mx_isWord N6 4, p_xI]
      by_cases w4 : cWd K V 4 r
      · rw [pB_t w4, if_neg (show ¬ (1 : Int) = 0 by decide), if_pos (Or.inl w4)]
        exact konst (Or.inl w4)
      rw [pB_f w4, if_pos rfl, mx_isWord N6 5, p_xI]
      by_cases w5 : cWd K V 5 r
      · rw [pB_t w5, if_neg (show ¬ (1 : Int) = 0 by decide), if_pos (Or.inr w5)]
        exact konst (Or.inr w5)
      have ub6 := N6.ub
      obtain ⟨s1, s2, s3, s4, s5⟩ := N6.1.2.1 r N6.2.2.1
      have kr := kmp_i s5
      rw [pB_f w5, if_pos rfl, N6.2.1, p_idx (by omega) (by omega), Int.toNat_natCast, s1, if_neg (c := cWd K V 4 r ∨ cWd K V 5 r) (by rintro (y | y); exact w4 y; exact w5 y)]
      by_cases k2 : K r = 2
      · rw [if_pos k2, if_pos (kr.2.1.2 k2)]
        have cl : h6 254 122 = ((CS.length + 1 : Nat) : Int) := by have := R6.1.1.1; dsimp only at this; rw [List.length_append, List.length_singleton] at this; exact this
        have cl16 : CS.length + 1 ≤ 16 := by have := R6.1.1.2; dsimp only at this; rw [List.length_append, List.length_singleton] at this; exact this
        have pl : h6 254 125 = ((PS.length + ps.length : Nat) : Int) := by have := R6.1.2.1.1; dsimp only at this; rw [List.length_append] at this; exact this
        have pl192 : PS.length + ps.length ≤ 192 := by have := R6.1.2.1.2; dsimp only at this; rw [List.length_append] at this; exact this
        have il : h6 254 144 = ((IS.length + I.length : Nat) : Int) := by have := R6.1.2.2.2.2.1; dsimp only at this; rw [List.length_append] at this; exact this
        have il550 : IS.length + I.length ≤ LS.length := by rw [List.length_append] at hIS; exact hIS
        rw [cl, p_idx (by omega) (by omega), p_idx (by omega) (by omega), Int.toNat_natCast, pl, il, p_w (x := ((CS.length + 1 : Nat) : Int) - 1) (by omega) (by omega), show ((CS.length + 1 : Nat) : Int) - 1 = (CS.length : Int) by omega]
        obtain ⟨h7, e7⟩ : ∃ h7, h7 = am_up (am_up h6 329 (CS.length + 1) ((PS.length + ps.length : Nat) : Int)) 345 (CS.length + 1) ((IS.length + I.length : Nat) : Int) := ⟨_, rfl⟩
        have R7 : fR V (CS ++ [(tok, PS.length, tf, IS.length)], PS ++ ps, TS, LS, IS ++ I) h7 := by
          rw [e7]
          exact (R6.up3 (Or.inl rfl) (by dsimp only; rw [List.length_append, List.length_singleton]; omega)).up3 (Or.inr rfl) (by dsimp only; rw [List.length_append, List.length_singleton]; omega)
        have N7 : mcN K V P W Z r g h7 := by rw [e7]; exact (N6.up (Or.inl rfl) (by omega)).up (Or.inl rfl) (by omega)
        rw [← e7]
        have last : (CS ++ [(tok, PS.length, tf, IS.length)])[CS.length]? = some (tok, PS.length, tf, IS.length) := by rw [List.getElem?_append_right (Nat.le_refl _), Nat.sub_self]; rfl
        obtain ⟨q1, q2, q3, q4⟩ := R7.2.1 CS.length _ last
        have po := mx_pinOf (d := d + 2) (L := L) N7.1 (t := r) (c := CS.length) (lo := PS.length) N7.2.2.1 k2 (l := ps.map (·.1)) (by omega) (by rw [List.length_map]; omega) q2 (by rw [List.length_map, e7, p_up_c _ _ _ _ _ (by decide), p_up_s]) (fun k a hk => by
          rw [List.getElem?_map] at hk
          cases hp : ps[k]? with
          | none => rw [hp] at hk; cases hk
          | some p =>
            rw [hp] at hk
            cases hk
            have := hps p (List.mem_of_getElem? hp)
            exact ⟨(R7.2.2.1 (PS.length + k) p (by dsimp only; rw [List.getElem?_append_right (Nat.le_add_right _ _), Nat.add_sub_cancel_left]; exact hp)).1, this⟩)
        have io := mx_innOf (d := d + 2) (L := L) N7.1 (t := r) (c := CS.length) (lo := IS.length) N7.2.2.1 k2 (l := I) (by omega) (by omega) q4 (by rw [e7, p_up_s]) (fun k a hk => ⟨R7.2.2.2.2.2 (IS.length + k) a (by dsimp only; rw [List.getElem?_append_right (Nat.le_add_right _ _), Nat.add_sub_cancel_left]; exact hk), hI a (List.mem_of_getElem? hk)⟩)
        have n7 : ∀ c k, c ≠ 329 → c ≠ 345 → h7 c k = h6 c k := fun c k y1 y2 => by rw [e7, p_up_c _ _ _ _ _ y2, p_up_c _ _ _ _ _ y1]
        -- behind the name
        have after : ∀ {u2 : Option am_V} {I' : List Nat} {h8 : am_H}, mcN K V P W Z r g h8 → fR V (CS ++ [(tok, PS.length, tf, IS.length)], PS ++ ps, TS, LS, IS ++ I') h8 → (∀ c k, 337 ≤ c → c ≤ 344 → h8 c k = h6 c k) → (∀ t ∈ I', t ≤ Z ∧ K t = 2) → I'.length ≤ 100 → IS.length + I'.length ≤ LS.length + 1 → match (match c_rng K V (r + 1) with | .inl e => .inl e | .inr q' => .inr (I', (q'.1, q'.2.1, q'.2.2.1), q'.2.2.2) : cF ⊕ (List Nat × (Int × Int × Int) × Nat)) with
            | .inl e => ∃ h', (am_xV (zS L) (am_D (d + 4) 17 21 [am_r (am_a 254)] (zS L, h8)) (am_up1 (zS L)) fun h13 => am_xV (zS L) (am_D (d + 4) 17 150 [am_r (am_a 254)] (zS L, h13)) (am_up1 (zS L)) fun h14 => am_idx (h14 254 134) 700 fun k15 => am_E (am_D (d + 4)) m_17_153 (.inl 9) [some (am_r (am_a 254)), some (am_i (i : Int)), u2] [] (zS L, am_up h14 342 k15 (h14 254 148))) = pV L h' ∧ mcB P g e h'
            | .inr w => ∃ h1, (am_xV (zS L) (am_D (d + 4) 17 21 [am_r (am_a 254)] (zS L, h8)) (am_up1 (zS L)) fun h13 => am_xV (zS L) (am_D (d + 4) 17 150 [am_r (am_a 254)] (zS L, h13)) (am_up1 (zS L)) fun h14 => am_idx (h14 254 134) 700 fun k15 => am_E (am_D (d + 4)) m_17_153 (.inl 9) [some (am_r (am_a 254)), some (am_i (i : Int)), u2] [] (zS L, am_up h14 342 k15 (h14 254 148))) = pV L h1 ∧ mcI K V P W Z w.2.2 g CS tok PS ps TS tf (LS ++ [(i, (q.1, q.2.1, q.2.2.1), r, w.2.1, w.2.2)]) IS w.1 h1 ∧ i + 3 ≤ w.2.2 := by
          intro u2 I' h8 N8 R8 n8 hI' l100' hl'
          obtain ⟨r9, N9⟩ := mx_go (d := d + 3) (L := L) N8 (by rw [k2]; omega)
          obtain ⟨h9, e9⟩ : ∃ h9, h9 = am_up h8 254 10 ((r + 1 : Nat) : Int) := ⟨_, rfl⟩
          rw [← e9] at r9 N9
          have R9 := R8.fr (h' := h9) (by rw [e9]; exact (p_fr.refl h8).upf _ _ _ rfl)
          have e134' : ∀ {h' : am_H}, fR V (CS ++ [(tok, PS.length, tf, IS.length)], PS ++ ps, TS, LS, IS ++ I') h' → h' 254 134 = (LS.length : Int) := fun R' => R'.1.2.2.2.1.1
          rw [r9, p_xV]
          have mr2 := mx_range (d := d) (L := L) N9 R9.lim
          have rr2 := c_rng_rg (V := V) N.1.1 (i := r + 1) N9.2.2.1
          cases hr2 : c_rng K V (r + 1) with
          | inl e =>
            rw [hr2] at mr2
            obtain ⟨h', r10, b10, f10⟩ := mr2
            have b10' := b10
            obtain ⟨-, -, -, -, ⟨y1, y2⟩, -⟩ := b10'
            dsimp only
            obtain ⟨h'', e''⟩ : ∃ h'', h'' = am_up h' 342 (h' 254 134).toNat (h' 254 148) := ⟨_, rfl⟩
            have b11 : mcB P g e h'' := by rw [e'']; exact b10.up (Or.inl rfl) (Or.inl (by decide))
            have e134'' : h'' 254 134 = h' 254 134 := by rw [e'', p_up_c _ _ _ _ _ (by decide)]
            have b10l : h' 254 134 ≤ 599 := by
              rw [f10 254 134 rfl rfl, e134' R9]; omega
            refine ⟨_, by rw [r10, p_xV, p_idx (by omega) (by omega), ← e'', q_17_153_9, e134'', p_idx (by omega) (by omega), p_idx (by omega) (by omega), p_w (by omega) (by omega)], ((b11.up (Or.inl rfl) (Or.inl (by decide))).up (Or.inl rfl) (Or.inl (by decide))).up (Or.inr rfl) ?_⟩
            omega
          | inr q' =>
            rw [hr2] at mr2 rr2
            dsimp only at mr2 rr2 ⊢
            obtain ⟨h10, r10, N10, f10, x1', x2', x3'⟩ := mr2
            have R10 := R9.fr (f10.mono rfl rfl)
            rw [r10, p_xV, e134' R10, p_idx (by omega) (by omega), Int.toNat_natCast, x1', q_17_153_9, p_up_c _ _ _ _ _ (by decide), e134' R10, p_idx (by omega) (by omega), p_idx (by omega) (by omega), Int.toNat_natCast, x2', x3', p_w (by omega) (by omega)]
            obtain ⟨h11, e11⟩ : ∃ h11, h11 = am_up (am_up (am_up h10 342 LS.length q'.1) 343 LS.length q'.2.1) 344 LS.length q'.2.2.1 := ⟨_, rfl⟩
            have R11 : fR V (CS ++ [(tok, PS.length, tf, IS.length)], PS ++ ps, TS, LS, IS ++ I') h11 := by rw [e11]; exact ((R10.upl (c := 342) (by omega)).upl (c := 343) (by omega)).upl (c := 344) (by omega)
            have N11 : mcN K V P W Z q'.2.2.2 g h11 := by rw [e11]; exact ((N10.up (Or.inl rfl) (by omega)).up (Or.inl rfl) (by omega)).up (Or.inl rfl) (by omega)
            rw [← e11]
            have n11 : ∀ c k, c = 337 ∨ c = 338 ∨ c = 339 ∨ c = 340 ∨ c = 341 → h11 c k = h6 c k := fun c k hc => by
              rw [e11, p_up_c _ _ _ _ _ (by omega), p_up_c _ _ _ _ _ (by omega), p_up_c _ _ _ _ _ (by omega)]
              have : h10 c k = h9 c k := f10 c k rfl (by rcases hc with rfl | rfl | rfl | rfl | rfl <;> rfl)
              rw [this, e9, p_up_c _ _ _ _ _ (by omega)]
              exact n8 c k (by omega) (by omega)
            refine ⟨_, rfl, ⟨N11.up (Or.inr rfl) (by omega), ?_, hps, hI', l12, l100', ?_, ?_⟩, by omega⟩
            · refine R11.lnk (l := (i, (q.1, q.2.1, q.2.2.1), r, (q'.1, q'.2.1, q'.2.2.1), q'.2.2.2)) ?_ (by dsimp only; omega)
              obtain ⟨y1, y2⟩ := rgt h11 n11
              refine ⟨y1, y2, ?_, fun _ => ⟨?_, ?_⟩⟩
              · rw [e11, p_up_c _ _ _ _ _ (by decide), p_up_c _ _ _ _ _ (by decide), p_up_s]
              · rw [e11, p_up_c _ _ _ _ _ (by decide), p_up_s]
              · rw [e11, p_up_s]
            · rw [List.length_append, List.length_singleton]; omega
            · rw [List.length_append, List.length_append, List.length_singleton]; omega
        unfold c_inn
        rw [po, p_xI]
        have P7 : ∀ c k, 337 ≤ c → c ≤ 344 → h7 c k = h6 c k := fun c k y1 y2 => n7 c k (by omega) (by omega)
        by_cases m1 : V r ∈ (ps.map (·.1)).map V
        · have y := (mem_V _ _).1 m1
          have yr := ffnd_rg ((ps.map (·.1)).map V) (V r) 0
          rw [if_neg y, if_neg (show ¬ (PS.length : Int) + ffnd (V r) ((ps.map (·.1)).map V) 0 = -1 by omega), if_pos (Or.inl m1)]
          have af := after (u2 := some (am_i (CS.length : Int))) N7 R7 P7 hI l100 (by omega)
          cases hq : c_rng K V (r + 1) with
          | inl e => rw [hq] at af; exact af
          | inr q' => rw [hq] at af; exact af
        have y1 : ffnd (V r) ((ps.map (·.1)).map V) 0 = -1 := Classical.byContradiction fun z => m1 ((mem_V _ _).2 z)
        rw [if_pos y1, if_pos rfl, q_17_153_6, N7.2.1, io, p_xI]
        by_cases m2 : V r ∈ I.map V
        · have y := (mem_V _ _).1 m2
          have yr := ffnd_rg (I.map V) (V r) 0
          rw [if_neg y, if_neg (show ¬ (IS.length : Int) + ffnd (V r) (I.map V) 0 = -1 by omega), if_pos (Or.inr m2)]
          have af := after (u2 := some (am_i (CS.length : Int))) N7 R7 P7 hI l100 (by omega)
          cases hq : c_rng K V (r + 1) with
          | inl e => rw [hq] at af; exact af
          | inr q' => rw [hq] at af; exact af
        have y2 : ffnd (V r) (I.map V) 0 = -1 := Classical.byContradiction fun z => m2 ((mem_V _ _).2 z)
        have il7 : h7 254 144 = ((IS.length + I.length : Nat) : Int) := by rw [e7, p_up_c _ _ _ _ _ (by decide), p_up_c _ _ _ _ _ (by decide)]; exact il
        rw [if_pos y2, if_pos rfl, p_idx (by omega) (by omega), Int.toNat_natCast, q4, il7, D_17_29, p_w (x := ((IS.length + I.length : Nat) : Int) - (IS.length : Int)) (by omega) (by omega), N7.2.1, if_neg (c := V r ∈ (ps.map (·.1)).map V ∨ V r ∈ I.map V) (by rintro (y | y); exact m1 y; exact m2 y)]
        by_cases c100 : I.length < 100
        · rw [if_pos c100, if_pos (show ((IS.length + I.length : Nat) : Int) - (IS.length : Int) < 100 by omega)]
          have nofault : h7 254 11 = 0 := N7.2.2.2.1
          rw [p_xV, nofault, if_neg (by decide), il7, p_idx (by omega) (by omega), Int.toNat_natCast, N7.2.1, p_w (x := ((IS.length + I.length : Nat) : Int) + 1) (by omega) (by omega)]
          obtain ⟨h8, e8⟩ : ∃ h8, h8 = am_up (am_up h7 346 (IS.length + I.length) (r : Int)) 254 144 (((IS.length + I.length : Nat) : Int) + 1) := ⟨_, rfl⟩
          have R8 : fR V (CS ++ [(tok, PS.length, tf, IS.length)], PS ++ ps, TS, LS, IS ++ (I ++ [r])) h8 := by
            have := R7.inn (t := r) (by dsimp only; rw [List.length_append]; omega)
            dsimp only at this
            rw [List.length_append, List.append_assoc] at this
            rw [e8]; exact this
          have N8 : mcN K V P W Z r g h8 := by rw [e8]; exact (N7.up (Or.inl rfl) (by omega)).up (Or.inr rfl) (by omega)
          rw [← e8]
          have af := after (u2 := some (am_i (CS.length : Int))) N8 R8 (fun c k y1 y2 => by rw [e8, p_up_c _ _ _ _ _ (by omega), p_up_c _ _ _ _ _ (by omega)]; exact P7 c k y1 y2) (fun t ht => by
            rcases List.mem_append.1 ht with y | y
            · exact hI t y
            · rw [List.mem_singleton] at y; subst y; exact ⟨N7.2.2.1, k2⟩) (by rw [List.length_append, List.length_singleton]; omega) (by rw [List.length_append, List.length_singleton]; omega)
          cases hq : c_rng K V (r + 1) with
          | inl e => rw [hq] at af; exact af
          | inr q' => rw [hq] at af; exact af
        · rw [if_neg c100, if_neg (show ¬ ((IS.length + I.length : Nat) : Int) - (IS.length : Int) < 100 by omega)]
          obtain ⟨h', r8, b8, -⟩ := mx_wrong (d := d + 2) (L := L) N7 R7.lim 2 (by decide) N7.2.2.1
          rw [r8, p_xV]
          refine ⟨h', ?_, b8⟩
          rw [p_xV, if_pos (fault b8)]
      · rw [if_neg k2, if_neg (fun y => k2 (kr.2.1.1 y))]
        obtain ⟨h', r7, b7, f7⟩ := mx_syntax (d := d + 2) (L := L) N6 R6.lim
        have e7 : h' 254 134 = (LS.length : Int) := by rw [f7 254 134 rfl rfl]; exact e134 R6
        refine ⟨_, by rw [r7, p_xV, e7, p_w (by omega) (by omega)], b7.up (Or.inr rfl) ?_⟩
        omega
  · obtain ⟨h', r1, b1, -⟩ := mx_syntax (d := d + 1) (L := L) N B
    rw [if_neg c1, if_neg (fun y => c1 (kk.2.1.1 y)), r1, p_xV]
    have y := fault b1
    rw [if_neg (by omega)]
    refine ⟨h', ?_, b1⟩
    rw [p_xI, if_pos y]
end
