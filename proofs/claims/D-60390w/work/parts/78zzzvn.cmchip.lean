/-! CHIPS, 14: the model's parts, pins, chips -/
def flt : Nat → List (Nat × List cLk) → List (Nat × Nat)
  | _, [] => []
  | n, q :: l => (q.1, n) :: flt (n + q.2.length) l
def fll (l : List (Nat × List cLk)) : List cLk := l.flatMap (·.2)
theorem flt_app : ∀ (l : List (Nat × List cLk)) (n : Nat) (q : Nat × List cLk), flt n (l ++ [q]) = flt n l ++ [(q.1, n + (fll l).length)]
  | [], n, q => rfl
  | p :: l, n, q => by
    show (p.1, n) :: flt (n + p.2.length) (l ++ [q]) = (p.1, n) :: (flt (n + p.2.length) l ++ _)
    rw [flt_app l, show (fll (p :: l)).length = p.2.length + (fll l).length by unfold fll; rw [List.flatMap_cons, List.length_append], Nat.add_assoc]
theorem flt_len : ∀ (l : List (Nat × List cLk)) (n : Nat), (flt n l).length = l.length
  | [], _ => rfl
  | p :: l, n => by
    show (flt (n + p.2.length) l).length + 1 = l.length + 1
    rw [flt_len l]
theorem fll_app (l : List (Nat × List cLk)) (q : Nat × List cLk) : fll (l ++ [q]) = fll l ++ q.2 := by unfold fll; simp
section
variable {d L : Nat} {K V P : Nat → Int} {W : Nat → List Int} {Z i : Nat} {g h : am_H}
theorem mcB.pos {e : cF} {h' : am_H} (Be : mcB P g e h') : 0 < h' 254 11 := by obtain ⟨-, ⟨y1, y2⟩, -⟩ := Be; omega
theorem c_lks_acc (K V : Nat → Int) (Pn : List Nat) : ∀ (m : Nat) {I : List Nat} {i : Nat} {acc : List cLk} {w : List cLk × List Nat × Nat}, c_lks K V Pn m I i acc = .inr w → ∃ l, w.1 = acc ++ l
  | 0, _, _, _, _, h => by cases h
  | m + 1, I, i, acc, w, h => by
    unfold c_lks at h
    split at h
    · cases h
    · split at h
      · obtain ⟨l, hl⟩ := c_lks_acc K V Pn m h
        exact ⟨_, by rw [hl, List.append_assoc]⟩
      · cases h; exact ⟨_, rfl⟩
theorem mx_links {CS : List (Nat × Nat × Nat × Nat)} {tok tf : Nat} {PS ps : List (Nat × Int × Bool)} {TS : List (Nat × Nat)} {LS : List cLk} {IS : List Nat} : ∀ (m : Nat) {i : Nat} {I : List Nat} {acc : List cLk} {h : am_H}, mcI K V P W Z i g CS tok PS ps TS tf (LS ++ acc) IS I h → 4 * (LS ++ acc).length ≤ i → Z < i + m → match c_cls K V (c_lks K V (ps.map (·.1)) m I i acc) with
      | .inl e => ∃ h', am_E (am_D (d + 5)) m_17_154 (.inl 3) [some (am_r (am_a 254)), some (am_i 1)] [] (zS L, h) = pV L h' ∧ mcB P g e h'
      | .inr w => ∃ h1, am_E (am_D (d + 5)) m_17_154 (.inl 3) [some (am_r (am_a 254)), some (am_i 1)] [] (zS L, h) = pV L h1 ∧ mcI K V P W Z w.2.2 g CS tok PS ps TS tf (LS ++ w.1) IS w.2.1 h1
  | 0, i, I, acc, h, S, h4, hm => by have := S.1.2.2.1; omega
  | m + 1, i, I, acc, h, S, h4, hm => by
    rw [q_17_154_3, if_neg (by decide), S.1.2.2.2.1, if_pos rfl]
    have ml := mx_link (d := d) (L := L) S h4
    have rl := c_lnk_rg (V := V) S.1.1.1 (P := ps.map (·.1)) (I := I) S.1.2.2.1
    unfold c_lks
    cases hl : c_lnk K V (ps.map (·.1)) I i with
    | inl e =>
      rw [hl] at ml
      obtain ⟨h', r1, b1⟩ := ml
      obtain ⟨v, hv⟩ := mz_isSign (d := d + 4) (L := L) b1 44
      refine ⟨h', ?_, b1⟩
      have fin : ∀ x : Int, am_E (am_D (d + 5)) m_17_154 (.inl 3) [some (am_r (am_a 254)), some (am_i x)] [] (zS L, h') = pV L h' := fun x => by
        rw [q_17_154_3]
        by_cases y : x = 0
        · rw [if_pos y, mz_needSign (d := d + 2) b1, p_xV, mz_needSign (d := d + 2) b1, p_xV]
        · rw [if_neg y, if_neg (by have := b1.pos; omega), mz_needSign (d := d + 2) b1, p_xV, mz_needSign (d := d + 2) b1, p_xV]
      rw [r1, p_xV, hv, p_xI]
      by_cases y : v = 0
      · rw [if_pos y]; exact fin _
      · rw [if_neg y, mz_go b1, p_xV]; exact fin _
    | inr w =>
      rw [hl] at ml rl
      dsimp only at ml rl ⊢
      obtain ⟨h1, r1, S1, j3⟩ := ml
      rw [List.append_assoc] at S1
      rw [r1, p_xV, mx_isSign (d := d + 4) S1.1 44 (by decide) (by decide), p_xI]
      by_cases c : cSg K V 44 w.1.2.2.2.2
      · rw [if_pos c, pB_t c, if_neg (show ¬ (1 : Int) = 0 by decide)]
        obtain ⟨r2, N2⟩ := mx_go (d := d + 4) (L := L) S1.1 (by rw [c.1]; omega)
        rw [r2, p_xV]
        obtain ⟨-, R1, s3, s4, s5, s6, s7, s8⟩ := S1
        have S2 : mcI K V P W Z (w.1.2.2.2.2 + 1) g CS tok PS ps TS tf (LS ++ (acc ++ [w.1])) IS w.2 (am_up h1 254 10 ((w.1.2.2.2.2 + 1 : Nat) : Int)) := ⟨N2, R1.fr ((p_fr.refl h1).upf _ _ _ rfl), s3, s4, s5, s6, by omega, s8⟩
        exact mx_links m S2 s7 (by omega)
      · rw [if_neg c, pB_f c, if_pos rfl, q_17_154_3, if_pos rfl]
        show match (if cSg K V 41 w.1.2.2.2.2 then (if cSg K V 59 (w.1.2.2.2.2 + 1) then .inr (acc ++ [w.1], w.2, w.1.2.2.2.2 + 2) else .inl (csx K (w.1.2.2.2.2 + 1))) else .inl (csx K w.1.2.2.2.2) : cF ⊕ (List cLk × List Nat × Nat)) with
          | .inl e => _
          | .inr w => _
        obtain ⟨N1, R1, s3, s4, s5, s6, s7, s8⟩ := S1
        rcases mx_needSign (d := d + 2) (L := L) N1 R1.lim 41 (by decide) (by decide) with ⟨z, h', r2, b2, -⟩ | ⟨z, r2, N2⟩
        · rw [if_neg z]
          exact ⟨h', by rw [r2, p_xV, mz_needSign (d := d + 2) b2, p_xV], b2⟩
        · rw [if_pos z, r2, p_xV]
          have R2 := R1.fr (h' := am_up h1 254 10 ((w.1.2.2.2.2 + 1 : Nat) : Int)) ((p_fr.refl h1).upf _ _ _ rfl)
          rcases mx_needSign (d := d + 2) (L := L) N2 R2.lim 59 (by decide) (by decide) with ⟨y, h', r3, b3, -⟩ | ⟨y, r3, N3⟩
          · rw [if_neg y]
            exact ⟨h', by rw [r3, p_xV], b3⟩
          · rw [if_pos y]
            refine ⟨_, by rw [r3, p_xV], N3, R2.fr ((p_fr.refl _).upf _ _ _ rfl), s3, s4, s5, s6, by dsimp only; omega, s8⟩
/-- one more part -/
theorem fR.prt {F : fM} {t : Nat} (R : fR V F h) (hb : F.2.2.1.length < 384) : fR V (F.1, F.2.1, F.2.2.1 ++ [(t, F.2.2.2.1.length)], F.2.2.2.1, F.2.2.2.2) (am_up (am_up (am_up h 335 F.2.2.1.length (t : Int)) 336 F.2.2.1.length (F.2.2.2.1.length : Int)) 254 131 ((F.2.2.1.length : Int) + 1)) := by
  obtain ⟨⟨a, b, c, d, e⟩, r1, r2, r3, r4, r5⟩ := R
  obtain ⟨H, hH⟩ : ∃ H, H = am_up (am_up (am_up h 335 F.2.2.1.length (t : Int)) 336 F.2.2.1.length (F.2.2.2.1.length : Int)) 254 131 ((F.2.2.1.length : Int) + 1) := ⟨_, rfl⟩
  rw [← hH]
  have nc : ∀ c', c' ≠ 254 → c' ≠ 335 → c' ≠ 336 → H c' = h c' := fun c' z1 z2 z3 => by rw [hH, p_up_c _ _ _ _ _ z1, p_up_c _ _ _ _ _ z3, p_up_c _ _ _ _ _ z2]
  have n254 : ∀ j, j ≠ 131 → H 254 j = h 254 j := fun j hj => by rw [hH, p_up_n _ _ _ _ _ _ (Or.inr hj), p_up_c _ _ _ _ _ (by decide), p_up_c _ _ _ _ _ (by decide)]
  refine ⟨⟨?_, ?_, ⟨?_, ?_⟩, ?_, ?_⟩, ?_, ?_, fun k x hx => ?_, ?_, ?_⟩
  · rw [n254 _ (by decide)]; exact a
  · rw [n254 _ (by decide)]; exact b
  · rw [hH, p_up_s]; dsimp only; rw [List.length_append, List.length_singleton]; omega
  · dsimp only; rw [List.length_append, List.length_singleton]; omega
  · rw [n254 _ (by decide)]; exact d
  · rw [n254 _ (by decide)]; exact e
  · rw [nc 328 (by decide) (by decide) (by decide), nc 329 (by decide) (by decide) (by decide), nc 334 (by decide) (by decide) (by decide), nc 345 (by decide) (by decide) (by decide)]; exact r1
  · rw [nc 331 (by decide) (by decide) (by decide), nc 333 (by decide) (by decide) (by decide), nc 330 (by decide) (by decide) (by decide), nc 332 (by decide) (by decide) (by decide)]; exact r2
  · dsimp only at hx
    by_cases y : k < F.2.2.1.length
    · rw [List.getElem?_append_left y] at hx
      rw [hH, p_up_c _ _ _ _ _ (by decide), p_up_c _ _ _ _ _ (by decide), p_up_n _ _ _ _ _ _ (Or.inr (by omega)), p_up_c _ _ _ _ _ (by decide), p_up_n _ _ _ _ _ _ (Or.inr (by omega)), p_up_c _ _ _ _ _ (by decide)]
      exact r3 k x hx
    · have : k = F.2.2.1.length := by
        have := (List.getElem?_eq_some_iff.1 hx).1
        rw [List.length_append, List.length_singleton] at this; omega
      subst this
      rw [List.getElem?_append_right (Nat.le_refl _), Nat.sub_self] at hx
      cases hx
      refine ⟨?_, ?_⟩
      · rw [hH, p_up_c _ _ _ _ _ (by decide), p_up_c _ _ _ _ _ (by decide), p_up_s]
      · rw [hH, p_up_c _ _ _ _ _ (by decide), p_up_s]
  · unfold fRl
    rw [nc 337 (by decide) (by decide) (by decide), nc 338 (by decide) (by decide) (by decide), nc 339 (by decide) (by decide) (by decide), nc 340 (by decide) (by decide) (by decide), nc 341 (by decide) (by decide) (by decide), nc 342 (by decide) (by decide) (by decide), nc 343 (by decide) (by decide) (by decide), nc 344 (by decide) (by decide) (by decide)]
    exact r4
  · rw [nc 346 (by decide) (by decide) (by decide)]; exact r5
/-- room, at a token -/
theorem mx_room (N : mcN K V P W Z i g h) (B : mcL h) (x y : Int) : (x < y ∧ am_D (d + 2) 17 29 [am_r (am_a 254), am_i x, am_i y, am_i (i : Int)] (zS L, h) = pV L h) ∨ (¬ x < y ∧ ∃ h', am_D (d + 2) 17 29 [am_r (am_a 254), am_i x, am_i y, am_i (i : Int)] (zS L, h) = pV L h' ∧ mcB P g (2, i) h') := by
  rw [D_17_29]
  by_cases c : x < y
  · exact Or.inl ⟨c, by rw [if_pos c]⟩
  · obtain ⟨h', r1, b1, -⟩ := mx_wrong (d := d) (L := L) N B 2 (by decide) N.2.2.1
    exact Or.inr ⟨c, h', by rw [if_neg c, r1, p_xV], b1⟩
/-- within a chip: its parts as the model has them -/
def mcJ (K V P : Nat → Int) (W : Nat → List Int) (Z i : Nat) (g : am_H) (F : fM) (tok : Nat) (ps : List (Nat × Int × Bool)) (pp : List (Nat × List cLk)) (I : List Nat) (h : am_H) : Prop := mcI K V P W Z i g F.1 tok F.2.1 ps (F.2.2.1 ++ flt F.2.2.2.1.length pp) F.2.2.1.length (F.2.2.2.1 ++ fll pp) F.2.2.2.2 I h ∧ pp.length ≤ 24 ∧ F.2.2.1.length ≤ 24 * F.1.length
theorem mx_part {F : fM} {tok m : Nat} {ps : List (Nat × Int × Bool)} {pp : List (Nat × List cLk)} {I : List Nat} (S : mcJ K V P W Z i g F tok ps pp I h) (n : Nat) (hm : Z < i + m) : match c_prt K V m (tok, ps.map (fun p => (p.1, p.2.1)), n, pp, I) i with
      | .inl e => ∃ h', am_D (d + 6) 17 154 [am_r (am_a 254)] (zS L, h) = pV L h' ∧ mcB P g e h'
      | .inr w => ∃ h1, am_D (d + 6) 17 154 [am_r (am_a 254)] (zS L, h) = pV L h1 ∧ mcJ K V P W Z w.2 g F tok ps w.1.2.2.2.1 w.1.2.2.2.2 h1 ∧ w.1.1 = tok ∧ w.1.2.1 = ps.map (fun p => (p.1, p.2.1)) ∧ w.1.2.2.1 = n := by
  obtain ⟨⟨N, R, hps, hI, l12, l100, hLS, hIS⟩, p24, t24⟩ := S
  have ub := N.ub
  have z2 := N.1.1.1
  obtain ⟨a1, a2, a3, a4, a5⟩ := N.1.2.1 i N.2.2.1
  have kk := kmp_i a5
  have cl : h 254 122 = ((F.1.length + 1 : Nat) : Int) := by have := R.1.1.1; dsimp only at this; rw [List.length_append, List.length_singleton] at this; exact this
  have cl16 : F.1.length + 1 ≤ 16 := by have := R.1.1.2; dsimp only at this; rw [List.length_append, List.length_singleton] at this; exact this
  have tl : h 254 131 = ((F.2.2.1.length + pp.length : Nat) : Int) := by have := R.1.2.2.1.1; dsimp only at this; rw [List.length_append, flt_len] at this; exact this
  have ll : h 254 134 = ((F.2.2.2.1 ++ fll pp).length : Int) := R.1.2.2.2.1.1
  have last : (F.1 ++ [(tok, F.2.1.length, F.2.2.1.length, F.2.2.2.2.length)])[F.1.length]? = some (tok, F.2.1.length, F.2.2.1.length, F.2.2.2.2.length) := by rw [List.getElem?_append_right (Nat.le_refl _), Nat.sub_self]; rfl
  obtain ⟨q1, q2, q3, q4⟩ := R.2.1 F.1.length _ last
  rw [c_prt_e, D_17_154, N.2.1, p_idx (by omega) (by omega), Int.toNat_natCast, a1]
  dsimp only
  rw [show (ps.map (fun p => (p.1, p.2.1))).map (·.1) = ps.map (·.1) by rw [List.map_map]; rfl]
  by_cases c1 : K i = 2
  · rw [if_pos c1, if_pos (kk.2.1.2 c1), cl, p_w (x := ((F.1.length + 1 : Nat) : Int) - 1) (by omega) (by omega), p_idx (by omega) (by omega), show (((F.1.length + 1 : Nat) : Int) - 1).toNat = F.1.length by omega, q3, tl]
    dsimp only
    rw [p_w (x := ((F.2.2.1.length + pp.length : Nat) : Int) - (F.2.2.1.length : Int)) (by omega) (by omega)]
    rcases mx_room (d := d + 3) (L := L) N R.lim (((F.2.2.1.length + pp.length : Nat) : Int) - (F.2.2.1.length : Int)) 24 with ⟨y, r1⟩ | ⟨y, h', r1, b1⟩
    · rw [if_pos (show pp.length < 24 by omega), r1, p_xV, N.2.2.2.1, if_neg (show ¬ (0 : Int) < 0 by decide), tl, p_idx (by omega) (by omega), p_idx (by omega) (by omega), Int.toNat_natCast, N.2.1, ll, p_w (x := ((F.2.2.1.length + pp.length : Nat) : Int) + 1) (by omega) (by omega)]
      have R0 := R.prt (t := i) (by dsimp only; rw [List.length_append, flt_len]; omega)
      dsimp only at R0
      rw [show (F.2.2.1 ++ flt F.2.2.2.1.length pp).length = F.2.2.1.length + pp.length by rw [List.length_append, flt_len]] at R0
      obtain ⟨h1, e1⟩ : ∃ h1, h1 = am_up (am_up (am_up h 335 (F.2.2.1.length + pp.length) (i : Int)) 336 (F.2.2.1.length + pp.length) ((F.2.2.2.1 ++ fll pp).length : Int)) 254 131 (((F.2.2.1.length + pp.length : Nat) : Int) + 1) := ⟨_, rfl⟩
      rw [← e1] at R0 ⊢
      have N1 : mcN K V P W Z i g h1 := by rw [e1]; exact ((N.up (Or.inl rfl) (by omega)).up (Or.inl rfl) (by omega)).up (Or.inr rfl) (by omega)
      obtain ⟨r2, N2⟩ := mx_go (d := d + 4) (L := L) N1 (by rw [c1]; omega)
      have R2 := R0.fr (h' := am_up h1 254 10 ((i + 1 : Nat) : Int)) ((p_fr.refl h1).upf _ _ _ rfl)
      rw [r2, p_xV]
      rcases mx_needSign (d := d + 2) (L := L) N2 R2.lim 40 (by decide) (by decide) with ⟨z, h', r3, b3, -⟩ | ⟨z, r3, N3⟩
      · rw [if_neg z]
        refine ⟨h', ?_, b3⟩
        rw [r3, p_xV, q_17_154_3, if_neg (by decide), if_neg (by have := b3.pos; omega), mz_needSign (d := d + 2) b3, p_xV, mz_needSign (d := d + 2) b3, p_xV]
      · rw [if_pos z, r3, p_xV]
        have S3 : mcI K V P W Z (i + 2) g F.1 tok F.2.1 ps (F.2.2.1 ++ flt F.2.2.2.1.length pp ++ [(i, (F.2.2.2.1 ++ fll pp).length)]) F.2.2.1.length (F.2.2.2.1 ++ fll pp ++ []) F.2.2.2.2 I (am_up (am_up h1 254 10 ((i + 1 : Nat) : Int)) 254 10 ((i + 1 + 1 : Nat) : Int)) := by
          rw [List.append_nil]
          exact ⟨N3, R2.fr ((p_fr.refl _).upf _ _ _ rfl), hps, hI, l12, l100, by omega, hIS⟩
        have ml := mx_links (d := d) (L := L) m S3 (by rw [List.append_nil]; omega) (by omega)
        cases hc : c_cls K V (c_lks K V (ps.map (·.1)) m I (i + 2) []) with
        | inl e => rw [hc] at ml; exact ml
        | inr w =>
          rw [hc] at ml
          dsimp only at ml ⊢
          obtain ⟨h4, r4, S4⟩ := ml
          refine ⟨h4, r4, ⟨?_, by rw [List.length_append, List.length_singleton]; omega, t24⟩, rfl, rfl, rfl⟩
          rw [flt_app, fll_app, ← List.append_assoc, ← List.append_assoc, ← List.length_append]
          exact S4
    · rw [if_neg (show ¬ pp.length < 24 by omega)]
      exact ⟨h', by rw [r1, p_xV, if_pos b1.pos], b1⟩
  · obtain ⟨h', r1, b1, -⟩ := mx_syntax (d := d + 3) (L := L) N R.lim
    rw [if_neg c1, if_neg (fun y => c1 (kk.2.1.1 y))]
    exact ⟨h', by rw [r1, p_xV], b1⟩
end
