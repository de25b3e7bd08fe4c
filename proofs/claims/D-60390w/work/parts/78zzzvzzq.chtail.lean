/-! CHIPS, 69: chips(): the board at its end, each side -/
theorem pI_inx {L : Nat} {a b : Int} {h h' : am_H} (e : pI L a h = pI L b h') : a = b ∧ h = h' := by
  have s1 := Prod.mk.inj (Option.some.inj e)
  refine ⟨?_, (Prod.mk.inj s1.2).2⟩
  have s2 := Option.some.inj (Sum.inl.inj s1.1)
  injection s2
theorem pV_inx {L : Nat} {h h' : am_H} (e : pV L h = pV L h') : h = h' := (Prod.mk.inj (Prod.mk.inj (Option.some.inj e)).2).2
section
variable {d e L : Nat} {h : am_H}
/-- all values low -/
theorem mj_z {Bt : Nat} (hB : Bt ≤ 40000) (u1 : Option am_V) : ∀ (m j : Nat) {h : am_H}, j + m = Bt → h 254 158 = (Bt : Int) → (∀ x, x < j → h 363 x = 0) → ∃ h', am_E (am_D d) m_17_183 (.inl 12) [some (am_r (am_a 254)), u1, some (am_i (j : Int))] [] (zS L, h) = (am_xV (zS L) (am_D d 17 182 [am_r (am_a 254)] (zS L, h')) (am_up1 (zS L)) fun h1 => pI L 0 h1) ∧ (∀ x, x < Bt → h' 363 x = 0) ∧ p_fr [363] [] h h'
  | 0, j, h, hm, e, z => by
    rw [q_17_183_12, e, if_neg (by omega)]
    exact ⟨h, rfl, fun x hx => z x (by omega), p_fr.refl h⟩
  | m + 1, j, h, hm, e, z => by
    obtain ⟨h', r, a, f⟩ := mj_z hB u1 m (j + 1) (h := am_up h 363 j 0) (by omega) (by rw [p_up_n _ _ _ _ _ _ (Or.inl (by decide))]; exact e) (fun x hx => by
      by_cases ex : x = j
      · rw [ex, p_up_s]
      · rw [p_up_n _ _ _ _ _ _ (Or.inr ex)]; exact z x (by omega))
    refine ⟨h', ?_, a, ((p_fr.refl h).upc _ _ _ rfl).trans f⟩
    rw [q_17_183_12, e, if_pos (by omega), p_idx (by omega) (by omega), Int.toNat_natCast, p_w (by omega) (by omega), show (j : Int) + 1 = ((j + 1 : Nat) : Int) by omega, r]
/-- the model: sources, order, values -/
theorem mj_b {G Bt n : Nat} {F Gb Q I : Nat → Int} {sa sb : Nat → Int} {oM : Nat → Nat} (hB : Bt ≤ 40000) (H : mGt G F Gb Q I sa sb) (hF : h 355 = F) (hG : h 356 = Gb) (hQ : h 357 = Q) (hI : h 358 = I) (e158 : h 254 158 = (Bt : Int)) (e161 : h 254 161 = (G : Int)) (e69 : h 254 69 = 0) (e3 : h 254 3 = (n : Int)) (hi : ∀ i, i < G → (inp G Gb (sa i) ∧ inp G Gb (sb i)) ∧ sa i < (Bt : Int) ∧ sb i < (Bt : Int)) (ho : ∀ i, i < G → Q i = 0 → I i + 2 = (oM i : Int) ∧ oM i < Bt) (u1 u3 u4 u5 u6 : Option am_V) : ∃ ord lev, OD G (fun i => Q i = 0) (fun i => mOf Gb Q (sa i)) (fun i => mOf Gb Q (sb i)) ord lev ∧ CLO G (fun i => Q i = 0) (fun i => mOf Gb Q (sa i)) (fun i => mOf Gb Q (sb i)) lev ∧
    ((ord.length = cz Q G ∧ ∃ h2 M, (am_xV (zS L) (am_E (am_D (e + 7)) m_17_177 (.inl 8) [some (am_r (am_a 254)), u1, some (am_i 0), u3, u4, u5, u6] [] (zS L, h)) (am_up1 (zS L)) fun h6 => am_E (am_D (e + 8)) m_17_183 (.inl 8) [some (am_r (am_a 254)), some (am_i (n : Int)), some (am_i 1)] [] (zS L, h6)) = pI L 0 h2 ∧ (∀ x, x < Bt → M x = 0) ∧ h2 363 = stl oM (fN sa sb) ord M ∧ (∀ j, j < G → h2 361 j = sa j ∧ h2 362 j = sb j ∧ h2 359 j = lev j) ∧ (h2 254 166 = (ord.length : Int) ∧ ∀ (t i : Nat), ord[t]? = some i → h2 360 t = (i : Int)) ∧ (h2 254 4 = -1 ∧ h2 254 152 = 1 ∧ h2 254 173 = 0) ∧ p_fr [359, 360, 361, 362, 363] [(254, 4), (254, 152), (254, 166), (254, 173)] h h2)
    ∨ (ord.length ≠ cz Q G ∧ ∃ h2, (am_xV (zS L) (am_E (am_D (e + 7)) m_17_177 (.inl 8) [some (am_r (am_a 254)), u1, some (am_i 0), u3, u4, u5, u6] [] (zS L, h)) (am_up1 (zS L)) fun h6 => am_E (am_D (e + 8)) m_17_183 (.inl 8) [some (am_r (am_a 254)), some (am_i (n : Int)), some (am_i 1)] [] (zS L, h6)) = pI L 6 h2 ∧ h2 254 4 = (n : Int) ∧ p_fr [359, 360, 361, 362] [(254, 4), (254, 69), (254, 70), (254, 166)] h h2)) := by
  have hG15 := H.1
  obtain ⟨h1, r1, a1, f1⟩ := ms_8 (d := e + 6) (L := L) (h := h) H hF hG hQ hI e161 u1 u3 u4 u5 u6 G 0 (h1 := h) (by omega) (fun x hx => absurd hx (Nat.not_lt_zero _)) (p_fr.refl h)
  have r1' : am_E (am_D (e + 7)) m_17_177 (.inl 8) [some (am_r (am_a 254)), u1, some (am_i 0), u3, u4, u5, u6] [] (zS L, h) = pV L h1 := r1
  have hG1 : h1 356 = Gb := by rw [f1.cell 356 rfl rfl]; exact hG
  have hQ1 : h1 357 = Q := by rw [f1.cell 357 rfl rfl]; exact hQ
  obtain ⟨h2, ord, lev, r2, O2, C2, b2, l2, f2⟩ := mo_order (d := e + 6) (L := L) (h := h1) hG15 (by rw [f1 254 161 rfl rfl]; exact e161) (sa := sa) (sb := sb) (fun i hi' => ⟨a1 i hi', by rw [hG1]; exact (hi i hi').1⟩)
  rw [hG1, hQ1] at O2 C2
  rw [hQ1] at r2
  have r2' : am_D (e + 8) 17 180 [am_r (am_a 254)] (zS L, h1) = pI L (if ord.length = cz Q G then 1 else 0) h2 := r2
  have ol := O2.len
  refine ⟨ord, lev, O2, C2, ?_⟩
  rw [r1', p_xV, q_17_183_8, if_neg (by decide), r2', p_xI]
  have f12 : p_fr [359, 360, 361, 362] [(254, 166)] h h2 := (f1.mono rfl rfl).trans (f2.mono rfl rfl)
  by_cases c : ord.length = cz Q G
  · left
    refine ⟨c, ?_⟩
    rw [if_pos c, if_neg (by decide), q_17_183_10, if_neg (by rw [f12 254 69 rfl rfl]; omega), p_bit1]
    obtain ⟨h3, e3'⟩ : ∃ h3, h3 = am_up (am_up (am_up (am_up h2 254 4 (h2 254 70)) 254 4 (-1)) 254 152 1) 254 173 0 := ⟨_, rfl⟩
    have f3 : p_fr [] [(254, 4), (254, 152), (254, 173)] h2 h3 := by rw [e3']; exact ((((p_fr.refl h2).upf _ _ _ rfl).upf _ _ _ rfl).upf _ _ _ rfl).upf _ _ _ rfl
    rw [← e3']
    obtain ⟨h4, r4, z4, f4⟩ := mj_z (d := e + 8) (L := L) hB (some (am_i (n : Int))) Bt 0 (h := h3) (by omega) (by rw [f3 254 158 rfl rfl, f12 254 158 rfl rfl]; exact e158) (fun x hx => absurd hx (Nat.not_lt_zero _))
    have r4' : am_E (am_D (e + 8)) m_17_183 (.inl 12) [some (am_r (am_a 254)), some (am_i (n : Int)), some (am_i 0)] [] (zS L, h3) = _ := r4
    have f24 : p_fr [363] [(254, 4), (254, 152), (254, 173)] h2 h4 := (f3.mono rfl rfl).trans (f4.mono rfl rfl)
    have f14 : p_fr [359, 360, 363] [(254, 4), (254, 152), (254, 166), (254, 173)] h1 h4 := (f2.mono rfl rfl).trans (f24.mono rfl rfl)
    have f04 : p_fr [359, 360, 361, 362, 363] [(254, 4), (254, 152), (254, 166), (254, 173)] h h4 := (f12.mono rfl rfl).trans (f24.mono rfl rfl)
    obtain ⟨h5, r5, s5, f5⟩ := ms_settle (d := e + 6) (L := L) (h := h4) (sa := sa) (sb := sb) (oM := oM) hB (ord := ord) (fun i hi' => by
      have ig := (O2.2.1 i hi').1
      have iq : Q i = 0 := (O2.2.1 i hi').2
      rw [f14.cell 361 rfl rfl, f14.cell 362 rfl rfl, f04.cell 358 rfl rfl, hI]
      exact ⟨by omega, ⟨(a1 i ig).1, (hi i ig).2.1⟩, ⟨(a1 i ig).2, (hi i ig).2.2⟩, ho i ig iq⟩) (by rw [f24 254 166 rfl rfl]; exact b2.1) (fun t i ht => by rw [f24.cell 360 rfl rfl]; exact b2.2 t i ht) (by omega) (fun x hx => Or.inl (z4 x hx))
    have r5' : am_D (e + 8) 17 182 [am_r (am_a 254)] (zS L, h4) = pV L h5 := r5
    have f15 : p_fr [359, 360, 363] [(254, 4), (254, 152), (254, 166), (254, 173)] h1 h5 := f14.trans (f5.mono rfl rfl)
    have f25 : p_fr [363] [(254, 4), (254, 152), (254, 173)] h2 h5 := f24.trans (f5.mono rfl rfl)
    have f35 : p_fr [363] [] h3 h5 := f4.trans f5
    refine ⟨h5, h4 363, by rw [r4', r5', p_xV], z4, s5, fun j hj => ⟨?_, ?_, ?_⟩, ⟨?_, fun t i ht => ?_⟩, ⟨?_, ?_, ?_⟩, f04.trans (f5.mono rfl rfl)⟩
    · rw [f15.cell 361 rfl rfl]; exact (a1 j hj).1
    · rw [f15.cell 362 rfl rfl]; exact (a1 j hj).2
    · rw [f25.cell 359 rfl rfl]; exact l2 j hj
    · rw [f25 254 166 rfl rfl]; exact b2.1
    · rw [f25.cell 360 rfl rfl]; exact b2.2 t i ht
    · rw [f35 254 4 rfl rfl, e3']; simp [p_up]
    · rw [f35 254 152 rfl rfl, e3']; simp [p_up]
    · rw [f35 254 173 rfl rfl, e3']; simp [p_up]
  · right
    refine ⟨c, ?_⟩
    rw [if_neg c, if_pos rfl]
    obtain ⟨h3, e3'⟩ : ∃ h3, h3 = am_up (am_up h2 254 69 6) 254 70 (h2 254 3) := ⟨_, rfl⟩
    have f3 : p_fr [] [(254, 69), (254, 70)] h2 h3 := by rw [e3']; exact ((p_fr.refl h2).upf _ _ _ rfl).upf _ _ _ rfl
    rw [← e3', q_17_183_10]
    have e693 : h3 254 69 = 6 := by rw [e3']; simp [p_up]
    have e703 : h3 254 70 = (n : Int) := by rw [e3', p_up_s, f12 254 3 rfl rfl]; exact e3
    rw [e693, if_pos (by decide), e703]
    refine ⟨am_up h3 254 4 (n : Int), rfl, p_up_s _ _ _ _, ?_⟩
    exact ((f12.mono rfl rfl).trans (f3.mono rfl rfl)).upf _ _ _ rfl
end
section
variable {d L : Nat} {K V P : Nat → Int} {Z : Nat} {chs : List cCh} {ch : cCh} {c : Nat} {h : am_H}
/-- the component: order, values -/
theorem cj_b (Y : kY K V Z chs) (E : kEx K V Z) (T : ∀ ch ∈ chs, cht K V Z ch) (LK : kL K V chs) (hin : ∀ ch ∈ chs, ch.2.2.1 < ch.2.1.length) (hcn : c + 1 = chs.length) (hc : chs[c]? = some ch) (S : kZ K V P Z chs h) (hs : gAll V chs c ≤ 1500 ∧ bAll K V chs c ≤ 40000) (EX : ∀ (S A B O D : Nat → Int), CN K V chs S A B O D 16 c 2 0 → S 0 = 0 → S 1 = 1 → (∀ x, x < inb V ch → S (2 + x) = ((2 + x : Nat) : Int)) → ∃ o ra rb, cGt (gAll V chs c) (2 + bAll K V chs c) S A B O D o ra rb) :
    ∃ n1 v n3, NET K V P Z chs ch c n1 ∧ p_fr mkC mkF h n1 ∧ am_D (d + 22) 2 3 [am_r (am_a 195)] (zS L, h) = pI L v n3 ∧ (v = 0 ∨ v = 1) ∧ p_fr [197, 198, 199, 202, 203, 204, 205] [(195, 15), (195, 16)] n1 n3 ∧ ∀ (o ra rb : Nat → Nat), cGt (gAll V chs c) (2 + bAll K V chs c) (n1 196) (n1 198) (n1 199) (n1 200) (n1 201) o ra rb → ∃ ord lev, OD (gAll V chs c) (fun i => n1 201 i = 0) (fun i => pOf (gAll V chs c) (fun i => n1 201 i = 0) o (ra i)) (fun i => pOf (gAll V chs c) (fun i => n1 201 i = 0) o (rb i)) ord lev ∧ CLO (gAll V chs c) (fun i => n1 201 i = 0) (fun i => pOf (gAll V chs c) (fun i => n1 201 i = 0) o (ra i)) (fun i => pOf (gAll V chs c) (fun i => n1 201 i = 0) o (rb i)) lev ∧ (v = 1 ↔ ord.length = cz (n1 201) (gAll V chs c)) ∧ (v = 1 → (n3 195 15 = (ord.length : Int) ∧ ∀ (t i : Nat), ord[t]? = some i → n3 203 t = (i : Int)) ∧ (∀ i, i < gAll V chs c → n3 198 i = (ra i : Int) ∧ n3 199 i = (rb i : Int)) ∧ MXL ord lev (n3 195 16) ∧ n3 197 = stl o (fC ra rb) ord (n1 197)) := by
  rcases cb_make (d := d) (L := L) Y E T LK hin hcn hc S with ⟨no, -⟩ | ⟨-, n1, r, N, f⟩
  · exact absurd hs no
  have gc := N.1.2.2.1
  have w3 := N.1.2.1
  have sort := fun {o ra rb : Nat → Nat} (H : cGt (gAll V chs c) (2 + bAll K V chs c) (n1 196) (n1 198) (n1 199) (n1 200) (n1 201) o ra rb) => cs_sort (d := d + 19) (L := L) H w3 gc.1
  have setl : ∀ {o ra rb : Nat → Nat} {ord : List Nat} {lev : Nat → Int} {n2 : am_H}, cGt (gAll V chs c) (2 + bAll K V chs c) (n1 196) (n1 198) (n1 199) (n1 200) (n1 201) o ra rb → OD (gAll V chs c) (fun i => n1 201 i = 0) (fun i => pOf (gAll V chs c) (fun i => n1 201 i = 0) o (ra i)) (fun i => pOf (gAll V chs c) (fun i => n1 201 i = 0) o (rb i)) ord lev → (n2 195 15 = (ord.length : Int) ∧ ∀ (t i : Nat), ord[t]? = some i → n2 203 t = (i : Int)) → (∀ i, i < gAll V chs c → n2 198 i = (ra i : Int) ∧ n2 199 i = (rb i : Int)) → p_fr [198, 199, 202, 203, 204, 205] [(195, 15), (195, 16)] n1 n2 → ∃ n3, am_D (d + 21) 2 12 [am_r (am_a 195)] (zS L, n2) = pV L n3 ∧ n3 197 = stl o (fC ra rb) ord (n2 197) ∧ p_fr [197] [] n2 n3 := fun {o ra rb ord lev n2} H O b ab f2 => by
    have ol := O.len
    refine cs_settle (d := d + 20) (L := L) (h := n2) (fun i hi => ?_) b.1 b.2 (by omega)
    have ig := (O.2.1 i hi).1
    obtain ⟨⟨o1, o2⟩, -, ⟨a, N1, -, a2⟩, b', N2, -, b2⟩ := H.2.1 i ig
    have ra1 := (FD_rt N1 a a2).1
    have rb1 := (FD_rt N2 b' b2).1
    exact ⟨by omega, ⟨(ab i ig).1, by omega⟩, ⟨(ab i ig).2, by omega⟩, by rw [f2.cell 200 rfl rfl]; exact o1, by omega⟩
  obtain ⟨o0, ra0, rb0, H0⟩ := EX _ _ _ _ _ N.2.1 N.2.2.1.1 N.2.2.1.2.1 N.2.2.1.2.2
  obtain ⟨n2, ord0, lev0, r2, O0, -, b0, ab0, -, f2⟩ := sort H0
  have r2' : am_D (d + 21) 2 11 [am_r (am_a 195)] (zS L, n1) = pI L (if (ord0.length : Int) = n1 195 10 then 1 else 0) n2 := r2
  by_cases cq : (ord0.length : Int) = n1 195 10
  · rw [if_pos cq] at r2'
    obtain ⟨n3, r3, -, f3⟩ := setl H0 O0 b0 ab0 f2
    refine ⟨n1, 1, n3, N, f, by rw [r, r2', p_xI, if_neg (by decide), r3, p_xV, p_bit1], Or.inr rfl, (f2.mono rfl rfl).trans (f3.mono rfl rfl), fun o ra rb H => ?_⟩
    obtain ⟨n2', ord, lev, s2, O, C, b, ab, mx, g2⟩ := sort H
    have s2' : am_D (d + 21) 2 11 [am_r (am_a 195)] (zS L, n1) = pI L (if (ord.length : Int) = n1 195 10 then 1 else 0) n2' := s2
    obtain ⟨i1, i2⟩ := pI_inx (r2'.symm.trans s2')
    subst i2
    have cq' : (ord.length : Int) = n1 195 10 := Classical.byContradiction (fun z => by rw [if_neg z] at i1; exact absurd i1 (by decide))
    obtain ⟨n3', r3', q3, f3'⟩ := setl H O b ab g2
    have i3 := pV_inx (r3.symm.trans r3')
    subst i3
    refine ⟨ord, lev, O, C, ⟨fun _ => by have := gc.2.1; omega, fun _ => rfl⟩, fun _ => ⟨⟨by rw [f3 195 15 rfl rfl]; exact b.1, fun t i ht => by rw [f3.cell 203 rfl rfl]; exact b.2 t i ht⟩, fun i hi => by rw [f3.cell 198 rfl rfl, f3.cell 199 rfl rfl]; exact ab i hi, by rw [f3 195 16 rfl rfl]; exact mx, by rw [q3, g2.cell 197 rfl rfl]⟩⟩
  · rw [if_neg cq] at r2'
    refine ⟨n1, 0, n2, N, f, by rw [r, r2', p_xI, if_pos rfl, p_bit0], Or.inl rfl, f2.mono rfl rfl, fun o ra rb H => ?_⟩
    obtain ⟨n2', ord, lev, s2, O, C, b, ab, mx, g2⟩ := sort H
    have s2' : am_D (d + 21) 2 11 [am_r (am_a 195)] (zS L, n1) = pI L (if (ord.length : Int) = n1 195 10 then 1 else 0) n2' := s2
    obtain ⟨i1, -⟩ := pI_inx (r2'.symm.trans s2')
    refine ⟨ord, lev, O, C, ⟨fun z => absurd z (by decide), fun z => ?_⟩, fun z => absurd z (by decide)⟩
    rw [if_pos (by have := gc.2.1; omega)] at i1
    exact i1
end
