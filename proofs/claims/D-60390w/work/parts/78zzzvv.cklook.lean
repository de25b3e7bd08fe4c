/-! CHIPS, 22: the component looks at a chip -/
section
variable {d L : Nat} {K V P : Nat → Int} {Z i b c0 k : Nat} {chs : List cCh} {ch : cCh} {g h h' : am_H}
theorem ky_link (hc : chs[c0]? = some ch) (hk : k < 2 + chs.length) (E : kEx K V Z) (S : kK K V P Z chs h) (F : kfy g h) (I : innT K V ch) {l : cLk} (hli : K l.2.2.1 = 2 → V l.2.2.1 ∈ cNm V ch ∨ V l.2.2.1 ∈ cIn V ch) (N : kN K V P Z l.1 h) (T : lkT K V l) (hn : cSg K V 44 l.2.2.2.2 ∨ cSg K V 41 l.2.2.2.2) {W : Nat → Int} {s : cSt} (H : sR V chs k c0 ch W s h) :
    match lkS K V chs k ch W l s with
    | .inl e => ∃ h', am_D (d + 5) 4 30 [am_r (am_a 36), am_r (am_a (83 + 7 * c0)), am_r (am_a (kb k))] (zS L, h) = kT L h' ∧ kFt P g e h'
    | .inr u => ∃ h', am_D (d + 5) 4 30 [am_r (am_a 36), am_r (am_a (83 + 7 * c0)), am_r (am_a (kb k))] (zS L, h) = pV L h' ∧ kN K V P Z l.2.2.2.2 h' ∧ sR V chs k c0 ch W u h' ∧ kfx (83 + 7 * c0) h h' := by
  have z2 := N.1.1.1
  have G16 := S.2.1.1.2
  have hcl := (List.getElem?_eq_some_iff.1 hc).1
  have hb : 83 ≤ 83 + 7 * c0 ∧ 83 + 7 * c0 ≤ 188 := by omega
  have C := CB_k L (show k < 18 by omega)
  obtain ⟨⟨g1, g2⟩, g3, g4⟩ := S.2.1.2.1 k hk
  have rg := lkT_rg N.1.1 T N.2.2.1
  obtain ⟨rrx, rkx⟩ := lkT_r T hn
  have T' := T
  obtain ⟨t1, q, t2, t3, t4, -⟩ := T'
  have lp : lpn V chs k l = ffnd (V l.1) (kNm V chs k) 0 := rfl
  have lr := ffnd_rg (kNm V chs k) (V l.1) 0
  rw [← lp] at lr
  rw [D_4_30, kx_here (d := d + 3) N, p_xI, kx_val (d := d + 3) N, p_xI, C.ob, kx_pin (d := d + 3) C (V l.1) g2 g1 g4, p_xI, ← lp]
  unfold lkS
  by_cases y1 : lpn V chs k l = -1
  · obtain ⟨h', r1, r2⟩ := ky_no (d := d + 2) (L := L) (P := P) F 4 l.1
    rw [if_pos y1, if_pos y1]
    exact ⟨h', by rw [q_4_30_2, r1, kT_V], r2⟩
  have lj : 0 ≤ lpn V chs k l ∧ (lpn V chs k l).toNat < (kNm V chs k).length := by omega
  rw [if_neg y1, if_neg y1, q_4_30_2, ky_ok, p_xV, N.2.1, p_w (by omega) (by omega), show (l.1 : Int) + 1 = ((l.1 + 1 : Nat) : Int) by omega]
  obtain ⟨h1, e1⟩ : ∃ h1, h1 = am_up h 36 5 ((l.1 + 1 : Nat) : Int) := ⟨_, rfl⟩
  rw [← e1]
  have f1 : p_fr [] btF h h1 := by rw [e1]; exact (p_fr.refl h).upf _ _ _ rfl
  have N1 : kN K V P Z (l.1 + 1) h1 := by rw [e1]; exact N.mv (by omega) (E.2.1 _ (by omega))
  have S1 := S.fx (c0 := c0) (bt_fx f1)
  have wj : (kWd V chs k)[(lpn V chs k l).toNat]? = some (lwd V chs k l) := by
    unfold lwd
    rw [List.getD_eq_getElem?_getD]
    have : (lpn V chs k l).toNat < (kWd V chs k).length := by rw [kWd_len]; omega
    rw [List.getElem?_eq_getElem this]; rfl
  have wr := lwd_rg (V := V) (chs := chs) k l
  obtain ⟨h2, r2, N2, f2, v9, v10⟩ := ky_bits (d := d + 1) (L := L) N1 E.2.1 E.2.2 t2 wr
  have f2' := f1.trans f2
  have x2 : kfx (83 + 7 * c0) h h2 := bt_fx f2'
  have F2 : kfy g h2 := F.trans (x2.y hb)
  have H2 := H.fr f2'
  have S2 := S.fx x2
  have cv := rlo_rg (r := l.2.1) (w := lwd V chs k l) (c_rng_v t2 E.2.2) wr
  rw [kx_here (d := d + 3) N1, p_xI, C.ob, CB.r7, C.a2, p_idx (by omega) (by omega), S1.2.2 k hk _ _ wj, r2, p_xI]
  by_cases ny3 : ¬ rok l.2.1 (lwd V chs k l)
  · obtain ⟨h', r1, r3⟩ := ky_no (d := d + 2) (L := L) (P := P) F2 5 (l.1 + 1)
    rw [pB_f ny3, if_neg ny3]
    refine ⟨h', by rw [r1, kT_V], ?_⟩
    have : l.2.1.1 ≠ -1 := fun z => ny3 (by unfold rok rlo rhi; rw [if_pos z, if_pos z]; omega)
    rw [show l.2.1.1.toNat = l.1 + 1 by rcases rg.2.2.2.1 with ⟨w, -⟩ | ⟨w, -⟩ <;> omega]
    exact r3
  have y3 := Decidable.not_not.1 ny3
  rw [pB_t y3, ky_ok, p_xV, C.ob, (S2.2.1.2.1 k hk).2.1, v9, v10, p_w (x := rhi l.2.1 (lwd V chs k l) - rlo l.2.1) (by omega) (by omega), p_w (by omega) (by omega), if_pos y3]
  have fe : rhi l.2.1 (lwd V chs k l) - rlo l.2.1 + 1 = rn l.2.1 (lwd V chs k l) := rfl
  have me : msk (rlo l.2.1) (rhi l.2.1 (lwd V chs k l)) = rmk l.2.1 (lwd V chs k l) := rfl
  rw [fe]
  -- behind the left side
  obtain ⟨h3, e3⟩ : ∃ h3, h3 = am_up (am_up h2 53 (lpn V chs k l).toNat (am_or (s.1 (lpn V chs k l).toNat) (rmk l.2.1 (lwd V chs k l)))) 36 5 (l.2.2.1 : Int) := ⟨_, rfl⟩
  have x3 : kfx (83 + 7 * c0) h h3 := by rw [e3]; exact (x2.up (by omega)).up (by omega)
  have N3 : kN K V P Z l.2.2.1 h3 := ⟨S.1.fx x3, by rw [e3, p_up_s], by omega, E.2.1 _ (by omega)⟩
  have S3 := S.fx x3
  have F3 : kfy g h3 := F.trans (x3.y hb)
  have H3 : sR V chs k c0 ch W (p_set s.1 (lpn V chs k l).toNat (am_or (s.1 (lpn V chs k l).toNat) (rmk l.2.1 (lwd V chs k l))), s.2) h3 := by
    refine ⟨fun j hj => ?_, fun j hj => ?_, fun j hj => ?_, fun j hj => ?_⟩
    · rw [e3, p_up_c _ _ _ _ _ (by decide)]
      unfold p_set
      dsimp only
      by_cases ej : j = (lpn V chs k l).toNat
      · rw [if_pos ej, ej, p_up_s]
      · rw [if_neg ej, p_up_n _ _ _ _ _ _ (Or.inr ej)]; exact H2.1 j hj
    · rw [e3, p_up_c _ _ _ _ _ (by decide), p_up_c _ _ _ _ _ (by decide)]; exact H2.2.1 j hj
    · rw [e3, p_up_c _ _ _ _ _ (by omega), p_up_c _ _ _ _ _ (by omega)]; exact H2.2.2.1 j hj
    · rw [e3, p_up_c _ _ _ _ _ (by omega), p_up_c _ _ _ _ _ (by omega)]; exact H2.2.2.2 j hj
  have e7 : ∀ (u2 u5 : Option am_V) (x6 x7 : Int), am_E (am_D (d + 4)) m_4_30 (.inl 7) [some (am_r (am_a 36)), some (am_r (am_a (83 + 7 * c0))), u2, some (am_i (P l.1)), some (am_i (lpn V chs k l)), u5, some (am_i x6), some (am_i x7)] [am_i 1, am_r (am_a 36)] (zS L, h2) = if x7 = 0 then am_xV (zS L) (am_D (d + 4) 4 32 [am_r (am_a 36), am_r (am_a (83 + 7 * c0)), am_i x6] (zS L, h3)) (am_up1 (zS L)) fun h6 => pV L h6 else am_xV (zS L) (am_D (d + 4) 4 31 [am_r (am_a 36), am_r (am_a (83 + 7 * c0)), am_i x6] (zS L, h3)) (am_up1 (zS L)) fun h7 => pV L h7 := by
    intro u2 u5 x6 x7
    rw [q_4_30_7, ky_ok, p_xV, p_idx (by omega) (by omega), v9, v10, ky_mask (d := d + 3) _ _ (by omega) (by omega) (by omega) (by omega), p_xI, p_idx (by omega) (by omega), H2.1 _ lj.2, me, N2.2.1, p_w (by omega) (by omega), show (q : Int) + 1 = ((l.2.2.1 : Nat) : Int) by omega, ← e3]
  have kt := rg.2.2.2.2
  by_cases y4 : lpn V chs k l < kIp chs k
  · rw [if_pos y4, if_pos y4, q_4_30_4, if_pos rfl, p_idx (by omega) (by omega), v9, v10, ky_mask (d := d + 3) _ _ (by omega) (by omega) (by omega) (by omega), p_xI, H2.1 _ lj.2, me]
    by_cases y5 : am_and (s.1 (lpn V chs k l).toNat) (rmk l.2.1 (lwd V chs k l)) = 0
    · rw [if_pos y5, if_pos y5, e7, if_pos rfl]
      have tk := ky_takes (d := d) (L := L) hc E S3 F3 I hli N3 rrx rkx (by omega) (by omega) (by omega) H3 (rn l.2.1 (lwd V chs k l))
      cases hx : lkX K V ch W (rn l.2.1 (lwd V chs k l)) l with
      | some e =>
        rw [hx] at tk
        obtain ⟨h', r1, r3⟩ := tk
        exact ⟨h', by rw [r1, kT_V], r3⟩
      | none =>
        rw [hx] at tk
        obtain ⟨h', r1, N4, f4⟩ := tk
        exact ⟨h', by rw [r1, p_xV], N4, H3.fr f4, x3.trans (bt_fx f4)⟩
    · obtain ⟨h', r1, r3⟩ := ky_no (d := d + 2) (L := L) (P := P) F2 3 l.1
      rw [if_neg y5, if_neg y5]
      exact ⟨h', by rw [q_4_30_7, r1, kT_V], r3⟩
  · rw [if_neg y4, if_neg y4, q_4_30_4, if_neg (show ¬ (1 : Int) = 0 by decide), e7, if_neg (show ¬ (1 : Int) = 0 by decide)]
    have tk := ky_drives (d := d) (L := L) hc E S3 F3 I hli N3 rrx (by omega) (by omega) (by omega) H3 (rn l.2.1 (lwd V chs k l))
    dsimp only at tk
    cases hx : lkD K V ch (rn l.2.1 (lwd V chs k l)) l s.2.1 s.2.2 with
    | inl e =>
      rw [hx] at tk
      obtain ⟨h', r1, r3⟩ := tk
      exact ⟨h', by rw [r1, kT_V], r3⟩
    | inr u =>
      rw [hx] at tk
      obtain ⟨h', r1, N4, H4, f4⟩ := tk
      exact ⟨h', by rw [r1, p_xV], N4, H4, x3.trans f4⟩
theorem ky_links_l (hc : chs[c0]? = some ch) (hk : k < 2 + chs.length) (E : kEx K V Z) (I : innT K V ch) {W : Nat → Int} {e : Nat} (he : cSg K V 41 e) (u2 : Option am_V) : ∀ (ls : List cLk) {i : Nat} {s : cSt} {h : am_H}, kK K V P Z chs h → kfy g h → kN K V P Z i h → lksT K V ls i e → (∀ l ∈ ls, K l.2.2.1 = 2 → V l.2.2.1 ∈ cNm V ch ∨ V l.2.2.1 ∈ cIn V ch) → sR V chs k c0 ch W s h →
    match lksS K V chs k ch W ls s with
    | .inl e => ∃ h', am_E (am_D (d + 5)) m_4_28 (.inl 5) [some (am_r (am_a 36)), some (am_r (am_a (83 + 7 * c0))), u2, some (am_r (am_a (kb k))), some (am_i 1)] [] (zS L, h) = kT L h' ∧ kFt P g e h'
    | .inr u => ∃ h', am_E (am_D (d + 5)) m_4_28 (.inl 5) [some (am_r (am_a 36)), some (am_r (am_a (83 + 7 * c0))), u2, some (am_r (am_a (kb k))), some (am_i 1)] [] (zS L, h) = pV L h' ∧ sR V chs k c0 ch W u h' ∧ kfx (83 + 7 * c0) h h'
  | [], i, s, h, S, F, N, T, hl, H => False.elim T
  | l :: ls, i, s, h, S, F, N, T, hl, H => by
    obtain ⟨t1, t2, t3⟩ := T
    have hcl := (List.getElem?_eq_some_iff.1 hc).1
    have G16 := S.2.1.1.2
    have hb : 83 ≤ 83 + 7 * c0 ∧ 83 + 7 * c0 ≤ 188 := by omega
    have hn : cSg K V 44 l.2.2.2.2 ∨ cSg K V 41 l.2.2.2.2 := by
      rcases t3 with ⟨z1, z2, z3⟩ | ⟨z1, -⟩
      · right; rw [← z3]; exact he
      · exact Or.inl z1
    rw [← t1] at N
    have z2 := N.1.1.1
    have rg := lkT_rg N.1.1 t2 N.2.2.1
    have nz : l.2.2.2.2 < Z := by
      rcases hn with y | y
      · exact N.1.1.lt rg.2.2.1 (by rw [y.1]; omega)
      · exact N.1.1.lt rg.2.2.1 (by rw [y.1]; omega)
    have lk := ky_link (d := d) (L := L) hc hk E S F I (hl l (List.mem_cons_self ..)) N t2 hn H
    rw [q_4_28_5, if_neg (by decide)]
    unfold lksS
    cases hx : lkS K V chs k ch W l s with
    | inl e =>
      rw [hx] at lk
      obtain ⟨h', r1, r3⟩ := lk
      exact ⟨h', by rw [r1, kT_V], r3⟩
    | inr u =>
      rw [hx] at lk
      obtain ⟨h1, r1, N1, H1, f1⟩ := lk
      dsimp only
      rw [r1, p_xV, kx_isSign (d := d + 3) N1 44, p_xI, N1.2.1, p_w (by omega) (by omega), show (l.2.2.2.2 : Int) + 1 = ((l.2.2.2.2 + 1 : Nat) : Int) by omega]
      have f2 : p_fr [] btF h1 (am_up h1 36 5 ((l.2.2.2.2 + 1 : Nat) : Int)) := (p_fr.refl h1).upf _ _ _ rfl
      have x2 := f1.trans (bt_fx (b := 83 + 7 * c0) f2)
      have N2 : kN K V P Z (l.2.2.2.2 + 1) (am_up h1 36 5 ((l.2.2.2.2 + 1 : Nat) : Int)) := N1.mv (by omega) (E.2.1 _ (by omega))
      rcases t3 with ⟨z1, z3, z4⟩ | ⟨z1, z3⟩
      · rw [pB_f z3, q_4_28_5, if_pos rfl, z1]
        exact ⟨_, rfl, H1.fr f2, x2⟩
      · rw [pB_t z1]
        have ih := ky_links_l hc hk E I he u2 ls (S.fx x2) (F.trans (x2.y hb)) N2 z3 (fun l' hl' => hl l' (List.mem_cons_of_mem _ hl')) (H1.fr f2)
        cases hy : lksS K V chs k ch W ls u with
        | inl e => rw [hy] at ih; exact ih
        | inr v =>
          rw [hy] at ih
          obtain ⟨h3, r3, H3, f3⟩ := ih
          exact ⟨h3, r3, H3, x2.trans f3⟩
theorem ky_zero (hk : k < 2 + chs.length) (u1 u2 : Option am_V) : ∀ (m j : Nat) {h : am_H}, kK K V P Z chs h → j + m = (kNm V chs k).length → (∀ a, a < j → h 53 a = 0) → ∃ h', am_E (am_D d) m_4_28 (.inl 3) [some (am_r (am_a 36)), some (am_r (am_a (83 + 7 * c0))), u2, some (am_r (am_a (kb k))), some (am_i (j : Int))] [] (zS L, h) = am_E (am_D d) m_4_28 (.inl 5) [some (am_r (am_a 36)), some (am_r (am_a (83 + 7 * c0))), u2, some (am_r (am_a (kb k))), some (am_i 1)] [] (zS L, h') ∧ (∀ a, a < (kNm V chs k).length → h' 53 a = 0) ∧ p_fr [53] [] h h'
  | 0, j, h, S, hm, h0 => by
    have G16 := S.2.1.1.2
    rw [q_4_28_3, (CB_k L (show k < 18 by omega)).ob, (S.2.1.2.1 k hk).1.1, if_neg (by omega)]
    exact ⟨h, rfl, fun a ha => h0 a (by omega), p_fr.refl h⟩
  | m + 1, j, h, S, hm, h0 => by
    have G16 := S.2.1.1.2
    have l12 := (S.2.1.2.1 k hk).1.2
    rw [q_4_28_3, (CB_k L (show k < 18 by omega)).ob, (S.2.1.2.1 k hk).1.1, if_pos (by omega), p_idx (by omega) (by omega), Int.toNat_natCast, p_w (by omega) (by omega)]
    have x : kfx (83 + 7 * c0) h (am_up h 53 j 0) := (kfx.refl _ h).up (Or.inl rfl)
    obtain ⟨h', r1, r2, r3⟩ := ky_zero hk u1 u2 m (j + 1) (h := am_up h 53 j 0) (S.fx x) (by omega) (fun a ha => by
      by_cases ea : a = j
      · rw [ea, p_up_s]
      · rw [p_up_n _ _ _ _ _ _ (Or.inr ea)]; exact h0 a (by omega))
    exact ⟨h', r1, r2, ((p_fr.refl h).upc _ _ _ rfl).trans r3⟩
/-- the bits of a chip's ownx -/
def oR (c0 : Nat) (ch : cCh) (W : Nat → Int) (s : (Nat → Int) × (Nat → Int)) (h : am_H) : Prop := (∀ j, j < ch.2.1.length → h 54 j = s.1 j) ∧ (∀ j, j < ch.2.2.2.2.length → h (83 + 7 * c0 + 6) j = s.2 j) ∧ ∀ j, j < ch.2.2.2.2.length → h (83 + 7 * c0 + 5) j = W j
theorem ky_links (hc : chs[c0]? = some ch) (E : kEx K V Z) (I : innT K V ch) {q : Nat × List cLk} (hq : q ∈ ch.2.2.2.1) (hqt : (q.1 + 2 ≤ Z ∧ K q.1 = 2) ∧ ∃ j, lksT K V q.2 (q.1 + 2) j ∧ cSg K V 41 j) (S : kK K V P Z chs h) (F : kfy g h) {W : Nat → Int} {s : (Nat → Int) × (Nat → Int)} (H : oR c0 ch W s h) :
    match prS K V chs ch W q s with
    | .inl e => ∃ h', am_D (d + 6) 4 28 [am_r (am_a 36), am_r (am_a (83 + 7 * c0)), am_i (q.1 : Int)] (zS L, h) = kT L h' ∧ kFt P g e h'
    | .inr u => ∃ h', am_D (d + 6) 4 28 [am_r (am_a 36), am_r (am_a (83 + 7 * c0)), am_i (q.1 : Int)] (zS L, h) = pV L h' ∧ oR c0 ch W u h' ∧ kfx (83 + 7 * c0) h h' := by
  obtain ⟨⟨q1, q2⟩, e, q3, q4⟩ := hqt
  have z2 := S.1.1.1
  have hcl := (List.getElem?_eq_some_iff.1 hc).1
  have G16 := S.2.1.1.2
  have hb : 83 ≤ 83 + 7 * c0 ∧ 83 + 7 * c0 ≤ 188 := by omega
  have x1 : kfx (83 + 7 * c0) h (am_up h 36 5 (q.1 : Int)) := (kfx.refl _ h).up (by omega)
  obtain ⟨h1, e1⟩ : ∃ h1, h1 = am_up h 36 5 (q.1 : Int) := ⟨_, rfl⟩
  rw [D_4_28, ← e1]
  rw [← e1] at x1
  have N1 : kN K V P Z q.1 h1 := ⟨S.1.fx x1, by rw [e1, p_up_s], by omega, by omega⟩
  have S1 := S.fx x1
  have F1 : kfy g h1 := F.trans (x1.y hb)
  rw [kx_val (d := d + 4) N1, p_xI, ky_find (d := d + 4) S1.2.1, p_xR]
  unfold prS
  cases hk : kOf V chs (V q.1) with
  | none =>
    obtain ⟨h', r1, r2⟩ := ky_no (d := d + 3) (L := L) (P := P) F1 4 q.1
    dsimp only
    refine ⟨h', ?_, r2⟩
    show am_E (am_D (d + 5)) m_4_28 (.inl 2) _ [am_i 0, am_r (am_a 36)] (zS L, h1) = _
    rw [show kref none = am_n from rfl, q_4_28_2, kx_here (d := d + 4) N1, p_xI, r1, kT_V]
  | some k =>
    have hkl := kOf_rg hk
    dsimp only
    show match (match lksS K V chs k ch W q.2 (fun _ => 0, s) with | .inl e => .inl e | .inr s' => .inr s'.2 : cF ⊕ ((Nat → Int) × (Nat → Int))) with
      | .inl e => ∃ h', am_E (am_D (d + 5)) m_4_28 (.inl 2) [some (am_r (am_a 36)), some (am_r (am_a (83 + 7 * c0))), some (am_i (q.1 : Int)), some (am_r (am_a (kb k))), none] [am_i 1, am_r (am_a 36)] (zS L, h1) = kT L h' ∧ kFt P g e h'
      | .inr u => ∃ h', am_E (am_D (d + 5)) m_4_28 (.inl 2) [some (am_r (am_a 36)), some (am_r (am_a (83 + 7 * c0))), some (am_i (q.1 : Int)), some (am_r (am_a (kb k))), none] [am_i 1, am_r (am_a 36)] (zS L, h1) = pV L h' ∧ oR c0 ch W u h' ∧ kfx (83 + 7 * c0) h h'
    rw [q_4_28_2, kx_here (d := d + 4) N1, p_xI, ky_ok, p_xV, N1.2.1, p_w (by omega) (by omega), show (q.1 : Int) + 2 = ((q.1 + 2 : Nat) : Int) by omega]
    obtain ⟨h2, e2⟩ : ∃ h2, h2 = am_up h1 36 5 ((q.1 + 2 : Nat) : Int) := ⟨_, rfl⟩
    rw [← e2]
    have x2 : kfx (83 + 7 * c0) h h2 := by rw [e2]; exact x1.up (by omega)
    have S2 := S.fx x2
    obtain ⟨h3, r3, z3, f3⟩ := ky_zero (d := d + 5) (L := L) (c0 := c0) hkl none (some (am_i (q.1 : Int))) (kNm V chs k).length 0 S2 (by omega) (fun a ha => by omega)
    rw [show ((0 : Nat) : Int) = 0 from rfl] at r3
    rw [r3]
    have x3 : kfx (83 + 7 * c0) h h3 := x2.trans (fun c k a1 a2 a3 a4 a5 => f3 c k (by simp; exact a1) rfl)
    have N3 : kN K V P Z (q.1 + 2) h3 := ⟨S.1.fx x3, by rw [f3 36 5 rfl rfl, e2, p_up_s], q1, E.2.1 _ q1⟩
    have H3 : sR V chs k c0 ch W (fun _ => 0, s) h3 := by
      obtain ⟨o1, o2, o3⟩ := H
      have eq : ∀ a j, a ≠ 53 → a ≠ 36 → h3 a j = h a j := fun a j a1 a2 => by
        rw [f3 a j (by simp; exact a1) rfl, e2, p_up_c _ _ _ _ _ a2, e1, p_up_c _ _ _ _ _ a2]
      refine ⟨z3, fun j hj => by rw [eq _ _ (by decide) (by decide)]; exact o1 j hj, fun j hj => by rw [eq _ _ (by omega) (by omega)]; exact o2 j hj, fun j hj => by rw [eq _ _ (by omega) (by omega)]; exact o3 j hj⟩
    have ll := ky_links_l (d := d) (L := L) (g := g) hc hkl E I q4 (some (am_i (q.1 : Int))) q.2 (S.fx x3) (F.trans (x3.y hb)) N3 q3 (fun l hl hk => I.1 q hq l hl hk) H3
    cases hx : lksS K V chs k ch W q.2 (fun _ => 0, s) with
    | inl e =>
      rw [hx] at ll
      exact ll
    | inr u =>
      rw [hx] at ll
      obtain ⟨h4, r4, H4, f4⟩ := ll
      exact ⟨h4, r4, ⟨H4.2.1, H4.2.2.1, H4.2.2.2⟩, x3.trans f4⟩
/-- widths, link by link -/
theorem ky_gives_l (hc : chs[c0]? = some ch) (hk : k < 2 + chs.length) (E : kEx K V Z) {e : Nat} (he : cSg K V 41 e) (u2 : Option am_V) : ∀ (ls : List cLk) {i : Nat} {W : Nat → Int} {h : am_H} (u5 u6 u7 u8 : Option am_V), kK K V P Z chs h → kN K V P Z i h → lksT K V ls i e → gR c0 ch W h → ∃ h', am_E (am_D (d + 3)) m_4_27 (.inl 3) [some (am_r (am_a 36)), some (am_r (am_a (83 + 7 * c0))), u2, some (am_r (am_a (kb k))), some (am_i 1), u5, u6, u7, u8] [] (zS L, h) = pV L h' ∧ gR c0 ch (gvl K V chs k ch ls W) h' ∧ kfx (83 + 7 * c0) h h'
  | [], i, W, h, u5, u6, u7, u8, S, N, T, H => False.elim T
  | l :: ls, i, W, h, u5, u6, u7, u8, S, N, T, H => by
    obtain ⟨t1, t2, t3⟩ := T
    have hn : cSg K V 44 l.2.2.2.2 ∨ cSg K V 41 l.2.2.2.2 := by
      rcases t3 with ⟨z1, z2, z3⟩ | ⟨z1, -⟩
      · right; rw [← z3]; exact he
      · exact Or.inl z1
    rw [← t1] at N
    obtain ⟨h1, w5, w6, w7, w8, r1, N1, H1, f1⟩ := ky_gv1 (d := d) (L := L) hc hk E S N t2 hn H u2 u5 u6 u7 u8
    rw [r1]
    unfold gvl
    rcases t3 with ⟨z1, z3, z4⟩ | ⟨z1, z3⟩
    · rw [pB_f z3, q_4_27_3, if_pos rfl, z1]
      exact ⟨h1, rfl, H1, f1⟩
    · rw [pB_t z1]
      obtain ⟨h2, r2, H2, f2⟩ := ky_gives_l hc hk E he u2 ls w5 w6 w7 w8 (S.fx f1) N1 z3 H1
      exact ⟨h2, r2, H2, f1.trans f2⟩
theorem ky_gives (hc : chs[c0]? = some ch) (E : kEx K V Z) {q : Nat × List cLk} (hqt : (q.1 + 2 ≤ Z ∧ K q.1 = 2) ∧ ∃ j, lksT K V q.2 (q.1 + 2) j ∧ cSg K V 41 j) (S : kK K V P Z chs h) {W : Nat → Int} (H : gR c0 ch W h) : ∃ h', am_D (d + 4) 4 27 [am_r (am_a 36), am_r (am_a (83 + 7 * c0)), am_i (q.1 : Int)] (zS L, h) = pV L h' ∧ gR c0 ch (gvp K V chs ch q W) h' ∧ kfx (83 + 7 * c0) h h' := by
  obtain ⟨⟨q1, q2⟩, e, q3, q4⟩ := hqt
  have z2 := S.1.1.1
  have x1 : kfx (83 + 7 * c0) h (am_up h 36 5 (q.1 : Int)) := (kfx.refl _ h).up (by omega)
  obtain ⟨h1, e1⟩ : ∃ h1, h1 = am_up h 36 5 (q.1 : Int) := ⟨_, rfl⟩
  rw [D_4_27, ← e1]
  rw [← e1] at x1
  have N1 : kN K V P Z q.1 h1 := ⟨S.1.fx x1, by rw [e1, p_up_s], by omega, by omega⟩
  have S1 := S.fx x1
  rw [kx_val (d := d + 2) N1, p_xI, ky_find (d := d + 2) S1.2.1, p_xR, N1.2.1, p_w (by omega) (by omega), show (q.1 : Int) + 2 = ((q.1 + 2 : Nat) : Int) by omega]
  have f2 : p_fr [] btF h (am_up h1 36 5 ((q.1 + 2 : Nat) : Int)) := by rw [e1]; exact ((p_fr.refl h).upf _ _ _ rfl).upf _ _ _ rfl
  unfold gvp
  cases hk : kOf V chs (V q.1) with
  | none =>
    dsimp only
    refine ⟨_, ?_, H.fr f2, bt_fx f2⟩
    show am_E (am_D (d + 3)) m_4_27 (.inl 3) _ [] _ = _
    rw [show kref none = am_n from rfl, q_4_27_3, if_pos rfl]
  | some k =>
    have hkl := kOf_rg hk
    have x2 : kfx (83 + 7 * c0) h (am_up h1 36 5 ((q.1 + 2 : Nat) : Int)) := bt_fx f2
    have N2 : kN K V P Z (q.1 + 2) (am_up h1 36 5 ((q.1 + 2 : Nat) : Int)) := ⟨S.1.fx x2, p_up_s _ _ _ _, q1, E.2.1 _ q1⟩
    obtain ⟨h3, r3, H3, f3⟩ := ky_gives_l (d := d) (L := L) hc hkl E q4 (some (am_i (q.1 : Int))) q.2 none none none none (S.fx x2) N2 q3 (H.fr f2)
    exact ⟨h3, r3, H3, x2.trans f3⟩
end
