/-! CHIPS, 21: the component's links -/
section
variable {d L : Nat} {K V P : Nat → Int} {Z i b c0 k : Nat} {chs : List cCh} {ch : cCh} {g h h' : am_H}
/-- the state of the check: bits of the part's pins, of the chip's pins, inner names that are given -/
def sR (V : Nat → Int) (chs : List cCh) (k c0 : Nat) (ch : cCh) (W : Nat → Int) (s : cSt) (h : am_H) : Prop := (∀ j, j < (kNm V chs k).length → h 53 j = s.1 j) ∧ (∀ j, j < ch.2.1.length → h 54 j = s.2.1 j) ∧ (∀ j, j < ch.2.2.2.2.length → h (83 + 7 * c0 + 6) j = s.2.2 j) ∧ ∀ j, j < ch.2.2.2.2.length → h (83 + 7 * c0 + 5) j = W j
theorem sR.fr {W : Nat → Int} {s : cSt} (S : sR V chs k c0 ch W s h) (f : p_fr [] btF h h') : sR V chs k c0 ch W s h' := by
  have e : ∀ a j, a ≠ 36 → h' a j = h a j := fun a j ha => f a j rfl (by unfold btF; simp; omega)
  obtain ⟨s1, s2, s3, s4⟩ := S
  refine ⟨fun j hj => by rw [e _ _ (by decide)]; exact s1 j hj, fun j hj => by rw [e _ _ (by decide)]; exact s2 j hj, fun j hj => by rw [e _ _ (by omega)]; exact s3 j hj, fun j hj => by rw [e _ _ (by omega)]; exact s4 j hj⟩
/-- chip pins and inner names -/
theorem ky_own (hc : chs[c0]? = some ch) (S : kK K V P Z chs h) : (∀ v, am_D (d + 1) 3 2 [am_r (am_a (83 + 7 * c0)), am_i v] (zS L, h) = pI L (ffnd v (cNm V ch) 0) h) ∧ (∀ v, am_D (d + 1) 3 3 [am_r (am_a (83 + 7 * c0)), am_i v] (zS L, h) = pI L (ffnd v (cIn V ch) 0) h) ∧ h (83 + 7 * c0) 3 = (ch.2.2.1 : Int) ∧ (cNm V ch).length = ch.2.1.length ∧ ch.2.1.length ≤ 12 ∧ (cIn V ch).length = ch.2.2.2.2.length ∧ ch.2.2.2.2.length ≤ 100 ∧ ∀ (j : Nat) (y : Int), (cWs V ch)[j]? = some y → h (83 + 7 * c0 + 2) j = y := by
  have hcl := (List.getElem?_eq_some_iff.1 hc).1
  have G16 := S.2.1.1.2
  have C0 := CB_c L c0 (by omega)
  have kn := kNm_c (V := V) hc
  obtain ⟨⟨g1, g2⟩, g3, g4⟩ := S.2.1.2.1 (2 + c0) (by omega)
  have gw := S.2.2 (2 + c0) (by omega)
  rw [kb_c, kn.1] at g1 g4
  rw [kn.1] at g2
  rw [kb_c, kn.2.2] at g3
  rw [kb_c, kn.2.1] at gw
  have cl : (cNm V ch).length = ch.2.1.length := by unfold cNm; rw [List.length_map]
  have il : (cIn V ch).length = ch.2.2.2.2.length := by unfold cIn; rw [List.length_map]
  obtain ⟨-, -, ⟨i1, i2⟩, -, i3⟩ := S.2.1.2.2 c0 ch hc
  have i3' : ∀ (k : Nat) (y : Int), (cIn V ch)[k]? = some y → h (83 + 7 * c0 + 4) k = y := fun k y hy => by
    unfold cIn at hy
    rw [List.getElem?_map] at hy
    cases ht : ch.2.2.2.2[k]? with
    | none => rw [ht] at hy; cases hy
    | some t => rw [ht] at hy; cases hy; exact i3 k t ht
  refine ⟨fun v => kx_pin C0 v g2 g1 g4, fun v => kx_in C0 v (by omega) (by rw [il]; exact i1) i3', g3, cl, by omega, il, i2, gw⟩
theorem cWs_at (ch : cCh) {v : Int} (h1 : ffnd v (cNm V ch) 0 ≠ -1) : (cWs V ch)[(ffnd v (cNm V ch) 0).toNat]? = some ((cWs V ch).getD (ffnd v (cNm V ch) 0).toNat 1) := by
  have cl : (cNm V ch).length = ch.2.1.length := by unfold cNm; rw [List.length_map]
  have wl : (cWs V ch).length = ch.2.1.length := by unfold cWs; rw [List.length_map]
  have r := ffnd_rg (cNm V ch) v 0
  have : (ffnd v (cNm V ch) 0).toNat < (cWs V ch).length := by omega
  rw [List.getD_eq_getElem?_getD, List.getElem?_eq_getElem this]; rfl
/-- a mask -/
theorem ky_mask (lo hi : Int) (h1 : 0 ≤ lo) (h2 : hi ≤ 99) (h3 : 0 ≤ hi) (h4 : lo ≤ 99) : am_D (d + 1) 4 29 [am_i lo, am_i hi] (zS L, h) = pI L (msk lo hi) h := by
  rw [D_4_29]; rfl
/-- the right side of an OUT pin -/
theorem ky_drives (hc : chs[c0]? = some ch) (E : kEx K V Z) (S : kK K V P Z chs h) (F : kfy g h) (I : innT K V ch) {l : cLk} (hli : K l.2.2.1 = 2 → V l.2.2.1 ∈ cNm V ch ∨ V l.2.2.1 ∈ cIn V ch) (N : kN K V P Z l.2.2.1 h) (rrx : c_rng K V (l.2.2.1 + 1) = .inr (l.2.2.2.1.1, l.2.2.2.1.2.1, l.2.2.2.1.2.2, l.2.2.2.2)) (nz : l.2.2.2.2 ≤ Z) (nr : l.2.2.1 < l.2.2.2.2) (rb : l.2.2.2.1.1 = -1 ∨ l.2.2.2.1.1 = ((l.2.2.1 + 1 : Nat) : Int)) {W : Nat → Int} {s : cSt} (H : sR V chs k c0 ch W s h) (wd : Int) :
    match lkD K V ch wd l s.2.1 s.2.2 with
    | .inl e => ∃ h', am_D (d + 4) 4 31 [am_r (am_a 36), am_r (am_a (83 + 7 * c0)), am_i wd] (zS L, h) = kT L h' ∧ kFt P g e h'
    | .inr u => ∃ h', am_D (d + 4) 4 31 [am_r (am_a 36), am_r (am_a (83 + 7 * c0)), am_i wd] (zS L, h) = pV L h' ∧ kN K V P Z l.2.2.2.2 h' ∧ sR V chs k c0 ch W (s.1, u) h' ∧ kfx (83 + 7 * c0) h h' := by
  have z2 := N.1.1.1
  have G16 := S.2.1.1.2
  have hcl := (List.getElem?_eq_some_iff.1 hc).1
  have C0 := CB_c L c0 (by omega)
  have hb : 83 ≤ 83 + 7 * c0 ∧ 83 + 7 * c0 ≤ 188 := by omega
  obtain ⟨o1, o2, o3, o4, o5, o6, o7, o8⟩ := ky_own (d := d + 2) (L := L) hc S
  rw [D_4_31, kx_here (d := d + 2) N, p_xI, kx_kind (d := d + 2) N, p_xI]
  unfold lkD
  by_cases nkr : ¬ K l.2.2.1 = 2
  · have kr := nkr
    obtain ⟨h', r1, r2⟩ := ky_no (d := d + 1) (L := L) (P := P) F 4 l.2.2.1
    rw [if_neg kr, if_neg kr]
    exact ⟨h', by rw [q_4_31_2, r1, kT_V], r2⟩
  have kr : K l.2.2.1 = 2 := Decidable.not_not.1 nkr
  have ir := ffnd_rg (cIn V ch) (V l.2.2.1) 0
  have pr := ffnd_rg (cNm V ch) (V l.2.2.1) 0
  have re : rin V ch l = ffnd (V l.2.2.1) (cIn V ch) 0 := rfl
  have pe : rpn V ch l = ffnd (V l.2.2.1) (cNm V ch) 0 := rfl
  rw [if_pos kr, if_pos kr, q_4_31_2, ky_ok, p_xV, kx_val (d := d + 2) N, p_xI, C0.ob, o1, p_xI, ← pe]
  rw [← re] at ir
  rw [← pe] at pr
  -- the name is good
  have go : ∀ u5 u6, am_E (am_D (d + 3)) m_4_31 (.inl 5) [some (am_r (am_a 36)), some (am_r (am_a (83 + 7 * c0))), some (am_i wd), some (am_i (P l.2.2.1)), some (am_i (rpn V ch l)), u5, u6] [am_i 1, am_r (am_a 36)] (zS L, h) = am_xI (zS L) (am_D (d + 3) 4 4 [am_r (am_a 36)] (zS L, am_up h 36 5 ((l.2.2.1 + 1 : Nat) : Int))) (am_up1 (zS L)) fun v7 h6 => if rpn V ch l = (-1) then am_obj (zS L, h6) (am_a (83 + 7 * c0)) 3 fun a19 r20 => am_arr (zS L, h6) (r20.getD 11 am_n) 4 fun a22 n23 _ => am_idx (rin V ch l) n23 fun k21 => if (h6 a22 k21 : Int) = 0 then am_E (am_D (d + 3)) m_4_31 (.inl 7) [some (am_r (am_a 36)), some (am_r (am_a (83 + 7 * c0))), some (am_i wd), some (am_i (P l.2.2.1)), some (am_i (rpn V ch l)), some (am_i (rin V ch l)), some (am_i v7)] [am_i 1, am_r (am_a 36)] (zS L, h6) else am_E (am_D (d + 3)) m_4_31 (.inl 7) [some (am_r (am_a 36)), some (am_r (am_a (83 + 7 * c0))), some (am_i wd), some (am_i (P l.2.2.1)), some (am_i (rpn V ch l)), some (am_i (rin V ch l)), some (am_i v7)] [am_i 0, am_r (am_a 36)] (zS L, h6) else am_obj (zS L, h6) (am_a (83 + 7 * c0)) 3 fun a8 r9 => am_arr (zS L, h6) (r9.getD 7 am_n) 1 fun a11 n12 _ => am_idx (rpn V ch l) n12 fun k10 => am_xI (zS L) (am_D (d + 3) 4 25 [am_r (am_a 36), am_i (h6 a11 k10)] (zS L, h6)) (am_up1 (zS L)) fun v14 h13 => am_xV (zS L) (am_D (d + 3) 4 6 [am_r (am_a 36), am_i v14, am_i 5, am_i v7] (zS L, h13)) (am_up1 (zS L)) fun h15 => am_idx (rpn V ch l) 12 fun k16 => am_xI (zS L) (am_D (d + 3) 4 29 [am_i (h15 36 9), am_i (h15 36 10)] (zS L, h15)) (am_up1 (zS L)) fun v18 h17 => if (am_and (h15 54 k16) v18 : Int) = 0 then am_E (am_D (d + 3)) m_4_31 (.inl 12) [some (am_r (am_a 36)), some (am_r (am_a (83 + 7 * c0))), some (am_i wd), some (am_i (P l.2.2.1)), some (am_i (rpn V ch l)), some (am_i (rin V ch l)), some (am_i v7)] [am_i 1, am_r (am_a 36)] (zS L, h17) else am_E (am_D (d + 3)) m_4_31 (.inl 12) [some (am_r (am_a 36)), some (am_r (am_a (83 + 7 * c0))), some (am_i wd), some (am_i (P l.2.2.1)), some (am_i (rpn V ch l)), some (am_i (rin V ch l)), some (am_i v7)] [am_i 0, am_r (am_a 36)] (zS L, h17) := by
    intro u5 u6
    rw [q_4_31_5, ky_ok, p_xV, kx_val (d := d + 2) N, p_xI, C0.ob, o2, p_xI, N.2.1, p_w (by omega) (by omega)]
    rfl
  obtain ⟨h1, e1⟩ : ∃ h1, h1 = am_up h 36 5 ((l.2.2.1 + 1 : Nat) : Int) := ⟨_, rfl⟩
  have f1 : p_fr [] btF h h1 := by rw [e1]; exact (p_fr.refl h).upf _ _ _ rfl
  have N1 : kN K V P Z (l.2.2.1 + 1) h1 := by rw [e1]; exact N.mv (by omega) (E.2.1 _ (by omega))
  have H1 := H.fr f1
  have x1 : kfx (83 + 7 * c0) h h1 := bt_fx f1
  have F1 : kfy g h1 := F.trans (x1.y hb)
  have S1 := S.fx x1
  obtain ⟨-, -, p3, -, -, -, -, p8⟩ := ky_own (d := d) (L := L) hc S1
  by_cases y1 : rpn V ch l = -1
  · -- an inner name
    have ii : rin V ch l ≠ -1 := by
      rcases hli kr with z | z
      · rcases pr with ⟨-, w⟩ | w
        · exact absurd z w
        · omega
      · rcases ir with ⟨-, w⟩ | w
        · exact absurd z w
        · omega
    have ij : (rin V ch l).toNat < ch.2.2.2.2.length := by omega
    rw [if_pos y1, if_pos y1, go, ← e1, kx_here (d := d + 2) N1, p_xI, if_pos y1, C0.ob, CB.r11, C0.a6, p_idx (by omega) (by omega), H1.2.2.1 _ ij]
    by_cases y2 : s.2.2 (rin V ch l).toNat = 0
    · rw [if_pos y2, if_pos y2, q_4_31_7, ky_ok, p_xV, kx_isSign (d := d + 1) N1 91, p_xI]
      rcases c_rng_c rrx with ⟨c1, c2, c3⟩ | ⟨c1, c2, c3, -⟩
      · rw [pB_f c1, if_pos rfl, ky_ok, p_xV, C0.ob, p_bit1, CB.r11, C0.a6, p_idx (by omega) (by omega), beq_b 5, if_pos (show l.2.2.2.1.1 = -1 by rw [c2])]
        refine ⟨_, rfl, ?_, ⟨fun j hj => ?_, fun j hj => ?_, fun j hj => ?_, fun j hj => ?_⟩, x1.up (Or.inr (Or.inr (Or.inr (Or.inl rfl))))⟩
        · rw [c3]
          exact ⟨N1.1.fx (c0 := c0) ((kfx.refl _ h1).up (Or.inr (Or.inr (Or.inr (Or.inl rfl))))), by rw [p_up_c _ _ _ _ _ (by omega)]; exact N1.2.1, N1.2.2⟩
        · rw [p_up_c _ _ _ _ _ (by omega)]; exact H1.1 j hj
        · rw [p_up_c _ _ _ _ _ (by omega)]; exact H1.2.1 j hj
        · unfold p_set
          dsimp only
          by_cases ej : j = (rin V ch l).toNat
          · rw [if_pos ej, ej, p_up_s]
          · rw [if_neg ej, p_up_n _ _ _ _ _ _ (Or.inr ej)]; exact H1.2.2.1 j hj
        · rw [p_up_c _ _ _ _ _ (by omega)]; exact H1.2.2.2 j hj
      · obtain ⟨h', r1, r2⟩ := ky_no (d := d + 1) (L := L) (P := P) F1 5 (l.2.2.1 + 1)
        rw [pB_t c1, if_neg (show ¬ (1 : Int) = 0 by decide), if_neg (show ¬ l.2.2.2.1.1 = -1 by rw [c3]; omega)]
        refine ⟨h', by rw [r1, kT_V], ?_⟩
        rw [show l.2.2.2.1.1.toNat = l.2.2.1 + 1 by rw [c3]; omega]
        exact r2
    · obtain ⟨h', r1, r2⟩ := ky_no (d := d + 1) (L := L) (P := P) F1 3 l.2.2.1
      rw [if_neg y2, if_neg y2]
      exact ⟨h', by rw [q_4_31_7, r1, kT_V], r2⟩
  · have pj : (rpn V ch l).toNat < ch.2.1.length := by omega
    rw [if_neg y1, if_neg y1, C0.ob, o3]
    by_cases y2 : rpn V ch l < ch.2.2.1
    · obtain ⟨h', r1, r2⟩ := ky_no (d := d + 1) (L := L) (P := P) F 4 l.2.2.1
      rw [if_pos y2, if_pos y2]
      exact ⟨h', by rw [q_4_31_5, r1, kT_V], r2⟩
    rw [if_neg y2, if_neg y2, go, ← e1, kx_here (d := d + 2) N1, p_xI, if_neg y1, C0.ob, CB.r7, C0.a2, p_idx (by omega) (by omega)]
    have wj := cWs_at ch y1
    have we : (cWs V ch).getD (ffnd (V l.2.2.1) (cNm V ch) 0).toNat 1 = rwd V ch l := rfl
    rw [we, ← pe] at wj
    have wr := rwd_rg (V := V) ch l
    obtain ⟨h2, r2, N2, f2, v9, v10⟩ := ky_bits (d := d) (L := L) N1 E.2.1 E.2.2 rrx wr
    have f2' := f1.trans f2
    have x2 : kfx (83 + 7 * c0) h h2 := bt_fx f2'
    have F2 : kfy g h2 := F.trans (x2.y hb)
    have H2 := H.fr f2'
    have cv := rlo_rg (r := l.2.2.2.1) (w := rwd V ch l) (c_rng_v rrx E.2.2) wr
    rw [p8 _ _ wj, r2, p_xI]
    by_cases y3 : rok l.2.2.2.1 (rwd V ch l)
    · rw [pB_t y3, ky_ok, p_xV, p_idx (by omega) (by omega), v9, v10, ky_mask (d := d + 2) _ _ (by omega) (by omega) (by omega) (by omega), p_xI, H2.2.1 _ pj, if_pos y3]
      have me : msk (rlo l.2.2.2.1) (rhi l.2.2.2.1 (rwd V ch l)) = rmk l.2.2.2.1 (rwd V ch l) := rfl
      rw [me]
      by_cases y4 : am_and (s.2.1 (rpn V ch l).toNat) (rmk l.2.2.2.1 (rwd V ch l)) = 0
      · rw [if_pos y4, if_pos y4, q_4_31_12, ky_ok, p_xV, p_idx (by omega) (by omega), v9, v10, ky_mask (d := d + 2) _ _ (by omega) (by omega) (by omega) (by omega), p_xI, p_idx (by omega) (by omega), v9, v10, H2.2.1 _ pj, me, p_w (x := rhi l.2.2.2.1 (rwd V ch l) - rlo l.2.2.2.1) (by omega) (by omega), p_w (by omega) (by omega)]
        have fe : rhi l.2.2.2.1 (rwd V ch l) - rlo l.2.2.2.1 + 1 = rn l.2.2.2.1 (rwd V ch l) := rfl
        rw [fe]
        obtain ⟨h3, e3⟩ : ∃ h3, h3 = am_up h2 54 (rpn V ch l).toNat (am_or (s.2.1 (rpn V ch l).toNat) (rmk l.2.2.2.1 (rwd V ch l))) := ⟨_, rfl⟩
        rw [← e3]
        have x3 : kfx (83 + 7 * c0) h h3 := by rw [e3]; exact x2.up (by omega)
        by_cases y5 : rn l.2.2.2.1 (rwd V ch l) = wd
        · rw [if_pos y5, if_pos y5, ky_ok, p_xV]
          refine ⟨h3, rfl, ⟨S.1.fx x3, by rw [e3, p_up_c _ _ _ _ _ (by decide)]; exact N2.2.1, N2.2.2⟩, ⟨fun j hj => ?_, fun j hj => ?_, fun j hj => ?_, fun j hj => ?_⟩, x3⟩
          · rw [e3, p_up_c _ _ _ _ _ (by omega)]; exact H2.1 j hj
          · unfold p_set
            dsimp only
            by_cases ej : j = (rpn V ch l).toNat
            · rw [if_pos ej, ej, e3, p_up_s]
            · rw [if_neg ej, e3, p_up_n _ _ _ _ _ _ (Or.inr ej)]; exact H2.2.1 j hj
          · rw [e3, p_up_c _ _ _ _ _ (by omega)]; exact H2.2.2.1 j hj
          · rw [e3, p_up_c _ _ _ _ _ (by omega)]; exact H2.2.2.2 j hj
        · obtain ⟨h', r1, r3⟩ := ky_no (d := d + 1) (L := L) (P := P) (F.trans (x3.y hb)) 5 l.2.2.1
          rw [if_neg y5, if_neg y5]
          exact ⟨h', by rw [r1, kT_V], r3⟩
      · obtain ⟨h', r1, r3⟩ := ky_no (d := d + 1) (L := L) (P := P) F2 3 l.2.2.1
        rw [if_neg y4, if_neg y4]
        exact ⟨h', by rw [q_4_31_12, r1, kT_V], r3⟩
    · obtain ⟨h', r1, r3⟩ := ky_no (d := d + 1) (L := L) (P := P) F2 5 (l.2.2.1 + 1)
      rw [pB_f y3, if_neg y3]
      refine ⟨h', by rw [r1, kT_V], ?_⟩
      have : l.2.2.2.1.1 ≠ -1 := fun z => y3 (by unfold rok rlo rhi; rw [if_pos z, if_pos z]; omega)
      rw [show l.2.2.2.1.1.toNat = l.2.2.1 + 1 by omega]
      exact r3
/-- the right side of an IN pin -/
theorem ky_takes (hc : chs[c0]? = some ch) (E : kEx K V Z) (S : kK K V P Z chs h) (F : kfy g h) (I : innT K V ch) {l : cLk} (hli : K l.2.2.1 = 2 → V l.2.2.1 ∈ cNm V ch ∨ V l.2.2.1 ∈ cIn V ch) (N : kN K V P Z l.2.2.1 h) (rrx : c_rng K V (l.2.2.1 + 1) = .inr (l.2.2.2.1.1, l.2.2.2.1.2.1, l.2.2.2.1.2.2, l.2.2.2.2)) (rkx : K l.2.2.1 = 2 ∨ K l.2.2.1 = 1 ∧ l.2.2.2.1 = (-1, 0, 0) ∧ l.2.2.2.2 = l.2.2.1 + 1) (nz : l.2.2.2.2 ≤ Z) (nr : l.2.2.1 < l.2.2.2.2) (rb : l.2.2.2.1.1 = -1 ∨ l.2.2.2.1.1 = ((l.2.2.1 + 1 : Nat) : Int)) {W : Nat → Int} {s : cSt} (H : sR V chs k c0 ch W s h) (wd : Int) :
    match lkX K V ch W wd l with
    | some e => ∃ h', am_D (d + 4) 4 32 [am_r (am_a 36), am_r (am_a (83 + 7 * c0)), am_i wd] (zS L, h) = kT L h' ∧ kFt P g e h'
    | none => ∃ h', am_D (d + 4) 4 32 [am_r (am_a 36), am_r (am_a (83 + 7 * c0)), am_i wd] (zS L, h) = pV L h' ∧ kN K V P Z l.2.2.2.2 h' ∧ p_fr [] btF h h' := by
  have z2 := N.1.1.1
  have G16 := S.2.1.1.2
  have hcl := (List.getElem?_eq_some_iff.1 hc).1
  have C0 := CB_c L c0 (by omega)
  have hb : 83 ≤ 83 + 7 * c0 ∧ 83 + 7 * c0 ≤ 188 := by omega
  obtain ⟨o1, o2, o3, o4, o5, o6, o7, o8⟩ := ky_own (d := d + 2) (L := L) hc S
  rw [D_4_32, kx_here (d := d + 2) N, p_xI, kx_kind (d := d + 2) N, p_xI]
  unfold lkX
  by_cases nkr : ¬ K l.2.2.1 = 2
  · have kr := nkr
    rcases rkx with z | ⟨z1, z3, z4⟩
    · exact absurd z kr
    rw [if_neg kr, if_pos z1, N.2.1, p_w (by omega) (by omega)]
    refine ⟨_, rfl, ?_, (p_fr.refl h).upf _ _ _ rfl⟩
    rw [show (l.2.2.1 : Int) + 1 = ((l.2.2.2.2 : Nat) : Int) by omega]
    exact N.mv nz (E.2.1 _ nz)
  have kr : K l.2.2.1 = 2 := Decidable.not_not.1 nkr
  have ir := ffnd_rg (cIn V ch) (V l.2.2.1) 0
  have pr := ffnd_rg (cNm V ch) (V l.2.2.1) 0
  have re : rin V ch l = ffnd (V l.2.2.1) (cIn V ch) 0 := rfl
  have pe : rpn V ch l = ffnd (V l.2.2.1) (cNm V ch) 0 := rfl
  rw [if_pos kr, if_neg (show ¬ K l.2.2.1 = 1 by omega), kx_val (d := d + 2) N, p_xI, C0.ob, o1, p_xI, kx_val (d := d + 2) N, p_xI, C0.ob, o2, p_xI, ← pe, ← re]
  rw [← re] at ir
  rw [← pe] at pr
  obtain ⟨h1, e1⟩ : ∃ h1, h1 = am_up h 36 5 ((l.2.2.1 + 1 : Nat) : Int) := ⟨_, rfl⟩
  have f1 : p_fr [] btF h h1 := by rw [e1]; exact (p_fr.refl h).upf _ _ _ rfl
  have N1 : kN K V P Z (l.2.2.1 + 1) h1 := by rw [e1]; exact N.mv (by omega) (E.2.1 _ (by omega))
  have H1 := H.fr f1
  have x1 : kfx (83 + 7 * c0) h h1 := bt_fx f1
  have F1 : kfy g h1 := F.trans (x1.y hb)
  have S1 := S.fx x1
  obtain ⟨-, -, p3, -, -, -, -, p8⟩ := ky_own (d := d) (L := L) hc S1
  by_cases y1 : rpn V ch l = -1
  · have ii : rin V ch l ≠ -1 := by
      rcases hli kr with z | z
      · rcases pr with ⟨-, w⟩ | w
        · exact absurd z w
        · omega
      · rcases ir with ⟨-, w⟩ | w
        · exact absurd z w
        · omega
    have ij : (rin V ch l).toNat < ch.2.2.2.2.length := by omega
    rw [if_pos y1, if_pos y1, C0.ob, CB.r10, C0.a5, p_idx (by omega) (by omega), H.2.2.2 _ ij]
    by_cases y2 : W (rin V ch l).toNat = 0
    · obtain ⟨h', r1, r2⟩ := ky_no (d := d + 1) (L := L) (P := P) F 4 l.2.2.1
      rw [if_pos y2, if_pos y2]
      exact ⟨h', by rw [q_4_32_5, r1, kT_V], r2⟩
    rw [if_neg y2, if_neg y2, q_4_32_5, ky_ok, p_xV, N.2.1, p_w (by omega) (by omega), show (l.2.2.1 : Int) + 1 = ((l.2.2.1 + 1 : Nat) : Int) by omega, ← e1, kx_here (d := d + 2) N1, p_xI, if_pos y1, kx_isSign (d := d + 1) N1 91, p_xI]
    rcases c_rng_c rrx with ⟨c1, c2, c3⟩ | ⟨c1, c2, c3, -⟩
    · rw [pB_f c1, if_pos rfl, if_pos (show l.2.2.2.1.1 = -1 by rw [c2]), q_4_32_7, ky_ok, p_xV, C0.ob, CB.r10, C0.a5, p_idx (by omega) (by omega), H1.2.2.2 _ ij, c3]
      by_cases y3 : W (rin V ch l).toNat = -1
      · rw [if_pos y3, if_pos (Or.inl y3), ky_ok, p_xV]
        exact ⟨h1, rfl, N1, f1⟩
      rw [if_neg y3, C0.ob, CB.r10, C0.a5, p_idx (by omega) (by omega), H1.2.2.2 _ ij]
      by_cases y4 : W (rin V ch l).toNat = wd
      · rw [if_pos y4, if_pos (Or.inr y4), ky_ok, p_xV]
        exact ⟨h1, rfl, N1, f1⟩
      · obtain ⟨h', r1, r2⟩ := ky_no (d := d + 1) (L := L) (P := P) F1 5 l.2.2.1
        rw [if_neg y4, if_neg (show ¬ (W (rin V ch l).toNat = -1 ∨ W (rin V ch l).toNat = wd) by omega)]
        exact ⟨h', by rw [r1, kT_V], r2⟩
    · obtain ⟨h', r1, r2⟩ := ky_no (d := d + 1) (L := L) (P := P) F1 5 (l.2.2.1 + 1)
      rw [pB_t c1, if_neg (show ¬ (1 : Int) = 0 by decide), if_neg (show ¬ l.2.2.2.1.1 = -1 by rw [c3]; omega)]
      refine ⟨h', by rw [q_4_32_7, r1, kT_V], ?_⟩
      rw [show l.2.2.2.1.1.toNat = l.2.2.1 + 1 by rw [c3]; omega]
      exact r2
  · have pj : (rpn V ch l).toNat < ch.2.1.length := by omega
    rw [if_neg y1, if_neg y1, C0.ob, o3]
    by_cases ny2 : ¬ rpn V ch l < ch.2.2.1
    · have y2 := ny2
      obtain ⟨h', r1, r2⟩ := ky_no (d := d + 1) (L := L) (P := P) F 4 l.2.2.1
      rw [if_neg y2, if_neg y2]
      exact ⟨h', by rw [q_4_32_5, r1, kT_V], r2⟩
    have y2 := Decidable.not_not.1 ny2
    rw [if_pos y2, if_pos y2, q_4_32_5, ky_ok, p_xV, N.2.1, p_w (by omega) (by omega), show (l.2.2.1 : Int) + 1 = ((l.2.2.1 + 1 : Nat) : Int) by omega, ← e1, kx_here (d := d + 2) N1, p_xI, if_neg y1, C0.ob, CB.r7, C0.a2, p_idx (by omega) (by omega)]
    have wj := cWs_at ch y1
    have we : (cWs V ch).getD (ffnd (V l.2.2.1) (cNm V ch) 0).toNat 1 = rwd V ch l := rfl
    rw [we, ← pe] at wj
    have wr := rwd_rg (V := V) ch l
    obtain ⟨h2, r2, N2, f2, v9, v10⟩ := ky_bits (d := d) (L := L) N1 E.2.1 E.2.2 rrx wr
    have f2' := f1.trans f2
    have x2 : kfx (83 + 7 * c0) h h2 := bt_fx f2'
    have F2 : kfy g h2 := F.trans (x2.y hb)
    have cv := rlo_rg (r := l.2.2.2.1) (w := rwd V ch l) (c_rng_v rrx E.2.2) wr
    rw [p8 _ _ wj, r2, p_xI]
    by_cases y3 : rok l.2.2.2.1 (rwd V ch l)
    · rw [pB_t y3, ky_ok, p_xV, v9, v10, p_w (x := rhi l.2.2.2.1 (rwd V ch l) - rlo l.2.2.2.1) (by omega) (by omega), p_w (by omega) (by omega), if_pos y3]
      have fe : rhi l.2.2.2.1 (rwd V ch l) - rlo l.2.2.2.1 + 1 = rn l.2.2.2.1 (rwd V ch l) := rfl
      rw [fe]
      by_cases y5 : rn l.2.2.2.1 (rwd V ch l) = wd
      · rw [if_pos y5, if_pos y5, ky_ok, p_xV]
        exact ⟨h2, rfl, N2, f2'⟩
      · obtain ⟨h', r1, r3⟩ := ky_no (d := d + 1) (L := L) (P := P) F2 5 l.2.2.1
        rw [if_neg y5, if_neg y5]
        exact ⟨h', by rw [r1, kT_V], r3⟩
    · obtain ⟨h', r1, r3⟩ := ky_no (d := d + 1) (L := L) (P := P) F2 5 (l.2.2.1 + 1)
      rw [pB_f y3, if_neg y3]
      refine ⟨h', by rw [r1, kT_V], ?_⟩
      have : l.2.2.2.1.1 ≠ -1 := fun z => y3 (by unfold rok rlo rhi; rw [if_pos z, if_pos z]; omega)
      rw [show l.2.2.2.1.1.toNat = l.2.2.1 + 1 by omega]
      exact r3
end
