/-! CHIPS, 40: the board: the component connects a part -/
theorem fill_s (S : Nat → Int) (a i : Nat) (f : Nat → Int) : p_set (fill S a i f) (a + i) (f i) = fill S a (i + 1) f := by
  funext x
  unfold p_set fill
  by_cases e : x = a + i
  · rw [if_pos e, if_pos (by omega), e, show a + i - a = i by omega]
  · rw [if_neg e]
    by_cases y : a ≤ x ∧ x < a + i
    · rw [if_pos y, if_pos (by omega)]
    · rw [if_neg y, if_neg (by omega)]
theorem fill_0 (S : Nat → Int) (a : Nat) (f : Nat → Int) : fill S a 0 f = S := by
  funext x; unfold fill; rw [if_neg (by omega)]
section
variable {d L : Nat} {K V P : Nat → Int} {Z c0 k : Nat} {chs : List cCh} {ch : cCh} {h h' : am_H}
/-- rows tell where bits lie -/
def rwP (r0 : Nat) (ws : List Int) (n β : Nat) (h : am_H) : Prop := ∀ j, j < n → h 207 (r0 + j) = ((β + wfl ws j : Nat) : Int)
def rwI (r0 : Nat) (X : Nat → Int) (n β : Nat) (h : am_H) : Prop := ∀ j, j < n → h 207 (r0 + j) = ((β + ism X j : Nat) : Int)
def cnC : List Nat := [196]
theorem zcn (f : p_fr [196] btF h h') : zfr h h' := fun c k hc => f c k (by simp; omega) (by unfold btF; simp; omega)
/-- the numbers of a link go into the row -/
theorem cb_9 {x9 x10 x11 x12 x13 x14 : Int} (X1 : am_R) (Ck : CB L (kb k)) (h3 : h (kb k) 3 = (kIp chs k : Int)) (hk36 : kb k ≠ 196) {a n : Nat} {f : Nat → Int} (hn : x11 = (n : Int)) (ha : a + n ≤ 40002) (hx : x13 = 0 ∧ x9 < kIp chs k ∧ x10 = (a : Int) ∧ (0 ≤ x14 ∧ x14 ≤ 40002) ∧ (∀ i : Nat, f i = x14 + (i : Int)) ∨ x13 = 0 ∧ ¬ x9 < kIp chs k ∧ x14 = (a : Int) ∧ (0 ≤ x10 ∧ x10 ≤ 40002) ∧ (∀ i : Nat, f i = x10 + (i : Int)) ∨ x13 ≠ 0 ∧ x10 = (a : Int) ∧ ∀ i : Nat, f i = if x12 = 4 then 1 else 0) (u3 u8 : Option am_V) (x4 x5 x6 : Int) : ∀ (m i : Nat) {h1 : am_H}, i + m = n → n ≤ 100 → h1 (kb k) 3 = (kIp chs k : Int) → h1 196 = fill (h 196) a i f → p_fr [196] [] h h1 → ∃ h', am_E (am_D d) m_2_10 (.inl 9) [some (am_r (am_a 195)), some (am_r X1), some (am_r (am_a (kb k))), u3, some (am_i x4), some (am_i x5), some (am_i x6), some (am_r (am_a 36)), u8, some (am_i x9), some (am_i x10), some (am_i x11), some (am_i x12), some (am_i x13), some (am_i x14), some (am_i (i : Int))] [] (zS L, h1) = am_E (am_D d) m_2_10 (.inl 9) [some (am_r (am_a 195)), some (am_r X1), some (am_r (am_a (kb k))), u3, some (am_i x4), some (am_i x5), some (am_i x6), some (am_r (am_a 36)), u8, some (am_i x9), some (am_i x10), some (am_i x11), some (am_i x12), some (am_i x13), some (am_i x14), some (am_i (n : Int))] [] (zS L, h') ∧ h' 196 = fill (h 196) a n f ∧ p_fr [196] [] h h'
  | 0, i, h1, hm, hn100, g3, e, fr => ⟨h1, by rw [show i = n by omega], by rw [show n = i by omega]; exact e, fr⟩
  | m + 1, i, h1, hm, hn100, g3, e, fr => by
    have up : ∀ v : Int, v = f i → am_up h1 196 (a + i) v 196 = fill (h 196) a (i + 1) f := fun v hv => by
      rw [p_up_f, e, hv, fill_s]
    have fr2 : ∀ v : Int, p_fr [196] [] h (am_up h1 196 (a + i) v) := fun v => fr.upc _ _ _ rfl
    have nx : ∀ v : Int, v = f i → ∃ h', am_E (am_D d) m_2_10 (.inl 9) [some (am_r (am_a 195)), some (am_r X1), some (am_r (am_a (kb k))), u3, some (am_i x4), some (am_i x5), some (am_i x6), some (am_r (am_a 36)), u8, some (am_i x9), some (am_i x10), some (am_i x11), some (am_i x12), some (am_i x13), some (am_i x14), some (am_i (am_w ((i : Int) + 1)))] [] (zS L, am_up h1 196 (a + i) v) = am_E (am_D d) m_2_10 (.inl 9) [some (am_r (am_a 195)), some (am_r X1), some (am_r (am_a (kb k))), u3, some (am_i x4), some (am_i x5), some (am_i x6), some (am_r (am_a 36)), u8, some (am_i x9), some (am_i x10), some (am_i x11), some (am_i x12), some (am_i x13), some (am_i x14), some (am_i (n : Int))] [] (zS L, h') ∧ h' 196 = fill (h 196) a n f ∧ p_fr [196] [] h h' := fun v hv => by
      rw [p_w (by omega) (by omega)]
      exact cb_9 X1 Ck h3 hk36 hn ha hx u3 u8 x4 x5 x6 m (i + 1) (by omega) hn100 (by rw [p_up_c _ _ _ _ _ hk36]; exact g3) (up v hv) (fr2 v)
    rw [q_2_10_9, if_pos (by omega)]
    rcases hx with ⟨y1, y2, y3, y4, y5⟩ | ⟨y1, y2, y3, y4, y5⟩ | ⟨y1, y3, y5⟩
    · rw [if_pos y1, Ck.ob, g3, if_pos y2, y3, p_w (x := (a : Int) + (i : Int)) (by omega) (by omega), p_idx (by omega) (by omega), show ((a : Int) + (i : Int)).toNat = a + i by omega, p_w (x := x14 + (i : Int)) (by omega) (by omega)]
      rw [y3] at nx
      exact nx _ (y5 i).symm
    · rw [if_pos y1, Ck.ob, g3, if_neg y2, y3, p_w (x := (a : Int) + (i : Int)) (by omega) (by omega), p_idx (by omega) (by omega), show ((a : Int) + (i : Int)).toNat = a + i by omega, p_w (x := x10 + (i : Int)) (by omega) (by omega)]
      rw [y3] at nx
      exact nx _ (y5 i).symm
    · rw [if_neg y1, y3, p_w (x := (a : Int) + (i : Int)) (by omega) (by omega), p_idx (by omega) (by omega), show ((a : Int) + (i : Int)).toNat = a + i by omega]
      rw [y3] at nx
      by_cases y : x12 = 4
      · rw [if_pos y]
        exact nx _ (by rw [y5 i, if_pos y])
      · rw [if_neg y, p_idx (by omega) (by omega), show ((a : Int) + (i : Int)).toNat = a + i by omega]
        exact nx _ (by rw [y5 i, if_neg y])
/-- a link -/
theorem cb_lnk (hc : chs[c0]? = some ch) (hk : k < 2 + chs.length) (E : kEx K V Z) (S : kZ K V P Z chs h) {l : cLk} (N : kN K V P Z l.1 h) (T : lkT K V l) (hn : cSg K V 44 l.2.2.2.2 ∨ cSg K V 41 l.2.2.2.2) (H : lkP K V chs k ch l) (hin : ch.2.2.1 ≤ ch.2.1.length) (hv0 : 0 ≤ l.2.1.2.1 ∧ l.2.1.2.1 ≤ 99 ∧ 0 ≤ l.2.1.2.2 ∧ l.2.1.2.2 ≤ 99) (hv1 : 0 ≤ l.2.2.2.1.2.1 ∧ l.2.2.2.1.2.1 ≤ 99 ∧ 0 ≤ l.2.2.2.1.2.2 ∧ l.2.2.2.1.2.2 ≤ 99) {rp ri rf pb ob : Nat} (hrp : rp + 12 ≤ 1904) (hri : ri + 100 ≤ 1904) (hrf : rf + 12 ≤ 1904) (R1 : rwP rf (kWd V chs k) (kNm V chs k).length pb h) (R2 : rwP rp (cWs V ch) ch.2.1.length ob h) (R3 : rwI ri (cIW K V chs ch) ch.2.2.2.2.length (ob + wsm V ch.2.1) h) (hpb : pb + pbt V chs k ≤ 40002) (hob : ob + ownx K V chs ch ≤ 40002) (u3 u9 u10 u11 u12 u13 u14 u15 : Option am_V) : ∃ h' w9 w10 w11 w12 w13 w14 w15, am_E (am_D (d + 3)) m_2_10 (.inl 1) [some (am_r (am_a 195)), some (am_r (am_a (83 + 7 * c0))), some (am_r (am_a (kb k))), u3, some (am_i (rp : Int)), some (am_i (ri : Int)), some (am_i (rf : Int)), some (am_r (am_a 36)), some (am_i 1), u9, u10, u11, u12, u13, u14, u15] [] (zS L, h) = am_E (am_D (d + 3)) m_2_10 (.inl 1) [some (am_r (am_a 195)), some (am_r (am_a (83 + 7 * c0))), some (am_r (am_a (kb k))), u3, some (am_i (rp : Int)), some (am_i (ri : Int)), some (am_i (rf : Int)), some (am_r (am_a 36)), some (am_i (pB (cSg K V 44 l.2.2.2.2))), w9, w10, w11, w12, w13, w14, w15] [] (zS L, h') ∧ kN K V P Z (l.2.2.2.2 + 1) h' ∧ h' 196 = lnk K V chs 0 1 pb ob k ch l (h 196) ∧ p_fr [196] btF h h' := by
  have z2 := N.1.1.1
  have G16 := S.1.2.1.1.2
  have hcl := (List.getElem?_eq_some_iff.1 hc).1
  have Ck := CB_k L (show k < 18 by omega)
  have C0 := CB_c L c0 (by omega)
  obtain ⟨⟨g1, g2⟩, g3, g4⟩ := S.1.2.1.2.1 k hk
  have rg := lkT_rg N.1.1 T N.2.2.1
  obtain ⟨rrx, rk'⟩ := lkT_r T hn
  have T' := T
  obtain ⟨t1, q, t2, t3, t4, -⟩ := T'
  obtain ⟨L1, L2, L3, L4, L5, L6, L7, L8⟩ := lof_rg H hv0.1
  have H' := H
  obtain ⟨⟨p0, p1⟩, rk1, Hr⟩ := H'
  have nz : l.2.2.2.2 < Z := by
    rcases hn with y | y
    · exact N.1.1.lt rg.2.2.1 (by rw [y.1]; omega)
    · exact N.1.1.lt rg.2.2.1 (by rw [y.1]; omega)
  have lp : lpn V chs k l = ffnd (V l.1) (kNm V chs k) 0 := rfl
  have wr := lwd_rg (V := V) (chs := chs) k l
  have wj : (kWd V chs k)[(lpn V chs k l).toNat]? = some (lwd V chs k l) := by
    unfold lwd
    rw [List.getD_eq_getElem?_getD]
    have : (lpn V chs k l).toNat < (kWd V chs k).length := by rw [kWd_len]; omega
    rw [List.getElem?_eq_getElem this]; rfl
  have cv := rlo_rg (r := l.2.1) (w := lwd V chs k l) hv0 wr
  have kb196 : kb k ≠ 196 := by rcases kb_lo k with z | z | ⟨c, z1, z2⟩ <;> omega
  have kb36 : kb k ≠ 36 := by rcases kb_lo k with z | z | ⟨c, z1, z2⟩ <;> omega
  rw [q_2_10_1, if_neg (by decide), kx_val (d := d + 2) N, p_xI, Ck.ob, kx_pin (d := d + 2) Ck (V l.1) g2 g1 g4, p_xI, ← lp, N.2.1, p_w (x := (l.1 : Int) + 1) (by omega) (by omega), show (l.1 : Int) + 1 = ((l.1 + 1 : Nat) : Int) by omega]
  obtain ⟨h1, e1⟩ : ∃ h1, h1 = am_up h 36 5 ((l.1 + 1 : Nat) : Int) := ⟨_, rfl⟩
  rw [← e1]
  have f1 : p_fr [] btF h h1 := by rw [e1]; exact (p_fr.refl h).upf _ _ _ rfl
  have N1 : kN K V P Z (l.1 + 1) h1 := by rw [e1]; exact N.mv (by omega) (E.2.1 _ (by omega))
  have S1 := S.fr (zcn (f1.mono rfl rfl))
  obtain ⟨h2, r2, N2, f2, v9, v10⟩ := ky_bits (d := d) (L := L) N1 E.2.1 E.2.2 t2 wr
  have f2' := f1.trans f2
  have row : h2 207 (rf + (lpn V chs k l).toNat) = ((pb + wfl (kWd V chs k) (lpn V chs k l).toNat : Nat) : Int) := by rw [f2'.cell 207 rfl rfl]; exact R1 _ (by omega)
  rw [Ck.ob, CB.r7, Ck.a2, p_idx (by omega) (by omega), S1.1.2.2 k hk _ _ wj, r2, p_xI, p_w (x := (rf : Int) + lpn V chs k l) (by omega) (by omega), p_idx (by omega) (by omega), show ((rf : Int) + lpn V chs k l).toNat = rf + (lpn V chs k l).toNat by omega, row, v9, v10, N2.2.1, p_w (x := (q : Int) + 1) (by omega) (by omega), show (q : Int) + 1 = ((l.2.2.1 : Nat) : Int) by omega]
  obtain ⟨h3, e3⟩ : ∃ h3, h3 = am_up h2 36 5 ((l.2.2.1 : Nat) : Int) := ⟨_, rfl⟩
  rw [← e3]
  have f3 : p_fr [] btF h h3 := by rw [e3]; exact f2'.upf _ _ _ rfl
  have N3 : kN K V P Z l.2.2.1 h3 := by rw [e3]; exact N2.mv (by omega) (E.2.1 _ (by omega))
  have S3 := S.fr (zcn (f3.mono rfl rfl))
  have lofe : lof V chs k l = wfl (kWd V chs k) (lpn V chs k l).toNat + (rlo l.2.1).toNat := rfl
  rw [kx_val (d := d + 2) N3, p_xI, kx_kind (d := d + 2) N3, p_xI, p_w (x := ((pb + wfl (kWd V chs k) (lpn V chs k l).toNat : Nat) : Int) + rlo l.2.1) (by omega) (by omega), show ((pb + wfl (kWd V chs k) (lpn V chs k l).toNat : Nat) : Int) + rlo l.2.1 = ((pb + lof V chs k l : Nat) : Int) by omega, p_w (x := rhi l.2.1 (lwd V chs k l) - rlo l.2.1) (by omega) (by omega), p_w (x := rhi l.2.1 (lwd V chs k l) - rlo l.2.1 + 1) (by omega) (by omega), show rhi l.2.1 (lwd V chs k l) - rlo l.2.1 + 1 = ((lcn V chs k l : Nat) : Int) by rw [L5]; rfl]
  obtain ⟨h4, e4⟩ : ∃ h4, h4 = am_up h3 36 5 ((l.2.2.1 + 1 : Nat) : Int) := ⟨_, rfl⟩
  have f4 : p_fr [] btF h h4 := by rw [e4]; exact f3.upf _ _ _ rfl
  have N4 : kN K V P Z (l.2.2.1 + 1) h4 := by rw [e4]; exact N3.mv (by omega) (E.2.1 _ (by omega))
  have S4 := S.fr (zcn (f4.mono rfl rfl))
  have at4 : am_w (h3 36 5 + 1) = ((l.2.2.1 + 1 : Nat) : Int) := by rw [N3.2.1, p_w (by omega) (by omega)]; omega
  -- the end of a link
  have fin : ∀ {h5 : am_H} (x13 x14 : Int) (a : Nat) (f : Nat → Int) (u8 u9' : Option am_V), kN K V P Z l.2.2.2.2 h5 → p_fr [] btF h h5 → a + lcn V chs k l ≤ 40002 → (x13 = 0 ∧ lpn V chs k l < kIp chs k ∧ ((pb + lof V chs k l : Nat) : Int) = (a : Int) ∧ (0 ≤ x14 ∧ x14 ≤ 40002) ∧ (∀ i : Nat, f i = x14 + (i : Int)) ∨ x13 = 0 ∧ ¬ lpn V chs k l < kIp chs k ∧ x14 = (a : Int) ∧ (0 ≤ ((pb + lof V chs k l : Nat) : Int) ∧ ((pb + lof V chs k l : Nat) : Int) ≤ 40002) ∧ (∀ i : Nat, f i = ((pb + lof V chs k l : Nat) : Int) + (i : Int)) ∨ x13 ≠ 0 ∧ ((pb + lof V chs k l : Nat) : Int) = (a : Int) ∧ ∀ i : Nat, f i = if V l.2.2.1 = 4 then 1 else 0) → fill (h 196) a (lcn V chs k l) f = lnk K V chs 0 1 pb ob k ch l (h 196) → ∃ h' w9 w10 w11 w12 w13 w14 w15, am_E (am_D (d + 3)) m_2_10 (.inl 9) [some (am_r (am_a 195)), some (am_r (am_a (83 + 7 * c0))), some (am_r (am_a (kb k))), u3, some (am_i (rp : Int)), some (am_i (ri : Int)), some (am_i (rf : Int)), some (am_r (am_a 36)), u8, some (am_i (lpn V chs k l)), some (am_i ((pb + lof V chs k l : Nat) : Int)), some (am_i ((lcn V chs k l : Nat) : Int)), some (am_i (V l.2.2.1)), some (am_i x13), some (am_i x14), some (am_i 0)] [] (zS L, h5) = am_E (am_D (d + 3)) m_2_10 (.inl 1) [some (am_r (am_a 195)), some (am_r (am_a (83 + 7 * c0))), some (am_r (am_a (kb k))), u3, some (am_i (rp : Int)), some (am_i (ri : Int)), some (am_i (rf : Int)), some (am_r (am_a 36)), some (am_i (pB (cSg K V 44 l.2.2.2.2))), w9, w10, w11, w12, w13, w14, w15] [] (zS L, h') ∧ kN K V P Z (l.2.2.2.2 + 1) h' ∧ h' 196 = lnk K V chs 0 1 pb ob k ch l (h 196) ∧ p_fr [196] btF h h' := by
    intro h5 x13 x14 a f u8 u9' N5 f5 ha hx hfe
    have e196 : h5 196 = h 196 := f5.cell 196 rfl rfl
    have k3 : h5 (kb k) 3 = (kIp chs k : Int) := by rw [f5 _ _ rfl (by unfold btF; simp [kb36])]; exact g3
    obtain ⟨h6, r6, a6, f6⟩ := cb_9 (d := d + 3) (L := L) (h := h5) (am_a (83 + 7 * c0)) Ck k3 kb196 (n := lcn V chs k l) (f := f) rfl ha hx u3 u8 (rp : Int) (ri : Int) (rf : Int) (lcn V chs k l) 0 (h1 := h5) (by omega) (by omega) k3 (by rw [fill_0]) (p_fr.refl h5)
    rw [show ((0 : Nat) : Int) = 0 from rfl] at r6
    have N6 : kN K V P Z l.2.2.2.2 h6 := ⟨N5.1.fr (f6.cell 78 rfl rfl) (f6.cell 79 rfl rfl) (f6.cell 80 rfl rfl), by rw [f6 36 5 rfl rfl]; exact N5.2.1, N5.2.2⟩
    rw [r6, q_2_10_9, if_neg (by omega), kx_isSign (d := d + 1) N6 44, p_xI, N6.2.1, p_w (by omega) (by omega), show (l.2.2.2.2 : Int) + 1 = ((l.2.2.2.2 + 1 : Nat) : Int) by omega]
    have f7 : p_fr [196] btF h (am_up h6 36 5 ((l.2.2.2.2 + 1 : Nat) : Int)) := ((f5.mono rfl rfl).trans (f6.mono rfl rfl)).upf _ _ _ rfl
    refine ⟨_, _, _, _, _, _, _, _, rfl, N6.mv (by omega) (E.2.1 _ (by omega)), ?_, f7⟩
    rw [p_up_c _ _ _ _ _ (by decide), a6, e196, hfe]
  rcases rk' with kr | ⟨kr, kr2, kr3⟩
  · -- a name
    obtain ⟨o1, -, o3⟩ := rof_rg H hv0.1 hv1.1 hin kr
    rw [if_neg (show ¬ K l.2.2.1 = 1 by rw [kr]; decide), q_2_10_4, if_pos rfl, at4, ← e4]
    obtain ⟨w1, w2, w3, w4, w5, w6, w7, w8⟩ := ky_own (d := d + 2) (L := L) hc S4.1
    have pe : rpn V ch l = ffnd (V l.2.2.1) (cNm V ch) 0 := rfl
    have re : rin V ch l = ffnd (V l.2.2.1) (cIn V ch) 0 := rfl
    rw [C0.ob, w1, p_xI, ← pe]
    have f4e : ∀ j, h4 207 j = h 207 j := fun j => by rw [f4.cell 207 rfl rfl]
    -- the effect
    have eff : ∀ (y : Int), y = ((ob + rof K V chs ch l : Nat) : Int) → ∃ (a : Nat) (f : Nat → Int), a + lcn V chs k l ≤ 40002 ∧ ((0 : Int) = 0 ∧ lpn V chs k l < kIp chs k ∧ ((pb + lof V chs k l : Nat) : Int) = (a : Int) ∧ (0 ≤ y ∧ y ≤ 40002) ∧ (∀ i : Nat, f i = y + (i : Int)) ∨ (0 : Int) = 0 ∧ ¬ lpn V chs k l < kIp chs k ∧ y = (a : Int) ∧ (0 ≤ ((pb + lof V chs k l : Nat) : Int) ∧ ((pb + lof V chs k l : Nat) : Int) ≤ 40002) ∧ (∀ i : Nat, f i = ((pb + lof V chs k l : Nat) : Int) + (i : Int)) ∨ (0 : Int) ≠ 0 ∧ ((pb + lof V chs k l : Nat) : Int) = (a : Int) ∧ ∀ i : Nat, f i = if V l.2.2.1 = 4 then 1 else 0) ∧ fill (h 196) a (lcn V chs k l) f = lnk K V chs 0 1 pb ob k ch l (h 196) := by
      intro y hy
      unfold lnk
      rw [if_pos kr]
      by_cases z : lpn V chs k l < kIp chs k
      · rw [if_pos z]
        exact ⟨_, _, by omega, Or.inl ⟨rfl, z, rfl, by omega, fun i => by rw [hy]; show ((ob + rof K V chs ch l + i : Nat) : Int) = _; omega⟩, rfl⟩
      · rw [if_neg z]
        exact ⟨_, _, by omega, Or.inr (Or.inl ⟨rfl, z, hy, by omega, fun i => by show ((pb + lof V chs k l + i : Nat) : Int) = _; omega⟩), rfl⟩
    rcases Hr with ⟨z, -⟩ | ⟨-, z⟩
    · rw [kr] at z; exact absurd z (by decide)
    rcases z with ⟨z1, ⟨z2', z3⟩, z4, z5⟩ | ⟨⟨z1, z3⟩, z4, z5, z6⟩
    · have rofe : rof K V chs ch l = wsm V ch.2.1 + ism (cIW K V chs ch) (rin V ch l).toNat := by unfold rof; rw [if_pos z1]
      obtain ⟨a, f, x1, x2, x3⟩ := eff _ rfl
      rcases c_rng_c rrx with ⟨c1, c2, c3⟩ | ⟨c1, c2, c3, -⟩
      · rw [if_pos z1, C0.ob, w2, p_xI, ← re, p_w (x := (ri : Int) + rin V ch l) (by omega) (by omega), p_idx (by omega) (by omega), show ((ri : Int) + rin V ch l).toNat = ri + (rin V ch l).toNat by omega, f4e, R3 _ (by omega), q_2_10_7, if_pos rfl, C0.ob, w1, p_xI, ← pe, if_pos z1, show ((ob + wsm V ch.2.1 + ism (cIW K V chs ch) (rin V ch l).toNat : Nat) : Int) = ((ob + rof K V chs ch l : Nat) : Int) by rw [rofe]; omega]
        rw [← c3] at N4
        exact fin 0 _ a f _ none N4 f4 x1 x2 x3
      · rw [c3] at z4; omega
    · have wr2 := rwd_rg (V := V) ch l
      have cv2 := rlo_rg (r := l.2.2.2.1) (w := rwd V ch l) hv1 wr2
      have wj2 := cWs_at (V := V) ch (v := V l.2.2.1) (by rw [← pe]; omega)
      have we2 : (cWs V ch).getD (ffnd (V l.2.2.1) (cNm V ch) 0).toNat 1 = rwd V ch l := rfl
      rw [we2, ← pe] at wj2
      obtain ⟨h5, r5, N5, f5, v9', v10'⟩ := ky_bits (d := d) (L := L) N4 E.2.1 E.2.2 rrx wr2
      have rofe : rof K V chs ch l = wfl (cWs V ch) (rpn V ch l).toNat + (rlo l.2.2.2.1).toNat := by unfold rof; rw [if_neg (by omega)]
      obtain ⟨a, f, x1, x2, x3⟩ := eff _ rfl
      rw [if_neg (by omega), C0.ob, w1, p_xI, ← pe, p_w (x := (rp : Int) + rpn V ch l) (by omega) (by omega), p_idx (by omega) (by omega), show ((rp : Int) + rpn V ch l).toNat = rp + (rpn V ch l).toNat by omega, f4e, R2 _ (by omega), q_2_10_7, if_pos rfl, C0.ob, w1, p_xI, ← pe, if_neg (by omega), C0.ob, C0.ob, w1, p_xI, ← pe, CB.r7, C0.a2, p_idx (by omega) (by omega), w8 _ _ wj2, r5, p_xI, v9', p_w (by omega) (by omega), show ((ob + wfl (cWs V ch) (rpn V ch l).toNat : Nat) : Int) + rlo l.2.2.2.1 = ((ob + rof K V chs ch l : Nat) : Int) by rw [rofe]; omega]
      exact fin 0 _ a f _ none N5 (f4.trans f5) x1 x2 x3
  · -- a word
    rw [if_pos kr, q_2_10_2, q_2_10_4, if_neg (by decide), at4, ← e4, q_2_10_7, if_neg (by decide)]
    rw [← kr3] at N4
    refine fin 1 _ (pb + lof V chs k l) (fun _ => if V l.2.2.1 = 4 then 1 else 0) _ none N4 f4 (by omega) (Or.inr (Or.inr ⟨by decide, rfl, fun _ => rfl⟩)) ?_
    unfold lnk
    rw [if_neg (show ¬ K l.2.2.1 = 2 by rw [kr]; decide)]
theorem cb_lnks (hc : chs[c0]? = some ch) (hk : k < 2 + chs.length) (E : kEx K V Z) (hin : ch.2.2.1 ≤ ch.2.1.length) {rp ri rf pb ob e : Nat} (hrp : rp + 12 ≤ 1904) (hri : ri + 100 ≤ 1904) (hrf : rf + 12 ≤ 1904) (hpb : pb + pbt V chs k ≤ 40002) (hob : ob + ownx K V chs ch ≤ 40002) (he : cSg K V 41 e) (u3 : Option am_V) : ∀ (ls : List cLk) {i : Nat} {h : am_H} (u9 u10 u11 u12 u13 u14 u15 : Option am_V), kZ K V P Z chs h → kN K V P Z i h → lksT K V ls i e → (∀ l ∈ ls, lkP K V chs k ch l ∧ (0 ≤ l.2.1.2.1 ∧ l.2.1.2.1 ≤ 99 ∧ 0 ≤ l.2.1.2.2 ∧ l.2.1.2.2 ≤ 99) ∧ 0 ≤ l.2.2.2.1.2.1 ∧ l.2.2.2.1.2.1 ≤ 99 ∧ 0 ≤ l.2.2.2.1.2.2 ∧ l.2.2.2.1.2.2 ≤ 99) → rwP rf (kWd V chs k) (kNm V chs k).length pb h → rwP rp (cWs V ch) ch.2.1.length ob h → rwI ri (cIW K V chs ch) ch.2.2.2.2.length (ob + wsm V ch.2.1) h → ∃ h', am_E (am_D (d + 3)) m_2_10 (.inl 1) [some (am_r (am_a 195)), some (am_r (am_a (83 + 7 * c0))), some (am_r (am_a (kb k))), u3, some (am_i (rp : Int)), some (am_i (ri : Int)), some (am_i (rf : Int)), some (am_r (am_a 36)), some (am_i 1), u9, u10, u11, u12, u13, u14, u15] [] (zS L, h) = pV L h' ∧ h' 196 = lnks K V chs 0 1 pb ob k ch ls (h 196) ∧ p_fr [196] btF h h'
  | [], i, h, u9, u10, u11, u12, u13, u14, u15, S, N, T, hl, R1, R2, R3 => False.elim T
  | l :: ls, i, h, u9, u10, u11, u12, u13, u14, u15, S, N, T, hl, R1, R2, R3 => by
    obtain ⟨t1, t2, t3⟩ := T
    obtain ⟨p1, p2, p3⟩ := hl l (List.mem_cons_self ..)
    have hn : cSg K V 44 l.2.2.2.2 ∨ cSg K V 41 l.2.2.2.2 := by
      rcases t3 with ⟨z1, z2, z3⟩ | ⟨z1, -⟩
      · right; rw [← z3]; exact he
      · exact Or.inl z1
    rw [← t1] at N
    obtain ⟨h1, w9, w10, w11, w12, w13, w14, w15, r1, N1, a1, f1⟩ := cb_lnk (d := d) (L := L) hc hk E S N t2 hn p1 hin p2 p3 hrp hri hrf R1 R2 R3 hpb hob u3 u9 u10 u11 u12 u13 u14 u15
    rw [r1]
    rcases t3 with ⟨z1, z3, z4⟩ | ⟨z1, z3⟩
    · rw [pB_f z3, q_2_10_1, if_pos rfl, z1]
      exact ⟨h1, rfl, a1, f1⟩
    · rw [pB_t z1]
      have e7 : h1 207 = h 207 := f1.cell 207 rfl rfl
      obtain ⟨h2, r2, a2, f2⟩ := cb_lnks hc hk E hin hrp hri hrf hpb hob he u3 ls w9 w10 w11 w12 w13 w14 w15 (S.fr (zcn f1)) N1 z3 (fun l' hl' => hl l' (List.mem_cons_of_mem _ hl')) (by unfold rwP; rw [e7]; exact R1) (by unfold rwP; rw [e7]; exact R2) (by unfold rwI; rw [e7]; exact R3)
      refine ⟨h2, r2, ?_, f1.trans f2⟩
      rw [a2, a1]; rfl
/-- connect() -/
theorem cb_conn (hc : chs[c0]? = some ch) (hk : k < 2 + chs.length) (E : kEx K V Z) (hin : ch.2.2.1 ≤ ch.2.1.length) {rp ri rf pb ob : Nat} (hrp : rp + 12 ≤ 1904) (hri : ri + 100 ≤ 1904) (hrf : rf + 12 ≤ 1904) (hpb : pb + pbt V chs k ≤ 40002) (hob : ob + ownx K V chs ch ≤ 40002) {q : Nat × List cLk} (hqt : (q.1 + 2 ≤ Z ∧ K q.1 = 2) ∧ ∃ j, lksT K V q.2 (q.1 + 2) j ∧ cSg K V 41 j) (S : kZ K V P Z chs h) (hl : ∀ l ∈ q.2, lkP K V chs k ch l ∧ (0 ≤ l.2.1.2.1 ∧ l.2.1.2.1 ≤ 99 ∧ 0 ≤ l.2.1.2.2 ∧ l.2.1.2.2 ≤ 99) ∧ 0 ≤ l.2.2.2.1.2.1 ∧ l.2.2.2.1.2.1 ≤ 99 ∧ 0 ≤ l.2.2.2.1.2.2 ∧ l.2.2.2.1.2.2 ≤ 99) (R1 : rwP rf (kWd V chs k) (kNm V chs k).length pb h) (R2 : rwP rp (cWs V ch) ch.2.1.length ob h) (R3 : rwI ri (cIW K V chs ch) ch.2.2.2.2.length (ob + wsm V ch.2.1) h) : ∃ h', am_D (d + 4) 2 10 [am_r (am_a 195), am_r (am_a (83 + 7 * c0)), am_r (am_a (kb k)), am_i ((q.1 + 2 : Nat) : Int), am_i (rp : Int), am_i (ri : Int), am_i (rf : Int)] (zS L, h) = pV L h' ∧ h' 196 = lnks K V chs 0 1 pb ob k ch q.2 (h 196) ∧ p_fr [196] btF h h' := by
  obtain ⟨⟨q1, q2⟩, e, q3, q4⟩ := hqt
  have z2 := S.1.1.1.1
  obtain ⟨h1, e1⟩ : ∃ h1, h1 = am_up h 36 5 ((q.1 + 2 : Nat) : Int) := ⟨_, rfl⟩
  have f1 : p_fr [196] btF h h1 := by rw [e1]; exact (p_fr.refl h).upf _ _ _ rfl
  have S1 := S.fr (zcn f1)
  have N1 : kN K V P Z (q.1 + 2) h1 := ⟨S1.1.1, by rw [e1, p_up_s], q1, E.2.1 _ q1⟩
  have e7 : h1 207 = h 207 := f1.cell 207 rfl rfl
  obtain ⟨h2, r2, a2, f2⟩ := cb_lnks (d := d) (L := L) hc hk E hin hrp hri hrf hpb hob q4 (some (am_i ((q.1 + 2 : Nat) : Int))) q.2 none none none none none none none S1 N1 q3 hl (by unfold rwP; rw [e7]; exact R1) (by unfold rwP; rw [e7]; exact R2) (by unfold rwI; rw [e7]; exact R3)
  rw [D_2_10, ← e1]
  refine ⟨h2, r2, ?_, f1.trans f2⟩
  rw [a2, e1, p_up_c _ _ _ _ _ (by decide)]
end
