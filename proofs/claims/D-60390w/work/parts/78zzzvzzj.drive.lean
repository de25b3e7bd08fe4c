/-! CHIPS, 62: the board: drive, pin -/
/-- the board on both sides -/
def BX (h : am_H) : Prop := ∃ (c np ni P0 G Bt ib : Nat) (ws : List Int) (o ra rb oM : Nat → Nat) (sa sb lev lev' : Nat → Int) (R : Nat → Nat → Prop) (zc zm : Nat → Prop) (ord ord' : List Nat), BNx c np ni P0 G Bt ib ws o ra rb oM sa sb lev lev' R zc zm ord ord' h ∧ VRx Bt ib o oM R zc zm (h 197) (h 363) ∧ h 195 17 = h 254 173
def BR (h : am_H) : Prop := (0 ≤ h 254 174 ∧ h 254 174 ≤ 15) ∧ h 1 24 = h 254 152 ∧ (h 1 24 = 0 ∨ h 1 24 = 1 ∧ BX h)
section
variable {d e L : Nat} {c np ni P0 G Bt ib : Nat} {ws : List Int} {o ra rb oM : Nat → Nat} {sa sb lev lev' : Nat → Int} {R : Nat → Nat → Prop} {zc zm : Nat → Prop} {ord ord' : List Nat} {h h' : am_H}
theorem bn_dec (B : BNp c np ni P0 Bt ib ws h) : am_dec (h 195 18) = am_a (83 + 7 * c) := by
  unfold am_dec
  rw [B.2.1.1, if_neg (by omega), show (((84 + 7 * c : Nat) : Int) - 1).toNat = 83 + 7 * c by omega]
/-- isPin -/
theorem bn_isPin (B : BNp c np ni P0 Bt ib ws h) (eb : h 1 24 = 1) (k : Int) : am_D (d + 1) 0 18 [am_r (am_a 1), am_i k, am_i 0] (zS L, h) = pI L (if 0 ≤ k ∧ k < ni then 1 else 0) h ∧ am_D (d + 1) 0 18 [am_r (am_a 1), am_i k, am_i 1] (zS L, h) = pI L (if 0 ≤ k ∧ k + ni < np then 1 else 0) h := by
  have C0 := CB_c L c B.1.1
  have dc := bn_dec B
  have l12 := B.1.2.1
  have b3 := B.2.1.2.1
  have b4 := B.2.1.2.2.1
  refine ⟨?_, ?_⟩
  · rw [D_0_18, eb, if_neg (by decide)]
    by_cases z : k < 0
    · rw [if_pos z, p_bit0, if_neg (by omega)]
    · rw [if_neg z, if_pos rfl, dc, C0.ob, b4]
      by_cases w : k < (ni : Int)
      · rw [if_pos w, p_bit1, if_pos (by omega)]
      · rw [if_neg w, p_bit0, if_neg (by omega)]
  · rw [D_0_18, eb, if_neg (by decide)]
    by_cases z : k < 0
    · rw [if_pos z, p_bit0, if_neg (by omega)]
    · rw [if_neg z, if_neg (by decide), dc, C0.ob, C0.ob, b3, b4, p_w (by omega) (by omega)]
      by_cases w : k < (np : Int) - (ni : Int)
      · rw [if_pos w, p_bit1, if_pos (by omega)]
      · rw [if_neg w, p_bit0, if_neg (by omega)]
theorem wfl_s (k : Nat) : wfl ws (k + 1) = wfl ws k + (ws.getD k 1).toNat := rfl
/-- the component drives -/
theorem bd_c (B : BNx c np ni P0 G Bt ib ws o ra rb oM sa sb lev lev' R zc zm ord ord' h) {k : Nat} (hk : k < np) (v : Int) : ∀ (m i : Nat) {h1 : am_H}, i + m = (ws.getD k 1).toNat → h1 197 = fill (h 197) (2 + wfl ws k) i (fun t => am_and (am_shr v (t : Int)) 1) → p_fr [197] [] h h1 → ∃ h', am_E (am_D (d + 1)) m_2_13 (.inl 1) [some (am_r (am_a 195)), some (am_i (k : Int)), some (am_i v), some (am_i (i : Int))] [] (zS L, h1) = pV L h' ∧ h' 197 = stl o (fC ra rb) ord (fill (h 197) (2 + wfl ws k) (ws.getD k 1).toNat (fun t => am_and (am_shr v (t : Int)) 1)) ∧ p_fr [197] [] h h'
  | 0, i, h1, hm, X, f => by
    have f' : p_fr bwC bwF h h1 := f.mono rfl rfl
    have B1 := B.fr f'
    have C0 := CB_c L c B.1.1.1
    have l12 := B.1.1.2.1
    have wr := ws_rg B.1 k
    obtain ⟨h2, r2, a2, f2⟩ := bn_cset (d := d) (L := L) B1
    rw [q_2_13_1, bn_dec B1.1, C0.ob, CB.r7, C0.a2, p_idx (by omega) (by omega), Int.toNat_natCast, (B1.1.2.1.2.2.2 k hk).1, if_neg (by omega), r2, p_xV]
    exact ⟨h2, rfl, by rw [a2, X, show (ws.getD k 1).toNat = i by omega], f.trans f2⟩
  | m + 1, i, h1, hm, X, f => by
    have f' : p_fr bwC bwF h h1 := f.mono rfl rfl
    have B1 := B.fr f'
    have C0 := CB_c L c B.1.1.1
    have l12 := B.1.1.2.1
    have wr := ws_rg B.1 k
    have wb := wfl_rg B.1 k (by omega)
    have next : ∀ b : Int, b = am_and (am_shr v (i : Int)) 1 → ∃ h', am_E (am_D (d + 1)) m_2_13 (.inl 1) [some (am_r (am_a 195)), some (am_i (k : Int)), some (am_i v), some (am_i ((i : Int) + 1))] [] (zS L, am_up h1 197 (2 + wfl ws k + i) b) = pV L h' ∧ h' 197 = stl o (fC ra rb) ord (fill (h 197) (2 + wfl ws k) (ws.getD k 1).toNat (fun t => am_and (am_shr v (t : Int)) 1)) ∧ p_fr [197] [] h h' := fun b hb =>
      bd_c B hk v m (i + 1) (by omega) (by rw [p_up_f, X, hb]; exact fill_s (h 197) (2 + wfl ws k) i (fun t => am_and (am_shr v (t : Int)) 1)) (f.upc _ _ _ rfl)
    have a01 : am_and (am_shr v (i : Int)) 1 = 0 ∨ am_and (am_shr v (i : Int)) 1 = 1 := by rw [p_and1]; omega
    rw [q_2_13_1, bn_dec B1.1, C0.ob, CB.r7, C0.a2, p_idx (by omega) (by omega), Int.toNat_natCast, (B1.1.2.1.2.2.2 k hk).1, if_pos (by omega), p_idx (by omega) (by omega), Int.toNat_natCast, (B1.1.2.1.2.2.2 k hk).2, p_w (x := ((2 + wfl ws k : Nat) : Int) + (i : Int)) (by omega) (by omega), p_w (x := (i : Int) + 1) (by omega) (by omega), p_idx (by omega) (by omega), p_idx (by omega) (by omega), show (((2 + wfl ws k : Nat) : Int) + (i : Int)).toNat = 2 + wfl ws k + i by omega]
    by_cases z : am_and (am_shr v (i : Int)) 1 = 1
    · rw [if_pos z, p_bit1]
      exact next 1 z.symm
    · rw [if_neg z, p_bit0]
      exact next 0 (a01.resolve_right z).symm
/-- the model drives -/
theorem bd_m (B : BNx c np ni P0 G Bt ib ws o ra rb oM sa sb lev lev' R zc zm ord ord' h) (h01 : ∀ x, x < Bt → h 363 x = 0 ∨ h 363 x = 1) {k : Nat} (hk : k < np) (v : Int) (u1 : Option am_V) : ∀ (m i : Nat) {h1 : am_H}, i + m = (ws.getD k 1).toNat → h1 363 = fill (h 363) (wfl ws k) i (fun t => am_and (am_shr v (t : Int)) 1) → p_fr [363] [] h h1 → ∃ h', am_E (am_D (d + 2)) m_17_185 (.inl 2) [some (am_r (am_a 254)), u1, some (am_i v), some (am_i ((P0 + k : Nat) : Int)), some (am_i (i : Int))] [] (zS L, h1) = pI L 1 h' ∧ h' 363 = stl oM (fN sa sb) ord' (fill (h 363) (wfl ws k) (ws.getD k 1).toNat (fun t => am_and (am_shr v (t : Int)) 1)) ∧ p_fr [363] [] h h'
  | 0, i, h1, hm, X, f => by
    have f' : p_fr bwC bwF h h1 := f.mono rfl rfl
    have B1 := B.fr f'
    have l12 := B.1.1.2.1
    have p192 := B.1.1.2.2.1
    have wr := ws_rg B.1 k
    obtain ⟨h2, r2, a2, f2⟩ := bn_mset (d := d) (L := L) B1 (fun x hx => by
      rw [X]; unfold fill
      by_cases z : wfl ws k ≤ x ∧ x < wfl ws k + i
      · rw [if_pos z]; show am_and _ 1 = 0 ∨ am_and _ 1 = 1; rw [p_and1]; omega
      · rw [if_neg z]; exact h01 x hx)
    rw [q_17_185_2, p_idx (by omega) (by omega), Int.toNat_natCast, (B1.1.2.2.2.2.2 k hk).2, if_neg (by omega), r2, p_xV, p_bit1]
    exact ⟨h2, rfl, by rw [a2, X, show (ws.getD k 1).toNat = i by omega], f.trans f2⟩
  | m + 1, i, h1, hm, X, f => by
    have f' : p_fr bwC bwF h h1 := f.mono rfl rfl
    have B1 := B.fr f'
    have l12 := B.1.1.2.1
    have p192 := B.1.1.2.2.1
    have wr := ws_rg B.1 k
    have wb := wfl_rg B.1 k (by omega)
    have bl := bp_place (d := d + 1) (L := L) B1.1 (n := k) (by omega)
    rw [q_17_185_2, p_idx (by omega) (by omega), Int.toNat_natCast, (B1.1.2.2.2.2.2 k hk).2, if_pos (by omega), B1.1.2.2.1, bl, p_xI, p_w (x := ((wfl ws k : Nat) : Int) + (i : Int)) (by omega) (by omega), p_idx (by omega) (by omega), show (((wfl ws k : Nat) : Int) + (i : Int)).toNat = wfl ws k + i by omega, p_w (x := (i : Int) + 1) (by omega) (by omega)]
    exact bd_m B h01 hk v u1 m (i + 1) (h1 := am_up h1 363 (wfl ws k + i) (am_and (am_shr v (i : Int)) 1)) (by omega) (by rw [p_up_f, X]; exact fill_s (h 363) (wfl ws k) i (fun t => am_and (am_shr v (t : Int)) 1)) (f.upc _ _ _ rfl)
theorem VR_fill (P : PB Bt G ib (h 201) (h 356) (h 357) o ra rb oM sa sb R zc zm) {S M : Nat → Int} (v : VRx Bt ib o oM R zc zm S M) {a n : Nat} {f : Nat → Int} (hn : a + n ≤ ib) (hf : ∀ t, f t = 0 ∨ f t = 1) : VRx Bt ib o oM R zc zm (fill S (2 + a) n f) (fill M a n f) := by
  obtain ⟨⟨v0, v1, v2⟩, v3, v4, v5, v6, v7⟩ := v
  obtain ⟨P1, P2, -, P4, P5, -, P7, P8, P9⟩ := P
  refine ⟨⟨?_, ?_, fun x hx => ?_⟩, fun i j r => ?_, fun r z => ?_, fun y z => ?_, fun r hr => ?_, fun y hy => ?_⟩
  · unfold fill; rw [if_neg (by omega)]; exact v0
  · unfold fill; rw [if_neg (by omega)]; exact v1
  · unfold fill
    by_cases z : a ≤ x ∧ x < a + n
    · rw [if_pos z, if_pos (by omega), show 2 + x - (2 + a) = x - a by omega]
    · rw [if_neg z, if_neg (by omega)]; exact v2 x hx
  · obtain ⟨⟨i1, j1, -⟩, -⟩ := P2 i j r
    have b1 := (P4 i i1).1
    have b2 := (P5 j j1).1
    unfold fill
    rw [if_neg (by omega), if_neg (by omega)]; exact v3 i j r
  · have := P7 r z
    unfold fill; rw [if_neg (by omega)]; exact v4 r z
  · have := P8 y z
    unfold fill; rw [if_neg (by omega)]; exact v5 y z
  · unfold fill
    by_cases z : 2 + a ≤ r ∧ r < 2 + a + n
    · rw [if_pos z]; exact hf _
    · rw [if_neg z]; exact v6 r hr
  · unfold fill
    by_cases z : a ≤ y ∧ y < a + n
    · rw [if_pos z]; exact hf _
    · rw [if_neg z]; exact v7 y hy
/-- drive -/
theorem q_drive (H : BR h) {k : Int} (v : Int) (hk : k < 2147483648) : ∃ r h1 h2, am_D (d + 3) 0 19 [am_r (am_a 1), am_i k, am_i v] (zS L, h) = pI L r h1 ∧ am_D (e + 3) 17 185 [am_r (am_a 254), am_i k, am_i v] (zS L, h1) = pI L r h2 ∧ BR h2 ∧ p_fr bwC bwF h h2 := by
  obtain ⟨H1, H2, H3⟩ := H
  rcases H3 with z | ⟨eb, c, np, ni, P0, G, Bt, ib, ws, o, ra, rb, oM, sa, sb, lev, lev', R, zc, zm, ord, ord', B, v0, tk⟩
  · refine ⟨0, h, h, ?_, ?_, ⟨H1, H2, Or.inl z⟩, p_fr.refl h⟩
    · rw [D_0_19, D_0_18, z, if_pos rfl, p_bit0, p_xI, if_pos rfl, p_bit0]
    · rw [D_17_185, D_17_184, p_idx (by omega) (by omega), q_17_184_1, ← H2, z, if_pos rfl, p_xI, if_pos rfl, p_bit0]
  · have em : h 254 152 = 1 := by rw [← H2]; exact eb
    by_cases kk : 0 ≤ k ∧ k < ni
    · obtain ⟨k', rfl⟩ : ∃ k' : Nat, k = (k' : Int) := ⟨k.toNat, by omega⟩
      have l12 := B.1.1.2.1
      have p192 := B.1.1.2.2.1
      have P := B.2.1
      obtain ⟨h1, r1, a1, f1⟩ := bd_c (d := d) (L := L) B (k := k') (by omega) v (ws.getD k' 1).toNat 0 (h1 := h) (by omega) (by rw [fill_0]) (p_fr.refl h)
      have f1' : p_fr bwC bwF h h1 := f1.mono rfl rfl
      have B1 := B.fr f1'
      have em1 : h1 254 152 = 1 := by rw [f1 254 152 rfl rfl]; exact em
      have v7 := v0.2.2.2.2.2
      obtain ⟨h2, r2, a2, f2⟩ := bd_m (d := e) (L := L) B1 (fun x hx => by rw [f1.cell 363 rfl rfl]; exact v7 x hx) (k := k') (by omega) v (some (am_i (k' : Int))) (ws.getD k' 1).toNat 0 (h1 := h1) (by omega) (by rw [fill_0]) (p_fr.refl h1)
      have f2' : p_fr bwC bwF h1 h2 := f2.mono rfl rfl
      have wse : wfl ws k' + (ws.getD k' 1).toNat ≤ ib := by
        rw [← wfl_s k', B.1.1.2.2.2.2.1]; exact wfl_mono ws (by omega)
      refine ⟨1, h1, h2, ?_, ?_, ⟨by rw [(f1'.trans f2') 254 174 rfl rfl]; exact H1, by rw [(f1'.trans f2') 1 24 rfl rfl, (f1'.trans f2') 254 152 rfl rfl]; exact H2, Or.inr ⟨by rw [(f1'.trans f2') 1 24 rfl rfl]; exact eb, c, np, ni, P0, G, Bt, ib, ws, o, ra, rb, oM, sa, sb, lev, lev', R, zc, zm, ord, ord', B1.fr f2', ?_, by rw [f2 195 17 rfl rfl, f2 254 173 rfl rfl, f1 195 17 rfl rfl, f1 254 173 rfl rfl]; exact tk⟩⟩, f1'.trans f2'⟩
      · rw [D_0_19, (bn_isPin (d := d + 1) B.1 eb (k' : Int)).1, if_pos kk, p_xI, if_neg (by decide), D_2_13]
        rw [show ((0 : Nat) : Int) = 0 from rfl] at r1
        rw [r1, p_xV, p_bit1]
      · rw [D_17_185, (bp_pin (d := e + 1) B1.1 em1 hk).2, if_pos kk, p_xI, if_neg (by omega), show (P0 : Int) + (k' : Int) = ((P0 + k' : Nat) : Int) by omega]
        rw [show ((0 : Nat) : Int) = 0 from rfl] at r2
        exact r2
      · rw [f2.cell 197 rfl rfl, a1, a2, f1.cell 363 rfl rfl]
        exact bn_vset B (VR_fill P v0 wse (fun t => by show am_and _ 1 = 0 ∨ am_and _ 1 = 1; rw [p_and1]; omega))
    · refine ⟨0, h, h, ?_, ?_, ⟨H1, H2, Or.inr ⟨eb, c, np, ni, P0, G, Bt, ib, ws, o, ra, rb, oM, sa, sb, lev, lev', R, zc, zm, ord, ord', B, v0, tk⟩⟩, p_fr.refl h⟩
      · rw [D_0_19, (bn_isPin (d := d + 1) B.1 eb k).1, if_neg kk, p_xI, if_pos rfl, p_bit0]
      · rw [D_17_185, (bp_pin (d := e + 1) B.1 em hk).2, if_neg kk, p_xI, if_pos rfl, p_bit0]
/-- the value of a pin: bits from below, from above -/
theorem bv_c (B : BNx c np ni P0 G Bt ib ws o ra rb oM sa sb lev lev' R zc zm ord ord' h) {k : Nat} (hk : k < np) {f : Nat → Int} (hf : ∀ i, i < (ws.getD k 1).toNat → ∃ N r, FD (h 196) (2 + Bt) N (2 + (wfl ws k + i)) r ∧ h 197 r = f i ∧ (f i = 0 ∨ f i = 1)) : ∀ (m i : Nat), i + m = (ws.getD k 1).toNat → am_E (am_D (d + 1)) m_2_14 (.inl 1) [some (am_r (am_a 195)), some (am_i (k : Int)), some (am_i (bvs f i)), some (am_i (i : Int))] [] (zS L, h) = pI L (bvs f (ws.getD k 1).toNat) h
  | 0, i, hm => by
    have C0 := CB_c L c B.1.1.1
    have l12 := B.1.1.2.1
    have wr := ws_rg B.1 k
    rw [q_2_14_1, bn_dec B.1, C0.ob, CB.r7, C0.a2, p_idx (by omega) (by omega), Int.toNat_natCast, (B.1.2.1.2.2.2 k hk).1, if_neg (by omega), show (ws.getD k 1).toNat = i by omega]
  | m + 1, i, hm => by
    have C0 := CB_c L c B.1.1.1
    have l12 := B.1.1.2.1
    have wr := ws_rg B.1 k
    have wb := wfl_rg B.1 k (by omega)
    have P1 := B.2.1.1
    obtain ⟨N, r, q1, q2, q3⟩ := hf i (by omega)
    have rl := (FD_rt N _ q1).1
    have ih := bv_c B hk hf m (i + 1) (by omega)
    have br := bvs_rg (f := f) i (fun t ht => (hf t (by omega)).choose_spec.choose_spec.2.2)
    have hp : 2 ^ i ≤ 2 ^ 15 := Nat.pow_le_pow_right (by omega) (by omega)
    have e15 : (2 : Nat) ^ 15 = 32768 := rfl
    obtain ⟨a, ha⟩ : ∃ a : Nat, bvs f i = (a : Int) := ⟨(bvs f i).toNat, by omega⟩
    have al : a < 2 ^ i := by rw [ha] at br; exact Int.ofNat_lt.1 br.2
    have bs : bvs f (i + 1) = bvs f i + f i * ((2 ^ i : Nat) : Int) := rfl
    rw [q_2_14_1, bn_dec B.1, C0.ob, CB.r7, C0.a2, p_idx (by omega) (by omega), Int.toNat_natCast, (B.1.2.1.2.2.2 k hk).1, if_pos (by omega), p_idx (by omega) (by omega), Int.toNat_natCast, (B.1.2.1.2.2.2 k hk).2, p_w (x := ((2 + wfl ws k : Nat) : Int) + (i : Int)) (by omega) (by omega), show ((2 + wfl ws k : Nat) : Int) + (i : Int) = ((2 + (wfl ws k + i) : Nat) : Int) by omega, cf_find (d := d) (W := 2 + Bt) (by omega) q1, p_xI, p_idx (by omega) (by omega), Int.toNat_natCast, q2, p_w (x := (i : Int) + 1) (by omega) (by omega), show (i : Int) + 1 = ((i + 1 : Nat) : Int) by omega]
    rcases q3 with z | z
    · rw [if_pos z, ha, cq_or0 a (by omega)]
      rw [bs, z, ha, Int.zero_mul, Int.add_zero] at ih
      exact ih
    · rw [if_neg (by rw [z]; decide), ha, cq_shl i (by omega), cq_orp a i (by omega) al]
      rw [bs, z, ha, Int.one_mul, ← Int.natCast_add] at ih
      exact ih
theorem bv_m (B : BNx c np ni P0 G Bt ib ws o ra rb oM sa sb lev lev' R zc zm ord ord' h) {k : Nat} (hk : k < np) (u1 : Option am_V) {f : Nat → Int} (hf : ∀ i, i < (ws.getD k 1).toNat → ∃ N s, SD (h 355) (h 356) N ((wfl ws k + i : Nat) : Int) s ∧ s < 40000 ∧ vM (h 363) s = f i ∧ (f i = 0 ∨ f i = 1)) : ∀ (i m : Nat), i + m = (ws.getD k 1).toNat → 0 ≤ dvs f m i → dvs f m i < ((2 ^ m : Nat) : Int) → am_E (am_D (d + 1)) m_17_186 (.inl 2) [some (am_r (am_a 254)), u1, some (am_i ((P0 + k : Nat) : Int)), some (am_i (dvs f m i)), some (am_i ((i : Int) - 1))] [] (zS L, h) = pI L (dvs f (ws.getD k 1).toNat 0) h
  | 0, m, hm, _, _ => by
    rw [q_17_186_2, if_pos (by decide), show (ws.getD k 1).toNat = m by omega]
  | i + 1, m, hm, d0, d1 => by
    have l12 := B.1.1.2.1
    have p192 := B.1.1.2.2.1
    have wr := ws_rg B.1 k
    have wb := wfl_rg B.1 k (by omega)
    obtain ⟨N, s, q1, q2, q3, q4⟩ := hf i (by omega)
    have ds : dvs f (m + 1) i = 2 * dvs f m (i + 1) + f i := rfl
    have hp : 2 ^ m ≤ 2 ^ 16 := Nat.pow_le_pow_right (by omega) (by omega)
    have e16 : (2 : Nat) ^ 16 = 65536 := rfl
    have es : ((2 ^ (m + 1) : Nat) : Int) = 2 * ((2 ^ m : Nat) : Int) := by rw [Nat.pow_succ, Int.natCast_mul]; omega
    have ih := bv_m B hk u1 hf i (m + 1) (by omega) (by rw [ds]; omega) (by rw [ds, es]; omega)
    have bl := bp_place (d := d) (L := L) B.1 (n := k) (by omega)
    rw [q_17_186_2, if_neg (by omega), B.1.2.2.1, bl, p_xI, p_w (x := ((wfl ws k : Nat) : Int) + (((i + 1 : Nat) : Int) - 1)) (by omega) (by omega), show ((wfl ws k : Nat) : Int) + (((i + 1 : Nat) : Int) - 1) = ((wfl ws k + i : Nat) : Int) by omega, ms_src (d := d) q1, p_xI, ms_val (d := d) q2, p_xI, q3, p_w (x := 2 * dvs f m (i + 1)) (by omega) (by omega), p_w (x := 2 * dvs f m (i + 1) + f i) (by omega) (by omega), p_w (x := ((i + 1 : Nat) : Int) - 1 + (-1)) (by omega) (by omega), show ((i + 1 : Nat) : Int) - 1 + (-1) = (i : Int) - 1 by omega, ← ds]
    exact ih
/-- pin -/
theorem q_pin (H : BR h) {k : Int} (hk : k < 2147483648) : ∃ r, am_D (d + 3) 0 20 [am_r (am_a 1), am_i k] (zS L, h) = pI L r h ∧ am_D (e + 3) 17 186 [am_r (am_a 254), am_i k] (zS L, h) = pI L r h := by
  obtain ⟨H1, H2, H3⟩ := H
  rcases H3 with z | ⟨eb, c, np, ni, P0, G, Bt, ib, ws, o, ra, rb, oM, sa, sb, lev, lev', R, zc, zm, ord, ord', B, v0, tk⟩
  · refine ⟨-1, ?_, ?_⟩
    · rw [D_0_20, D_0_18, z, if_pos rfl, p_bit0, p_xI, if_pos rfl]
    · rw [D_17_186, D_17_184, p_idx (by omega) (by omega), q_17_184_1, ← H2, z, if_pos rfl, p_xI, if_pos rfl]
  · have em : h 254 152 = 1 := by rw [← H2]; exact eb
    by_cases kk : 0 ≤ k ∧ k + ni < np
    · obtain ⟨k', rfl⟩ : ∃ k' : Nat, k = (k' : Int) := ⟨k.toNat, by omega⟩
      have l12 := B.1.1.2.1
      have p192 := B.1.1.2.2.1
      have P := B.2.1
      have C0 := CB_c L c B.1.1.1
      have kn : ni + k' < np := by omega
      have wr := ws_rg B.1 (ni + k')
      have out := B.2.2.2.2.2.2.2.2
      have g1 := P.1
      have hx : ∀ i, ∃ v, i < (ws.getD (ni + k') 1).toNat → (∃ N r, FD (h 196) (2 + Bt) N (2 + (wfl ws (ni + k') + i)) r ∧ h 197 r = v ∧ (v = 0 ∨ v = 1)) ∧ ∃ N s, SD (h 355) (h 356) N ((wfl ws (ni + k') + i : Nat) : Int) s ∧ s < 40000 ∧ vM (h 363) s = v ∧ (v = 0 ∨ v = 1) := fun i => by
        by_cases hi : i < (ws.getD (ni + k') 1).toNat
        · have lo : ib ≤ wfl ws (ni + k') + i := by rw [B.1.1.2.2.2.2.1]; have := wfl_mono ws (show ni ≤ ni + k' by omega); omega
          have hi2 : wfl ws (ni + k') + i < wfl ws np := by have a := wfl_mono ws (show ni + k' + 1 ≤ np by omega); have b := wfl_s (ws := ws) (ni + k'); omega
          obtain ⟨N, N', r, s, q1, q2, q3⟩ := out _ lo hi2
          obtain ⟨⟨w0, w1, w2⟩, w3, w4, w5, w6, w7⟩ := v0
          have eq := rr_v q3 w1 w2 (fun i j r _ => w3 i j r) w4 w5
          obtain ⟨s1, s2, -⟩ := rr_s P q3
          have v01 := w6 r s1
          exact ⟨h 197 r, fun _ => ⟨⟨N, r, q1, rfl, v01⟩, N', s, q2, by omega, eq.symm, v01⟩⟩
        · exact ⟨0, fun z => absurd z hi⟩
      obtain ⟨f, hf⟩ := Classical.axiomOfChoice hx
      have rc := bv_c (d := d) (L := L) B kn (f := f) (fun i hi => (hf i hi).1) (ws.getD (ni + k') 1).toNat 0 (by omega)
      have rm := bv_m (d := e + 1) (L := L) B kn (some (am_i (k' : Int))) (f := f) (fun i hi => (hf i hi).2) (ws.getD (ni + k') 1).toNat 0 (by omega) (Int.le_refl _) (by show (0 : Int) < ((2 ^ 0 : Nat) : Int); decide)
      rw [← bvs_d] at rm
      refine ⟨bvs f (ws.getD (ni + k') 1).toNat, ?_, ?_⟩
      · rw [D_0_20, (bn_isPin (d := d + 1) B.1 eb (k' : Int)).2, if_pos kk, p_xI, if_neg (by decide), bn_dec B.1, C0.ob, B.1.2.1.2.2.1, p_w (by omega) (by omega), show (ni : Int) + (k' : Int) = ((ni + k' : Nat) : Int) by omega, D_2_14]
        have rc' : am_E (am_D (d + 1)) m_2_14 (.inl 1) [some (am_r (am_a 195)), some (am_i ((ni + k' : Nat) : Int)), some (am_i 0), some (am_i 0)] [] (zS L, h) = _ := rc
        rw [rc', p_xI]
      · rw [D_17_186, (bp_pin (d := e + 1) B.1 em hk).1, if_pos kk, p_xI, if_neg (by omega), show (P0 : Int) + (ni : Int) + (k' : Int) = ((P0 + (ni + k') : Nat) : Int) by omega, p_idx (by omega) (by omega), Int.toNat_natCast, (B.1.2.2.2.2.2 (ni + k') kn).2, p_w (by omega) (by omega), show ws.getD (ni + k') 1 - 1 = (((ws.getD (ni + k') 1).toNat : Nat) : Int) - 1 by omega]
        exact rm
    · refine ⟨-1, ?_, ?_⟩
      · rw [D_0_20, (bn_isPin (d := d + 1) B.1 eb k).2, if_neg kk, p_xI, if_pos rfl]
      · rw [D_17_186, (bp_pin (d := e + 1) B.1 em hk).1, if_neg kk, p_xI, if_pos rfl]
end
