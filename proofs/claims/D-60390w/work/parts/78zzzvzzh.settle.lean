/-! CHIPS, 60: the board: the model builds; both settle -/
section
variable {d L : Nat} {K V P : Nat → Int} {W : Nat → List Int} {Z c : Nat} {chs : List cCh} {ch : cCh} {h : am_H}
theorem mb_bld (E : kEx K V Z) (G : mWd K V W Z) (T : ∀ ch ∈ chs, cht K V Z ch) (Y : kY K V Z chs) (LK : kL K V chs) (hin : ∀ ch ∈ chs, 1 ≤ ch.2.2.1 ∧ ch.2.2.1 < ch.2.1.length) (hc : chs[c]? = some ch) (hG : gAll V chs c ≤ 1500) (hB : bAll K V chs c ≤ 40000) (Q : mQ K V P W Z chs h) (I : mI K V chs chs.length h) (e : h 254 174 = (c : Int)) : ∃ h1 u1 u3 u4 u5 u6, am_D (d + 6) 17 177 [am_r (am_a 254)] (zS L, h) = am_E (am_D (d + 5)) m_17_177 (.inl 8) [some (am_r (am_a 254)), u1, some (am_i 0), u3, u4, u5, u6] [] (zS L, h1) ∧ MN K V chs (h1 355) (h1 356) (h1 357) (h1 358) 16 c 0 (ownx K V chs ch) 0 ∧ (∀ x, x < inb V ch → h1 355 x = -1) ∧ (h1 254 158 = ((bAll K V chs c : Nat) : Int) ∧ h1 254 161 = ((gAll V chs c : Nat) : Int)) ∧ p_fr mbC mbF h h1 := by
  have hcl := (List.getElem?_eq_some_iff.1 hc).1
  have hcm := List.mem_of_getElem? hc
  have l16 := Q.2.1.2
  have hin' : ∀ ch ∈ chs, ch.2.2.1 < ch.2.1.length := fun ch hch => (hin ch hch).2
  have hrk : rkx V chs c < 16 := by have := rk_rg Y.1 hcl; omega
  obtain ⟨me1, me2⟩ := mO_end (K := K) Y.1 hin' hc (fun q hq => (Y.2.1 ch hcm q hq).2)
  have io := inb_own (K := K) (V := V) (chs := chs) (hin' ch hcm)
  have ib1 : 1 ≤ inb V ch := by
    unfold inb
    have m := wfl_mono (cWs V ch) (hin ch hcm).1
    have s : wfl (cWs V ch) 1 = 0 + ((cWs V ch).getD 0 1).toNat := rfl
    have := getD_rg (l := cWs V ch) (fun w hw => by unfold cWs at hw; obtain ⟨p, -, rfl⟩ := List.mem_map.1 hw; exact c_w_rg V p.2) 0
    omega
  obtain ⟨h0, e0⟩ : ∃ h0, h0 = am_up (am_up (am_up h 254 158 0) 254 161 0) 254 170 0 := ⟨_, rfl⟩
  have f0 : p_fr mbC mbF h h0 := by rw [e0]; exact (((p_fr.refl h).upf _ _ _ rfl).upf _ _ _ rfl).upf _ _ _ rfl
  obtain ⟨ck, w1, w2, -, -, -, -, -, w8, -⟩ := kid_eq (K := K) Y hin' (show 2 + c < 2 + chs.length by omega) (show 2 ≤ 2 + c by omega)
  rw [show 2 + c - 2 = c by omega, hc] at w1
  injection w1 with w1
  subst w1
  have c1 : c1k (2 + c) = 1 := by unfold c1k; rw [if_neg (by omega)]
  obtain ⟨h1, r1, ⟨a1, a2, a3⟩, a5, -, -, aC, -, -, f1⟩ := mb_np (d := d) (L := L) Y hin' (Q.b f0) (I.b f0) (show 2 + c < 2 + chs.length by omega) (pb := 0) (g := 0) (s := 0) (by omega) (by omega) (fun _ => by decide) (by rw [e0]; simp [p_up]) (by rw [e0]; simp [p_up]) (by rw [e0]; simp [p_up])
  obtain ⟨b1, b2, b3⟩ := aC (by omega)
  rw [w2] at a1 b1 a5
  rw [w8] at a2
  rw [c1] at a3
  rw [show 2 + c - 2 = c by omega] at b2
  have f01 := f0.trans f1
  obtain ⟨h2, v2, v3, v4, v5, v6, r2, ⟨t1, t2, t3⟩, MNn, F5, -, -, -, f2⟩ := mb_proc (d := d) (L := L) (P := P) E G T Y LK hin 16 c ch 0 (ownx K V chs ch) 0 0 h1 (some (am_i ((0 : Nat) : Int))) none none none none none hrk hc (by omega) (by omega) (by omega) (by omega) (Q.b f01) (I.b f01) (by rw [a1, Nat.zero_add]) (by rw [a2]) (by rw [a3]) b2 b3 (fun x hx1 hx2 => by rw [a5]; unfold fill; rw [if_pos (by omega)]) (fun x hx => b1 x hx)
  rw [D_17_177, e, p_w (by omega) (by omega), ← e0, show (2 : Int) + (c : Int) = ((2 + c : Nat) : Int) by omega, r1, p_xI, r2, q_17_177_1, t3, if_neg (by decide)]
  refine ⟨h2, _, _, _, _, _, rfl, MNn, fun x hx => ?_, ⟨by rw [t1]; omega, by rw [t2, ← me2]; omega⟩, f01.trans f2⟩
  rw [F5 x (by omega) (Or.inl (by omega)), a5]
  unfold fill
  rw [if_pos (by omega)]
end
section
variable {d L : Nat} {G Bt : Nat} {o ra rb oM : Nat → Nat} {sa sb : Nat → Int} {h : am_H}
/-- the component settles -/
theorem cs_st {ord : List Nat} (hg : ∀ i ∈ ord, i < 1500 ∧ (h 198 i = (ra i : Int) ∧ ra i < 40002) ∧ (h 199 i = (rb i : Int) ∧ rb i < 40002) ∧ h 200 i = (o i : Int) ∧ o i < 40002) (e1 : h 195 15 = (ord.length : Int)) (e2 : ∀ (t i : Nat), ord[t]? = some i → h 203 t = (i : Int)) (hl : ord.length ≤ 1500) : ∀ (l : List Nat) (t : Nat) {h1 : am_H} (u2 : Option am_V), ord.drop t = l → p_fr [197] [] h h1 → ∃ h', am_E (am_D d) m_2_12 (.inl 1) [some (am_r (am_a 195)), some (am_i (t : Int)), u2] [] (zS L, h1) = pV L h' ∧ h' 197 = stl o (fC ra rb) l (h1 197) ∧ p_fr [197] [] h h'
  | [], t, h1, u2, hd, f => by
    have := List.drop_eq_nil_iff.1 hd
    rw [q_2_12_1, f 195 15 rfl rfl, e1, if_neg (by omega)]
    exact ⟨h1, rfl, rfl, f⟩
  | i :: l, t, h1, u2, hd, f => by
    have tl : t < ord.length := by
      rcases Nat.lt_or_ge t ord.length with z | z
      · exact z
      · rw [List.drop_of_length_le z] at hd; cases hd
    rw [List.drop_eq_getElem_cons tl] at hd
    injection hd with d1 d2
    have ti : ord[t]? = some i := by rw [← d1]; exact List.getElem?_eq_getElem tl
    obtain ⟨i1, ⟨a1, a2⟩, ⟨b1, b2⟩, o1, o2⟩ := hg i (List.mem_of_getElem? ti)
    have c203 : h1 203 t = (i : Int) := by rw [f.cell 203 rfl rfl]; exact e2 t i ti
    have c198 : h1 198 i = (ra i : Int) := by rw [f.cell 198 rfl rfl, a1]
    have c199 : h1 199 i = (rb i : Int) := by rw [f.cell 199 rfl rfl, b1]
    have c200 : h1 200 i = (o i : Int) := by rw [f.cell 200 rfl rfl, o1]
    have next : ∀ v, v = fC ra rb i (h1 197) → ∃ h', am_E (am_D d) m_2_12 (.inl 1) [some (am_r (am_a 195)), some (am_i ((t : Int) + 1)), some (am_i (i : Int))] [] (zS L, am_up h1 197 (o i) v) = pV L h' ∧ h' 197 = stl o (fC ra rb) (i :: l) (h1 197) ∧ p_fr [197] [] h h' := fun v hv => by
      obtain ⟨h', r, q1, q2⟩ := cs_st hg e1 e2 hl l (t + 1) (h1 := am_up h1 197 (o i) v) (some (am_i (i : Int))) d2 (f.upc _ _ _ rfl)
      refine ⟨h', r, ?_, q2⟩
      rw [q1, p_up_f, hv]; rfl
    rw [q_2_12_1, f 195 15 rfl rfl, e1, if_pos (by omega), p_idx (by omega) (by omega), Int.toNat_natCast, c203, p_idx (by omega) (by omega), p_idx (by omega) (by omega), Int.toNat_natCast, c198, p_idx (by omega) (by omega), Int.toNat_natCast, p_w (by omega) (by omega)]
    by_cases z1 : h1 197 (ra i) = 0
    · rw [if_pos z1, p_bit1, c200, p_idx (by omega) (by omega), Int.toNat_natCast]
      exact next 1 (by unfold fC; rw [if_pos z1])
    · rw [if_neg z1, p_idx (by omega) (by omega), Int.toNat_natCast, c199, p_idx (by omega) (by omega), Int.toNat_natCast]
      by_cases z2 : h1 197 (rb i) = 0
      · rw [if_pos z2, p_bit1, c200, p_idx (by omega) (by omega), Int.toNat_natCast]
        exact next 1 (by unfold fC; rw [if_neg z1, if_pos z2])
      · rw [if_neg z2, p_bit0, c200, p_idx (by omega) (by omega), Int.toNat_natCast]
        exact next 0 (by unfold fC; rw [if_neg z1, if_neg z2])
theorem cs_settle {ord : List Nat} (hg : ∀ i ∈ ord, i < 1500 ∧ (h 198 i = (ra i : Int) ∧ ra i < 40002) ∧ (h 199 i = (rb i : Int) ∧ rb i < 40002) ∧ h 200 i = (o i : Int) ∧ o i < 40002) (e1 : h 195 15 = (ord.length : Int)) (e2 : ∀ (t i : Nat), ord[t]? = some i → h 203 t = (i : Int)) (hl : ord.length ≤ 1500) : ∃ h', am_D (d + 1) 2 12 [am_r (am_a 195)] (zS L, h) = pV L h' ∧ h' 197 = stl o (fC ra rb) ord (h 197) ∧ p_fr [197] [] h h' := by
  rw [D_2_12]
  exact cs_st (d := d) (L := L) hg e1 e2 hl ord 0 (h1 := h) none rfl (p_fr.refl h)
/-- valueOf -/
theorem ms_val {s : Int} (hs : s < 40000) : am_D (d + 1) 17 181 [am_r (am_a 254), am_i s] (zS L, h) = pI L (vM (h 363) s) h := by
  rw [D_17_181]
  unfold vM
  by_cases c : s = -2
  · rw [if_pos c, if_pos c]
  · rw [if_neg c, if_neg c]
    by_cases c2 : s < 0
    · rw [if_pos c2, if_pos c2]
    · rw [if_neg c2, if_neg c2, p_idx (by omega) (by omega)]
theorem vM_01 {M : Nat → Int} {s : Int} (z1 : ∀ x, x < Bt → M x = 0 ∨ M x = 1) (z2 : s < (Bt : Int)) : vM M s = 0 ∨ vM M s = 1 := by
  unfold vM
  by_cases c : s = -2
  · rw [if_pos c]; exact Or.inr rfl
  · rw [if_neg c]
    by_cases c2 : s < 0
    · rw [if_pos c2]; exact Or.inl rfl
    · rw [if_neg c2]; exact z1 _ (by omega)
/-- the model settles -/
theorem ms_st (hB : Bt ≤ 40000) {ord : List Nat} (hg : ∀ i ∈ ord, i < 1500 ∧ (h 361 i = sa i ∧ sa i < (Bt : Int)) ∧ (h 362 i = sb i ∧ sb i < (Bt : Int)) ∧ h 358 i + 2 = (oM i : Int) ∧ oM i < Bt) (e1 : h 254 166 = (ord.length : Int)) (e2 : ∀ (t i : Nat), ord[t]? = some i → h 360 t = (i : Int)) (hl : ord.length ≤ 1500) : ∀ (l : List Nat) (t : Nat) {h1 : am_H} (u2 : Option am_V), ord.drop t = l → (∀ x, x < Bt → h1 363 x = 0 ∨ h1 363 x = 1) → p_fr [363] [] h h1 → ∃ h', am_E (am_D (d + 1)) m_17_182 (.inl 1) [some (am_r (am_a 254)), some (am_i (t : Int)), u2] [] (zS L, h1) = pV L h' ∧ h' 363 = stl oM (fN sa sb) l (h1 363) ∧ p_fr [363] [] h h'
  | [], t, h1, u2, hd, _, f => by
    have := List.drop_eq_nil_iff.1 hd
    rw [q_17_182_1, f 254 166 rfl rfl, e1, if_neg (by omega)]
    exact ⟨h1, rfl, rfl, f⟩
  | i :: l, t, h1, u2, hd, h01, f => by
    have tl : t < ord.length := by
      rcases Nat.lt_or_ge t ord.length with z | z
      · exact z
      · rw [List.drop_of_length_le z] at hd; cases hd
    rw [List.drop_eq_getElem_cons tl] at hd
    injection hd with d1 d2
    have ti : ord[t]? = some i := by rw [← d1]; exact List.getElem?_eq_getElem tl
    obtain ⟨i1, ⟨a1, a2⟩, ⟨b1, b2⟩, o1, o2⟩ := hg i (List.mem_of_getElem? ti)
    have c360 : h1 360 t = (i : Int) := by rw [f.cell 360 rfl rfl]; exact e2 t i ti
    have c361 : h1 361 i = sa i := by rw [f.cell 361 rfl rfl, a1]
    have c362 : h1 362 i = sb i := by rw [f.cell 362 rfl rfl, b1]
    have c358 : h1 358 i = (oM i : Int) - 2 := by rw [f.cell 358 rfl rfl]; omega
    have va := vM_01 h01 a2
    have vb := vM_01 h01 b2
    have pr : vM (h1 363) (sa i) * vM (h1 363) (sb i) = 0 ∨ vM (h1 363) (sa i) * vM (h1 363) (sb i) = 1 := by
      rcases va with z | z <;> rcases vb with z' | z' <;> rw [z, z'] <;> first | exact Or.inl rfl | exact Or.inr rfl
    obtain ⟨pv, hpv⟩ : ∃ pv, pv = vM (h1 363) (sa i) * vM (h1 363) (sb i) := ⟨_, rfl⟩
    rw [← hpv] at pr
    obtain ⟨h', r, q1, q2⟩ := ms_st hB hg e1 e2 hl l (t + 1) (h1 := am_up h1 363 (oM i) (1 - pv)) (some (am_i (i : Int))) d2 (fun x hx => by
      rw [p_up_f]; unfold p_set
      by_cases e : x = oM i
      · rw [if_pos e]; omega
      · rw [if_neg e]; exact h01 x hx) (f.upc _ _ _ rfl)
    rw [q_17_182_1, f 254 166 rfl rfl, e1, if_pos (by omega), p_idx (by omega) (by omega), Int.toNat_natCast, c360, p_idx (by omega) (by omega), p_idx (by omega) (by omega), Int.toNat_natCast, c361, ms_val (d := d) (by omega), p_xI, p_idx (by omega) (by omega), Int.toNat_natCast, c362, ms_val (d := d) (by omega), p_xI, c358, p_w (x := (oM i : Int) - 2 + 2) (by omega) (by omega), p_idx (by omega) (by omega), show ((oM i : Int) - 2 + 2).toNat = oM i by omega, ← hpv, p_w (x := pv) (by omega) (by omega), p_w (x := 1 - pv) (by omega) (by omega), p_w (x := (t : Int) + 1) (by omega) (by omega)]
    refine ⟨h', r, ?_, q2⟩
    rw [q1, p_up_f, hpv]; rfl
theorem ms_settle (hB : Bt ≤ 40000) {ord : List Nat} (hg : ∀ i ∈ ord, i < 1500 ∧ (h 361 i = sa i ∧ sa i < (Bt : Int)) ∧ (h 362 i = sb i ∧ sb i < (Bt : Int)) ∧ h 358 i + 2 = (oM i : Int) ∧ oM i < Bt) (e1 : h 254 166 = (ord.length : Int)) (e2 : ∀ (t i : Nat), ord[t]? = some i → h 360 t = (i : Int)) (hl : ord.length ≤ 1500) (h01 : ∀ x, x < Bt → h 363 x = 0 ∨ h 363 x = 1) : ∃ h', am_D (d + 2) 17 182 [am_r (am_a 254)] (zS L, h) = pV L h' ∧ h' 363 = stl oM (fN sa sb) ord (h 363) ∧ p_fr [363] [] h h' := by
  rw [D_17_182]
  exact ms_st (d := d) (L := L) hB hg e1 e2 hl ord 0 (h1 := h) none rfl h01 (p_fr.refl h)
end
