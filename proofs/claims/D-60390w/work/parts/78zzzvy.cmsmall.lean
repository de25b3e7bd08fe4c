/-! CHIPS, 25: the model's checks: small steps -/
def gwd : List (List Int) := [[78, 97, 110, 100], [68, 102, 102]]
def pwd : List (List Int) := [[97], [98], [111, 117, 116], [105, 110]]
def gix (v : Int) : Int := if v = 6 then 0 else if v = 7 then 1 else -1
def pix (v : Int) : Int := if v = 8 then 0 else if v = 9 then 1 else if v = 11 then 2 else if v = 10 then 3 else -1
theorem wo_174 : wo_row 174 gwd := wo_row_of ⟨by decide, by decide⟩ (by decide) ⟨by decide, by decide⟩ (by decide)
theorem wo_175 : wo_row 175 pwd := wo_row_of ⟨by decide, by decide⟩ (by decide) ⟨by decide, by decide⟩ (by decide)
/-- names of gates and their pins -/
def mWd (K V : Nat → Int) (W : Nat → List Int) (Z : Nat) : Prop := ∀ t, t ≤ Z → K t = 2 → wo_idx gwd (W t) = gix (V t) ∧ wo_idx pwd (W t) = pix (V t)
def nfC : List Nat := [347, 348, 349, 350, 351, 352]
def mQ (K V P : Nat → Int) (W : Nat → List Int) (Z : Nat) (chs : List cCh) (h : am_H) : Prop := mR K V P W Z h ∧ mV V chs h
section
variable {d L : Nat} {K V P : Nat → Int} {W : Nat → List Int} {Z : Nat} {chs : List cCh} {h h' : am_H}
theorem mQ.fr (Q : mQ K V P W Z chs h) (f : p_fr nfC ntF h h') : mQ K V P W Z chs h' := by
  refine ⟨?_, ?_⟩
  · unfold mR
    rw [f.cell 256 rfl rfl, f.cell 257 rfl rfl, f.cell 258 rfl rfl, f.cell 259 rfl rfl, f.cell 260 rfl rfl]
    exact Q.1
  · unfold mV fRl
    rw [f 254 122 rfl rfl, f.cell 328 rfl rfl, f.cell 329 rfl rfl, f.cell 330 rfl rfl, f.cell 331 rfl rfl, f.cell 332 rfl rfl, f.cell 333 rfl rfl, f.cell 334 rfl rfl, f.cell 335 rfl rfl, f.cell 336 rfl rfl, f.cell 337 rfl rfl, f.cell 338 rfl rfl, f.cell 339 rfl rfl, f.cell 340 rfl rfl, f.cell 341 rfl rfl, f.cell 342 rfl rfl, f.cell 343 rfl rfl, f.cell 344 rfl rfl, f.cell 345 rfl rfl, f.cell 346 rfl rfl]
    exact Q.2
theorem mn_gate (R : mR K V P W Z h) (G : mWd K V W Z) {t : Nat} (ht : t ≤ Z) (kt : K t = 2) : am_D (d + 2) 17 157 [am_r (am_a 254), am_i (t : Int)] (zS L, h) = pI L (gix (V t)) h := by
  have z2 := R.1.1
  obtain ⟨a1, a2, a3, a4⟩ := R.2.2.1 t ht kt
  have wo := wo_of d L wo_174 (h := h) (b := (P t).toNat) (s := W t) a3.2 a4
  rw [D_17_157, p_idx (by omega) (by omega), p_idx (by omega) (by omega), Int.toNat_natCast, (R.2.1 t ht).2.1, a1]
  rw [show (((P t).toNat : Nat) : Int) = P t by omega] at wo
  rw [wo, p_xI, (G t ht kt).1]
def kInt : Option Nat → Int
  | none => -1
  | some k => (k : Int)
theorem mn_chip_l (Q : mQ K V P W Z chs h) (hk : ∀ ch ∈ chs, ch.1 ≤ Z ∧ K ch.1 = 2) {t : Nat} (ht : t ≤ Z) (kt : K t = 2) : ∀ (m c : Nat), c + m = chs.length → am_E (am_D (d + 1)) m_17_158 (.inl 1) [some (am_r (am_a 254)), some (am_i (t : Int)), some (am_i (-1)), some (am_i (c : Int))] [] (zS L, h) = pI L (kInt (if ffnd (V t) ((chs.map fun c => V c.1).drop c) c = -1 then none else some (2 + (ffnd (V t) ((chs.map fun c => V c.1).drop c) c).toNat))) h
  | 0, c, hm => by
    rw [q_17_158_1, Q.2.1.1, if_neg (by omega), List.drop_eq_nil_of_le (by rw [List.length_map]; omega)]
    rfl
  | m + 1, c, hm => by
    have l16 := Q.2.1.2
    have hc : c < chs.length := by omega
    have hcl : c < (chs.map fun c => V c.1).length := by rw [List.length_map]; omega
    have hce := List.getElem?_eq_getElem hc
    obtain ⟨k1, k2⟩ := hk _ (List.mem_of_getElem? hce)
    rw [q_17_158_1, Q.2.1.1, if_pos (by omega), if_pos rfl, p_idx (by omega) (by omega), Int.toNat_natCast, Q.2.2.2.1 c _ hce, mx_like Q.1 k1 ht k2 kt, p_xI, List.drop_eq_getElem_cons hcl, ffnd_c, List.getElem_map, p_w (x := (c : Int) + 1) (by omega) (by omega), p_w (x := 2 + (c : Int)) (by omega) (by omega)]
    by_cases y : V chs[c].1 = V t
    · rw [pB_t y, if_neg (show ¬ (1 : Int) = 0 by decide), if_pos y, if_neg (show ¬ (c : Int) = -1 by omega), q_17_158_1, Int.toNat_natCast]
      have e : kInt (some (2 + c)) = 2 + (c : Int) := by show ((2 + c : Nat) : Int) = _; omega
      rw [e, if_neg (show ¬ 2 + (c : Int) = -1 by omega)]
      by_cases w : (c : Int) + 1 < h 254 122
      · rw [if_pos w]
      · rw [if_neg w]
    · rw [pB_f y, if_pos rfl, if_neg y]
      exact mn_chip_l Q hk ht kt m (c + 1) (by omega)
theorem mn_chipOf (Q : mQ K V P W Z chs h) (G : mWd K V W Z) (hk : ∀ ch ∈ chs, ch.1 ≤ Z ∧ K ch.1 = 2) {t : Nat} (ht : t ≤ Z) (kt : K t = 2) : am_D (d + 3) 17 158 [am_r (am_a 254), am_i (t : Int)] (zS L, h) = pI L (kInt (kOf V chs (V t))) h := by
  rw [D_17_158, mn_gate Q.1 G ht kt, p_xI]
  unfold gix kOf
  by_cases y6 : V t = 6
  · rw [if_pos y6, if_pos y6, q_17_158_1, if_neg (show ¬ (0 : Int) = -1 by decide)]
    by_cases w : (0 : Int) < h 254 122
    · rw [if_pos w]; rfl
    · rw [if_neg w]; rfl
  by_cases y7 : V t = 7
  · rw [if_neg y6, if_neg y6, if_pos y7, if_pos y7, q_17_158_1, if_neg (show ¬ (1 : Int) = -1 by decide)]
    by_cases w : (0 : Int) < h 254 122
    · rw [if_pos w]; rfl
    · rw [if_neg w]; rfl
  rw [if_neg y6, if_neg y6, if_neg y7, if_neg y7]
  exact mn_chip_l (d := d + 1) Q hk ht kt chs.length 0 (by omega)
/-- a pin among all -/
def cgp (chs : List cCh) (k : Nat) (p : Int) : Int := if k < 2 then p else (oP chs (k - 2) : Int) + p
theorem mn_own (Q : mQ K V P W Z chs h) {c : Nat} {ch : cCh} (hc : chs[c]? = some ch) (hp : ∀ p ∈ ch.2.1, p.1 ≤ Z ∧ K p.1 = 2) {t : Nat} (ht : t ≤ Z) (kt : K t = 2) : am_D (d + 2) 17 151 [am_r (am_a 254), am_i (c : Int), am_i (t : Int)] (zS L, h) = pI L (if ffnd (V t) (cNm V ch) 0 = -1 then -1 else (oP chs c : Int) + ffnd (V t) (cNm V ch) 0) h := by
  have l16 := Q.2.1.2
  have hcl := (List.getElem?_eq_some_iff.1 hc).1
  have on := oP_n hc
  have tk : oP chs (c + 1) ≤ (aP chs).length := flat_le cpM chs (c + 1)
  have := Q.2.2.1.1
  have r := mx_pinOf (d := d) (L := L) Q.1 (t := t) (c := c) (lo := oP chs c) ht kt (l := ch.2.1.map (·.1)) (by omega) (by rw [List.length_map]; omega) (Q.2.2.2.2.1 c (by omega)).1 (by rw [List.length_map, (Q.2.2.2.2.1 (c + 1) (by omega)).1, on]) (fun k a ha => by
    rw [List.getElem?_map] at ha
    cases hq : ch.2.1[k]? with
    | none => rw [hq] at ha; cases ha
    | some p =>
      rw [hq] at ha; cases ha
      exact ⟨(Q.2.2.2.2.2.1 c ch hc k p hq).1, hp p (List.mem_of_getElem? hq)⟩)
  rw [List.map_map] at r
  exact r
theorem mn_inn (Q : mQ K V P W Z chs h) {c : Nat} {ch : cCh} (hc : chs[c]? = some ch) (hp : ∀ t ∈ ch.2.2.2.2, t ≤ Z ∧ K t = 2) {t : Nat} (ht : t ≤ Z) (kt : K t = 2) : am_D (d + 2) 17 152 [am_r (am_a 254), am_i (c : Int), am_i (t : Int)] (zS L, h) = pI L (if ffnd (V t) (cIn V ch) 0 = -1 then -1 else (oI chs c : Int) + ffnd (V t) (cIn V ch) 0) h := by
  have l16 := Q.2.1.2
  have hcl := (List.getElem?_eq_some_iff.1 hc).1
  have on := oI_n hc
  have tk : oI chs (c + 1) ≤ (aI chs).length := flat_le _ chs (c + 1)
  have := Q.2.2.1.2.2.2
  exact mx_innOf (d := d) (L := L) Q.1 (t := t) (c := c) (lo := oI chs c) ht kt (l := ch.2.2.2.2) (by omega) (by omega) (Q.2.2.2.2.1 c (by omega)).2.2 (by rw [(Q.2.2.2.2.1 (c + 1) (by omega)).2.2, on]) (fun k a ha => ⟨Q.2.2.2.2.2.2.2.2 c ch hc k a ha, hp a (List.mem_of_getElem? ha)⟩)
theorem mn_pinOf (Q : mQ K V P W Z chs h) (G : mWd K V W Z) (hp : ∀ ch ∈ chs, ∀ p ∈ ch.2.1, p.1 ≤ Z ∧ K p.1 = 2) {k : Nat} (hk : k < 2 + chs.length) {t : Nat} (ht : t ≤ Z) (kt : K t = 2) : am_D (d + 3) 17 159 [am_r (am_a 254), am_i (k : Int), am_i (t : Int)] (zS L, h) = pI L (if ffnd (V t) (kNm V chs k) 0 = -1 then -1 else cgp chs k (ffnd (V t) (kNm V chs k) 0)) h := by
  have l16 := Q.2.1.2
  have z2 := Q.1.1.1
  obtain ⟨a1, a2, a3, a4⟩ := Q.1.2.2.1 t ht kt
  have wo := wo_of (d + 1) L wo_175 (h := h) (b := (P t).toNat) (s := W t) a3.2 a4
  rw [show (((P t).toNat : Nat) : Int) = P t by omega, (G t ht kt).2] at wo
  rw [D_17_159]
  rcases k_cases hk with rfl | rfl | ⟨c, ch, rfl, hc⟩
  · rw [if_neg (by decide), p_idx (by omega) (by omega), p_idx (by omega) (by omega), Int.toNat_natCast, (Q.1.2.1 t ht).2.1, a1, wo, p_xI, if_pos (show ((0 : Nat) : Int) = 0 from rfl)]
    unfold pix cgp
    rw [if_pos (show 0 < 2 by decide), show kNm V chs 0 = [8, 9, 11] from rfl]
    by_cases y1 : V t = 8
    · rw [if_pos y1, if_neg (by decide), y1]; rfl
    by_cases y2 : V t = 9
    · rw [if_neg y1, if_pos y2, if_neg (by decide), y2]; rfl
    by_cases y3 : V t = 11
    · rw [if_neg y1, if_neg y2, if_pos y3, if_neg (by decide), y3]; rfl
    have fn : ffnd (V t) [8, 9, 11] 0 = -1 := by
      rw [ffnd_c, if_neg (fun z => y1 z.symm), ffnd_c, if_neg (fun z => y2 z.symm), ffnd_c, if_neg (fun z => y3 z.symm)]; rfl
    rw [if_neg y1, if_neg y2, if_neg y3, fn]
    by_cases y4 : V t = 10
    · rw [if_pos y4, if_pos rfl]; rfl
    · rw [if_neg y4, if_neg (by decide)]; rfl
  · rw [if_neg (by decide), p_idx (by omega) (by omega), p_idx (by omega) (by omega), Int.toNat_natCast, (Q.1.2.1 t ht).2.1, a1, wo, p_xI, if_neg (by decide)]
    unfold pix cgp
    rw [if_pos (show 1 < 2 by decide), show kNm V chs 1 = [10, 11] from rfl]
    by_cases y4 : V t = 10
    · rw [if_neg (show ¬ V t = 8 by omega), if_neg (show ¬ V t = 9 by omega), if_neg (show ¬ V t = 11 by omega), if_pos y4, if_pos rfl, y4]; rfl
    by_cases y3 : V t = 11
    · rw [if_neg (show ¬ V t = 8 by omega), if_neg (show ¬ V t = 9 by omega), if_pos y3, if_neg (by decide), if_pos rfl, y3]; rfl
    have fn : ffnd (V t) [10, 11] 0 = -1 := by
      rw [ffnd_c, if_neg (fun z => y4 z.symm), ffnd_c, if_neg (fun z => y3 z.symm)]; rfl
    rw [fn, if_neg y3, if_neg y4]
    by_cases y1 : V t = 8
    · rw [if_pos y1, if_neg (by decide), if_neg (by decide)]; rfl
    by_cases y2 : V t = 9
    · rw [if_neg y1, if_pos y2, if_neg (by decide), if_neg (by decide)]; rfl
    rw [if_neg y1, if_neg y2, if_neg (by decide), if_neg (by decide)]; rfl
  · rw [if_pos (show (1 : Int) < ((2 + c : Nat) : Int) by omega), p_w (by omega) (by omega), show ((2 + c : Nat) : Int) - 2 = (c : Int) by omega, mn_own (d := d) Q hc (hp ch (List.mem_of_getElem? hc)) ht kt, p_xI, (kNm_c (V := V) hc).1]
    unfold cgp
    rw [if_neg (show ¬ 2 + c < 2 by omega), show 2 + c - 2 = c by omega]
theorem gp_rg (Q : mQ K V P W Z chs h) {k : Nat} (hk : k < 2 + chs.length) {p : Int} (h0 : 0 ≤ p) (h1 : p < ((kNm V chs k).length : Int)) : 0 ≤ cgp chs k p ∧ cgp chs k p < 200 := by
  rcases k_cases hk with rfl | rfl | ⟨c, ch, rfl, hc⟩
  · rw [show kNm V chs 0 = [8, 9, 11] from rfl] at h1
    unfold cgp; rw [if_pos (by decide)]; simp at h1; omega
  · rw [show kNm V chs 1 = [10, 11] from rfl] at h1
    unfold cgp; rw [if_pos (by decide)]; simp at h1; omega
  · have on := oP_n hc
    have hcl := (List.getElem?_eq_some_iff.1 hc).1
    have tk : oP chs (c + 1) ≤ (aP chs).length := flat_le cpM chs (c + 1)
    have := Q.2.2.1.1
    rw [(kNm_c (V := V) hc).1, show (cNm V ch).length = ch.2.1.length by unfold cNm; rw [List.length_map]] at h1
    unfold cgp
    rw [if_neg (by omega), show 2 + c - 2 = c by omega]
    omega
theorem mn_isOut (Q : mQ K V P W Z chs h) {k : Nat} (hk : k < 2 + chs.length) {p : Int} (h0 : 0 ≤ p) (h1 : p < ((kNm V chs k).length : Int)) : am_D (d + 1) 17 160 [am_r (am_a 254), am_i (k : Int), am_i (cgp chs k p)] (zS L, h) = pI L (pB ((kIp chs k : Int) ≤ p)) h := by
  have g := gp_rg Q hk h0 h1
  rw [D_17_160]
  rcases k_cases hk with rfl | rfl | ⟨c, ch, rfl, hc⟩
  · rw [show kNm V chs 0 = [8, 9, 11] from rfl] at h1
    simp at h1
    rw [if_neg (by decide), if_pos (show ((0 : Nat) : Int) = 0 from rfl), show kIp chs 0 = 2 from rfl, show cgp chs 0 p = p from rfl]
    by_cases y : p = 2
    · rw [if_pos y, p_bit1, pB_t (by omega)]
    · rw [if_neg y, p_bit0, pB_f (by omega)]
  · rw [show kNm V chs 1 = [10, 11] from rfl] at h1
    simp at h1
    rw [if_neg (by decide), if_neg (by decide), show kIp chs 1 = 1 from rfl, show cgp chs 1 p = p from rfl]
    by_cases y : p = 1
    · rw [if_pos y, p_bit1, pB_t (by omega)]
    · rw [if_neg y, p_bit0, pB_f (by omega)]
  · rw [(kNm_c (V := V) hc).1, show (cNm V ch).length = ch.2.1.length by unfold cNm; rw [List.length_map]] at h1
    have ge : cgp chs (2 + c) p = (oP chs c : Int) + p := by unfold cgp; rw [if_neg (by omega), show 2 + c - 2 = c by omega]
    have hp := List.getElem?_eq_getElem (show p.toNat < ch.2.1.length by omega)
    rw [if_pos (by omega), p_idx g.1 g.2, ge, show ((oP chs c : Int) + p).toNat = oP chs c + p.toNat by omega, (Q.2.2.2.2.2.1 c ch hc _ _ hp).2.2.1, (kNm_c (V := V) hc).2.2]
    by_cases y : ch.2.2.1 ≤ p.toNat
    · rw [if_pos y, p_bit1, pB_t (by omega)]
    · rw [if_neg y, p_bit0, pB_f (by omega)]
theorem mn_width (Q : mQ K V P W Z chs h) {k : Nat} (hk : k < 2 + chs.length) {p : Int} (h0 : 0 ≤ p) (h1 : p < ((kNm V chs k).length : Int)) : am_D (d + 1) 17 161 [am_r (am_a 254), am_i (k : Int), am_i (cgp chs k p)] (zS L, h) = pI L ((kWd V chs k).getD p.toNat 1) h := by
  have g := gp_rg Q hk h0 h1
  rw [D_17_161]
  rcases k_cases hk with rfl | rfl | ⟨c, ch, rfl, hc⟩
  · rw [show kNm V chs 0 = [8, 9, 11] from rfl] at h1
    simp at h1
    rw [if_neg (by decide), show kWd V chs 0 = [1, 1, 1] from rfl]
    rcases (show p = 0 ∨ p = 1 ∨ p = 2 by omega) with rfl | rfl | rfl <;> rfl
  · rw [show kNm V chs 1 = [10, 11] from rfl] at h1
    simp at h1
    rw [if_neg (by decide), show kWd V chs 1 = [1, 1] from rfl]
    rcases (show p = 0 ∨ p = 1 by omega) with rfl | rfl <;> rfl
  · rw [(kNm_c (V := V) hc).1, show (cNm V ch).length = ch.2.1.length by unfold cNm; rw [List.length_map]] at h1
    have ge : cgp chs (2 + c) p = (oP chs c : Int) + p := by unfold cgp; rw [if_neg (by omega), show 2 + c - 2 = c by omega]
    have hp := List.getElem?_eq_getElem (show p.toNat < ch.2.1.length by omega)
    rw [if_pos (by omega), p_idx g.1 g.2, ge, show ((oP chs c : Int) + p).toNat = oP chs c + p.toNat by omega, (Q.2.2.2.2.2.1 c ch hc _ _ hp).2.2.2, (kNm_c (V := V) hc).2.1]
    unfold cWs
    rw [List.getD_eq_getElem?_getD, List.getElem?_map, hp]
    rfl
theorem mn_fits {r : cRg} {w x y : Int} (hw : 1 ≤ w) (hr : r.1 ≠ -1 → x = r.2.1 ∧ y = r.2.2) : am_D (d + 1) 17 162 [am_r (am_a 254), am_i r.1, am_i x, am_i y, am_i w] (zS L, h) = pI L (pB (rok r w)) h := by
  rw [D_17_162]
  by_cases c : r.1 = -1
  · rw [if_pos c, p_bit1, pB_t (by unfold rok rlo rhi; rw [if_pos c, if_pos c]; omega)]
  · obtain ⟨rfl, rfl⟩ := hr c
    rw [if_neg c]
    by_cases y1 : r.2.2 < r.2.1
    · rw [if_pos y1, p_bit0, pB_f (by unfold rok rlo rhi; rw [if_neg c, if_neg c]; omega)]
    · rw [if_neg y1]
      by_cases y2 : r.2.2 < w
      · rw [if_pos y2, p_bit1, pB_t (by unfold rok rlo rhi; rw [if_neg c, if_neg c]; omega)]
      · rw [if_neg y2, p_bit0, pB_f (by unfold rok rlo rhi; rw [if_neg c, if_neg c]; omega)]
theorem mn_bits {r : cRg} {w x y : Int} (hr : r.1 ≠ -1 → x = r.2.1 ∧ y = r.2.2) (hv : 0 ≤ r.2.1 ∧ r.2.1 ≤ 99 ∧ 0 ≤ r.2.2 ∧ r.2.2 ≤ 99) : am_D (d + 1) 17 163 [am_r (am_a 254), am_i r.1, am_i x, am_i y, am_i w] (zS L, h) = pI L (rn r w) h := by
  rw [D_17_163]
  by_cases c : r.1 = -1
  · rw [if_pos c, show rn r w = w by unfold rn rlo rhi; rw [if_pos c, if_pos c]; omega]
  · obtain ⟨rfl, rfl⟩ := hr c
    rw [if_neg c, p_w (x := r.2.2 - r.2.1) (by omega) (by omega), p_w (by omega) (by omega), show rn r w = r.2.2 - r.2.1 + 1 by unfold rn rlo rhi; rw [if_neg c, if_neg c]]
end
/-- the model's masks -/
theorem msk_m {r : cRg} {w : Int} (h : rok r w) (hw : w ≤ 16) (h0 : 0 ≤ rlo r) : am_shl (am_w (am_shl 1 (rn r w) - 1)) (rlo r) = rmk r w := by
  have all : ∀ lo hi : Fin 16, lo.1 ≤ hi.1 → am_shl (am_w (am_shl 1 ((hi.1 : Int) - (lo.1 : Int) + 1) - 1)) (lo.1 : Int) = msk (lo.1 : Int) (hi.1 : Int) := by decide
  have := all ⟨(rlo r).toNat, by unfold rok at h; omega⟩ ⟨(rhi r w).toNat, by unfold rok at h; omega⟩ (by unfold rok at h; dsimp only; omega)
  dsimp only at this
  unfold rok at h
  rw [show (((rlo r).toNat : Nat) : Int) = rlo r by omega, show (((rhi r w).toNat : Nat) : Int) = rhi r w by omega] at this
  exact this
