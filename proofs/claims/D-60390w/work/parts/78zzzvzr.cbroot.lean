/-! CHIPS, 44: the board: the component builds chips, and the whole -/
section
variable {d L : Nat} {K V P : Nat → Int} {Z : Nat} {chs : List cCh} {ch : cCh}
theorem cb_parts (Y : kY K V Z chs) (E : kEx K V Z) (T : ∀ ch ∈ chs, cht K V Z ch) (LK : kL K V chs) (hin : ∀ ch ∈ chs, ch.2.2.1 < ch.2.1.length) {m c lv β γ rp : Nat} (IH : bdSt d L K V P Z chs m) (hc : chs[c]? = some ch) (hrk : rkx V chs c < m + 1) (hlv : 1 ≤ lv) (hlr : lv + rkx V chs c ≤ 16) (hrp : rp + 12 ≤ 112 * lv) (hb : β + bAll K V chs c ≤ 40002) (hg : γ + gAll V chs c ≤ 1500) {h0 : am_H} : ∀ (j p : Nat) {h : am_H} (u7 u8 u9 : Option am_V), p + j = ch.2.2.2.1.length → bdI K V P Z chs ch β γ lv rp m h0 p h → ∃ h', am_E (am_D (d + m + 5)) m_2_8 (.inl 5) [some (am_r (am_a 195)), some (am_r (am_a (83 + 7 * c))), some (am_i (lv : Int)), some (am_i (rp : Int)), some (am_i ((112 * lv : Nat) : Int)), some (am_i ((112 * lv + 100 : Nat) : Int)), some (am_i (p : Int)), u7, u8, u9] [] (zS L, h) = pV L h' ∧ bdI K V P Z chs ch β γ lv rp m h0 ch.2.2.2.1.length h'
  | 0, p, h, u7, u8, u9, hm, I => by
    have S := I.1.1
    have hcl := (List.getElem?_eq_some_iff.1 hc).1
    have G16 := S.1.2.1.1.2
    have C0 := CB_c L c (by omega)
    obtain ⟨-, ⟨g1, g2⟩, -⟩ := S.1.2.1.2.2 c ch hc
    rw [q_2_8_5, C0.ob, g1, if_neg (by omega)]
    exact ⟨h, rfl, by rw [show ch.2.2.2.1.length = p by omega]; exact I⟩
  | j + 1, p, h, u7, u8, u9, hm, I => by
    obtain ⟨h1, w7, w8, w9, r1, I1⟩ := cb_part Y E T LK hin IH hc hrk hlv hlr hrp hb hg (show p < ch.2.2.2.1.length by omega) I u7 u8 u9
    rw [r1]
    exact cb_parts Y E T LK hin IH hc hrk hlv hlr hrp hb hg j (p + 1) w7 w8 w9 (by omega) I1
theorem cb_build (Y : kY K V Z chs) (E : kEx K V Z) (T : ∀ ch ∈ chs, cht K V Z ch) (LK : kL K V chs) (hin : ∀ ch ∈ chs, ch.2.2.1 < ch.2.1.length) : ∀ m, bdSt d L K V P Z chs m
  | 0 => fun c ch lv β γ rp h hrk => by omega
  | m + 1 => by
    intro c ch lv β γ rp h hrk hc hlv hlr hrp S hw hgc R2 hb hg h0
    have IH := cb_build Y E T LK hin m
    have hcl := (List.getElem?_eq_some_iff.1 hc).1
    have hcm := List.mem_of_getElem? hc
    have yl := Y.2.2.2.1 ch hcm
    have be := bAll_eq (K := K) Y.1 hc
    have oe : ownx K V chs ch = wsm V ch.2.1 + ism (cIW K V chs ch) ch.2.2.2.2.length := rfl
    have ib : inb V ch ≤ wsm V ch.2.1 := by
      have : wfl (cWs V ch) ch.2.2.1 ≤ wsm V ch.2.1 := by rw [← wfl_all]; exact wfl_mono _ (Nat.le_of_lt (hin ch hcm))
      exact this
    have k0 : kO K V chs ch 0 = ownx K V chs ch ∧ gO V chs ch 0 = 0 := by
      unfold kO gO; rw [List.take_zero]; exact ⟨rfl, rfl⟩
    obtain ⟨ke1, ke2⟩ := kO_end (K := K) Y.1 hc
    show ∃ h', am_D ((d + m + 5) + 1) 2 8 _ (zS L, h) = pV L h' ∧ _
    rw [D_2_8, p_w (x := 112 * (lv : Int)) (by omega) (by omega), p_w (x := 112 * (lv : Int) + 100) (by omega) (by omega), show 112 * (lv : Int) = ((112 * lv : Nat) : Int) by omega, show ((112 * lv : Nat) : Int) + 100 = ((112 * lv + 100 : Nat) : Int) by omega]
    obtain ⟨h1, w7, r1, a3, a6, a7, R3, e7, f1⟩ := cb_in1 (d := d + m + 4) (L := L) (h := h) hc (Y.2.2.1 ch hcm) (lv : Int) (rp : Int) ((112 * lv + 100 : Nat) : Int) (ri := 112 * lv) (w0 := β + wsm V ch.2.1) (by omega) (by omega) none none ch.2.2.2.2.length 0 none (h1 := h) (by omega) S hw (by rw [show ism (cIW K V chs ch) 0 = 0 from rfl, fill_0]) (by rw [show ism (cIW K V chs ch) 0 = 0 from rfl, fill_0]) (fun j hj => by omega) (fun x hx => rfl) (p_fr.refl h)
    rw [show d + m + 4 + 1 = d + m + 5 by omega, show ((0 : Nat) : Int) = 0 from rfl] at r1
    rw [r1]
    have f1' : p_fr bdC bdF h h1 := f1.mono rfl rfl
    have s1 : ∀ x, h1 196 x = if β + wsm V ch.2.1 ≤ x ∧ x < β + ownx K V chs ch then (x : Int) else h 196 x := fun x => by
      rw [a6]; unfold fill
      by_cases z : β + wsm V ch.2.1 ≤ x ∧ x < β + ownx K V chs ch
      · rw [if_pos z, if_pos (by omega)]
        show ((β + wsm V ch.2.1 + (x - (β + wsm V ch.2.1)) : Nat) : Int) = _
        omega
      · rw [if_neg z, if_neg (by omega)]
    have b1 : ∀ x, h1 197 x = if β + wsm V ch.2.1 ≤ x ∧ x < β + ownx K V chs ch then 0 else h 197 x := fun x => by
      rw [a7]; unfold fill
      by_cases z : β + wsm V ch.2.1 ≤ x ∧ x < β + ownx K V chs ch
      · rw [if_pos z, if_pos (by omega)]
      · rw [if_neg z, if_neg (by omega)]
    have I0 : bdI K V P Z chs ch β γ lv rp m h1 0 h1 := by
      refine ⟨⟨S.fr (zbd f1'), by rw [a3, k0.1]; omega, ?_, fun j hj => by rw [e7 _ (by omega)]; exact R2 j hj, R3⟩, fun x hx1 hx2 => ?_, fun p' q k hp' => by omega, fun x _ => rfl, fun x _ => rfl, fun x _ => ⟨rfl, rfl, rfl, rfl⟩, fun x hx1 hx2 => by omega, fun x _ => rfl, p_fr.refl h1⟩
      · rw [k0.2]; unfold gCt; rw [f1 195 9 rfl rfl, f1 195 10 rfl rfl, f1 195 11 rfl rfl, f1.cell 201 rfl rfl]; exact hgc
      · rw [List.take_zero]
        show _ = if x < wsm V ch.2.1 then 0 else ((β + x : Nat) : Int)
        rw [s1]
        by_cases z : x < wsm V ch.2.1
        · rw [if_pos z, if_neg (by omega)]; exact h0 x hx1 z
        · rw [if_neg z, if_pos (by omega)]
    obtain ⟨h2, r2, ⟨⟨S2, x1, x2, -, -⟩, x3, x4, x5, x6, x7, x8, x9, x10⟩⟩ := cb_parts (d := d) (L := L) Y E T LK hin IH hc hrk hlv hlr hrp hb hg ch.2.2.2.1.length 0 w7 none none (by omega) I0
    rw [show ((0 : Nat) : Int) = 0 from rfl] at r2
    rw [List.take_of_length_le (Nat.le_refl _)] at x3
    rw [ke1] at x1 x5 x8 x9
    rw [ke2] at x2 x7
    refine ⟨h2, r2, ⟨x1, x2⟩, fun ch2 hc2 => ?_, fun x hx => ?_, fun x hx => ?_, fun x hx => ?_, fun x hx1 hx2 => ?_, fun x hx => ?_, f1'.trans x10⟩
    · rw [hc] at hc2; cases hc2
      exact ⟨x3, fun p q k hp hk => x4 p q k (List.getElem?_eq_some_iff.1 hp).1 hp hk⟩
    · rw [x5 x hx, s1, if_neg (by omega)]
    · rw [x6 x hx]; exact e7 x (by omega)
    · obtain ⟨v1, v2, v3, v4⟩ := x7 x hx
      rw [v1, v2, v3, v4, f1.cell 198 rfl rfl, f1.cell 199 rfl rfl, f1.cell 200 rfl rfl, f1.cell 201 rfl rfl]
      exact ⟨rfl, rfl, rfl, rfl⟩
    · by_cases z : x < β + ownx K V chs ch
      · rw [x9 x (Or.inl z), b1, if_pos (by omega)]
      · exact x8 x (by omega) hx2
    · rw [x9 x (by omega), b1, if_neg (by omega)]
end
