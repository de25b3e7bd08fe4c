/-! CHIPS, 46: the board: the component's whole net -/
section
variable {d L : Nat} {K V P : Nat → Int} {Z : Nat} {chs : List cCh} {ch : cCh} {h : am_H}
def mkC : List Nat := [196, 197, 198, 199, 200, 201, 202, 203, 204, 205, 206, 207, 208, 209]
def mkF : List (Nat × Nat) := [(36, 5), (36, 9), (36, 10), (195, 3), (195, 9), (195, 10), (195, 11), (195, 15), (195, 16), (195, 17), (195, 18)]
theorem zmk {h h' : am_H} (f : p_fr mkC mkF h h') : zfr h h' := fun c k hc => f c k (by unfold mkC; simp; omega) (by unfold mkF; simp; omega)
/-- the whole net, as it is built -/
def NET (K V P : Nat → Int) (Z : Nat) (chs : List cCh) (ch : cCh) (c : Nat) (h : am_H) : Prop := (kZ K V P Z chs h ∧ h 195 3 = ((2 + bAll K V chs c : Nat) : Int) ∧ gCt (gAll V chs c) h ∧ h 195 18 = ((84 + 7 * c : Nat) : Int) ∧ h 195 17 = 0) ∧ CN K V chs (h 196) (h 198) (h 199) (h 200) (h 201) 16 c 2 0 ∧ (h 196 0 = 0 ∧ h 196 1 = 1 ∧ ∀ x, x < inb V ch → h 196 (2 + x) = ((2 + x : Nat) : Int)) ∧ (h 197 1 = 1 ∧ h 197 0 = 0 ∧ ∀ x, 2 ≤ x → x < 2 + bAll K V chs c → h 197 x = 0) ∧ ∀ j, j < ch.2.1.length → h 206 j = ((2 + wfl (cWs V ch) j : Nat) : Int)
theorem cb_make (Y : kY K V Z chs) (E : kEx K V Z) (T : ∀ ch ∈ chs, cht K V Z ch) (LK : kL K V chs) (hin : ∀ ch ∈ chs, ch.2.2.1 < ch.2.1.length) {c : Nat} (hcn : c + 1 = chs.length) (hc : chs[c]? = some ch) (S : kZ K V P Z chs h) :
    (¬ (gAll V chs c ≤ 1500 ∧ bAll K V chs c ≤ 40000) ∧ ∃ h', am_D (d + 22) 2 3 [am_r (am_a 195)] (zS L, h) = pI L 0 h' ∧ p_fr mkC mkF h h') ∨ ((gAll V chs c ≤ 1500 ∧ bAll K V chs c ≤ 40000) ∧ ∃ h1, am_D (d + 22) 2 3 [am_r (am_a 195)] (zS L, h) = (am_xI (zS L) (am_D (d + 21) 2 11 [am_r (am_a 195)] (zS L, h1)) (am_up1 (zS L)) fun v5 h4 => if (v5 : Int) = 0 then am_bit 0 (pI L 0 h4) else am_xV (zS L) (am_D (d + 21) 2 12 [am_r (am_a 195)] (zS L, h4)) (am_up1 (zS L)) fun h6 => am_bit 1 (pI L 1 h6)) ∧ NET K V P Z chs ch c h1 ∧ p_fr mkC mkF h h1) := by
  have hcl := (List.getElem?_eq_some_iff.1 hc).1
  have hcm := List.mem_of_getElem? hc
  have G16 := S.1.2.1.1.2
  have C0 := CB_c L c (by omega)
  have enc : am_enc (am_a (83 + 7 * c)) = some ((84 + 7 * c : Nat) : Int) := by
    show cond (Nat.blt (83 + 7 * c) 5000) (some (((83 + 7 * c : Nat) : Int) + 1)) none = _
    rw [show Nat.blt (83 + 7 * c) 5000 = true by rw [Nat.blt_eq]; omega]
    show some _ = some _
    congr 1
    omega
  rw [D_2_3, S.1.2.1.1.1, p_w (x := (chs.length : Int) - 1) (by omega) (by omega), p_idx (by omega) (by omega), show ((chs.length : Int) - 1).toNat = c by omega, CHS_at c (by omega), enc, show ∀ (x : Int) (k : Int → Option am_O), am_ob (some x) k = k x from fun _ _ => rfl]
  have fa : p_fr mkC mkF h (am_up h 195 18 ((84 + 7 * c : Nat) : Int)) := (p_fr.refl h).upf _ _ _ rfl
  have Sa := S.fr (zmk fa)
  obtain ⟨h2, r2, f2⟩ := ky_small (d := d + 17) (L := L) Y Sa
  rw [show chs.length - 1 = c by omega] at r2
  have f2' : p_fr mkC mkF h h2 := fa.trans (f2.mono rfl rfl)
  have S2 := S.fr (zmk f2')
  have e218 : h2 195 18 = ((84 + 7 * c : Nat) : Int) := by rw [f2 195 18 rfl rfl, p_up_s]
  rw [r2, p_xI]
  by_cases sm : gAll V chs c ≤ 1500 ∧ bAll K V chs c ≤ 40000
  · right
    refine ⟨sm, ?_⟩
    have be := bAll_eq (K := K) Y.1 hc
    have oe : ownx K V chs ch = wsm V ch.2.1 + ism (cIW K V chs ch) ch.2.2.2.2.length := rfl
    rw [pB_t sm, if_neg (by decide)]
    obtain ⟨h3, e3⟩ : ∃ h3, h3 = am_up h2 195 3 0 := ⟨_, rfl⟩
    rw [← e3]
    obtain ⟨h4, r4, a43, a46, a47, f4⟩ := cb_wire (d := d + 20) (L := L) (h := h3) (w := 0) (by rw [e3, p_up_s]; rfl) (by decide)
    rw [r4, p_xI]
    obtain ⟨h5, r5, a53, a56, a57, f5⟩ := cb_wire (d := d + 20) (L := L) (h := h4) (w := 1) (by rw [a43]) (by decide)
    rw [r5, p_xI, p_bit1, p_idx (by decide) (by decide), show (1 : Int).toNat = 1 from rfl]
    obtain ⟨h6, e6⟩ : ∃ h6, h6 = am_up (am_up (am_up (am_up (am_up h5 197 1 1) 195 9 0) 195 10 0) 195 11 0) 195 17 0 := ⟨_, rfl⟩
    rw [← e6]
    have f36 : p_fr mkC mkF h2 h6 := by
      have x1 : p_fr mkC mkF h2 h3 := by rw [e3]; exact (p_fr.refl h2).upf _ _ _ rfl
      have x2 : p_fr mkC mkF h5 h6 := by rw [e6]; exact (((((p_fr.refl h5).upc _ _ _ rfl).upf _ _ _ rfl).upf _ _ _ rfl).upf _ _ _ rfl).upf _ _ _ rfl
      exact ((x1.trans (f4.mono rfl rfl)).trans (f5.mono rfl rfl)).trans x2
    have S6 := S2.fr (zmk f36)
    have c6 : ∀ x, x ≠ 195 → x ≠ 197 → h6 x = h5 x := fun x a b => by rw [e6, p_up_c _ _ _ _ _ a, p_up_c _ _ _ _ _ a, p_up_c _ _ _ _ _ a, p_up_c _ _ _ _ _ a, p_up_c _ _ _ _ _ b]
    have g6 : h6 195 9 = 0 ∧ h6 195 10 = 0 ∧ h6 195 11 = 0 ∧ h6 195 17 = 0 ∧ h6 195 3 = 2 ∧ h6 195 18 = ((84 + 7 * c : Nat) : Int) := by
      have k3 : h5 195 3 = 2 := a53
      have k18 : h5 195 18 = ((84 + 7 * c : Nat) : Int) := by rw [f5 195 18 rfl rfl, f4 195 18 rfl rfl, e3, p_up_n _ _ _ _ _ _ (Or.inr (by decide))]; exact e218
      rw [e6]
      refine ⟨?_, ?_, ?_, ?_, ?_, ?_⟩
      · simp [p_up]
      · simp [p_up]
      · simp [p_up]
      · simp [p_up]
      · simp [p_up]; exact k3
      · simp [p_up]; simpa using k18
    have s6 : h6 196 0 = 0 ∧ h6 196 1 = 1 := by
      rw [c6 196 (by decide) (by decide), a56, a46]
      exact ⟨rfl, rfl⟩
    have b6 : h6 197 1 = 1 ∧ h6 197 0 = 0 := by
      have : h6 197 = p_set (h5 197) 1 1 := by rw [e6, p_up_c _ _ _ _ _ (by decide), p_up_c _ _ _ _ _ (by decide), p_up_c _ _ _ _ _ (by decide), p_up_c _ _ _ _ _ (by decide), p_up_f]
      rw [this, a57, a47]
      exact ⟨rfl, rfl⟩
    have hin' := Nat.le_of_lt (hin ch hcm)
    obtain ⟨h7, w2, r7, ⟨i1, i2, i3, i4, i5⟩⟩ := cb_r2 (d := d + 20) (L := L) hc hin' S6 g6.2.2.2.2.2 (by omega) ch.2.1.length 0 none (h1 := h6) (by omega) ⟨by rw [g6.2.2.2.2.1]; rfl, fun j hj => by omega, fun x hx => absurd hx (Nat.not_lt_zero _), fun x hx => ⟨rfl, rfl⟩, p_fr.refl h6⟩
    rw [show ((0 : Nat) : Int) = 0 from rfl] at r7
    rw [r7]
    have S7 := S6.fr (zrt i5)
    have f7 : p_fr mkC mkF h6 h7 := i5.mono rfl rfl
    have e718 : h7 195 18 = ((84 + 7 * c : Nat) : Int) := by rw [i5 195 18 rfl rfl]; exact g6.2.2.2.2.2
    obtain ⟨h8, r8, f8, R8⟩ := cb_r8 (d := d + 20) (L := L) hc w2 e718 i2 ch.2.1.length 0 (h1 := h7) (by omega) S7 (p_fr.refl h7) (fun j hj => by omega)
    rw [show ((0 : Nat) : Int) = 0 from rfl] at r8
    rw [r8]
    have S8 := S7.fr (zbd (f8.mono rfl rfl))
    have dc : am_dec (h8 195 18) = am_a (83 + 7 * c) := by unfold am_dec; rw [f8 195 18 rfl rfl, e718, if_neg (by omega), show (((84 + 7 * c : Nat) : Int) - 1).toNat = 83 + 7 * c by omega]
    have g1 := (S8.1.2.1.2.1 (2 + c) (by omega)).1
    rw [kb_c, (kNm_c (V := V) hc).1, show (cNm V ch).length = ch.2.1.length by unfold cNm; rw [List.length_map]] at g1
    have rkc := rk_rg Y.1 hcl
    have wa : wfl (cWs V ch) ch.2.1.length = wsm V ch.2.1 := wfl_all ch
    rw [wa] at i1 i3
    have gc8 : gCt 0 h8 := by
      unfold gCt
      rw [f8 195 9 rfl rfl, f8 195 10 rfl rfl, f8 195 11 rfl rfl, i5 195 9 rfl rfl, i5 195 10 rfl rfl, i5 195 11 rfl rfl, g6.1, g6.2.1, g6.2.2.1]
      exact ⟨rfl, rfl, rfl⟩
    obtain ⟨h9, r9, ⟨⟨o1, o2⟩, o3, o4, o5, o6, o7, o8, o9⟩⟩ := cb_build (d := d) (L := L) (P := P) Y E T LK hin 16 c ch 1 2 0 100 h8 (by omega) hc (by omega) (by omega) (by omega) S8 (by rw [f8 195 3 rfl rfl, i1]) gc8 R8 (by omega) (by omega) (fun x hx1 hx2 => by
      rw [f8.cell 196 rfl rfl, (i3 x hx2).1, if_neg (by omega)])
    rw [q_2_3_8, dc, C0.ob, g1.1, if_neg (by omega)]
    have r9' : am_D (d + 21) 2 8 [am_r (am_a 195), am_r (am_a (83 + 7 * c)), am_i 1, am_i 100] (zS L, h8) = pV L h9 := r9
    rw [r9', p_xV]
    have f9 : p_fr mkC mkF h8 h9 := o9.mono rfl rfl
    have FT : p_fr mkC mkF h h9 := (((f2'.trans f36).trans f7).trans (f8.mono rfl rfl)).trans f9
    have ib : inb V ch ≤ wsm V ch.2.1 := by
      have : wfl (cWs V ch) ch.2.2.1 ≤ wsm V ch.2.1 := by rw [← wfl_all]; exact wfl_mono _ hin'
      exact this
    rw [Nat.zero_add] at o2
    refine ⟨h9, rfl, ⟨⟨S8.fr (zbd o9), o1, o2, by rw [o9 195 18 rfl rfl, f8 195 18 rfl rfl]; exact e718, by rw [o9 195 17 rfl rfl, f8 195 17 rfl rfl, i5 195 17 rfl rfl]; exact g6.2.2.2.1⟩, o3, ⟨?_, ?_, fun x hx => ?_⟩, ⟨?_, ?_, fun x hx1 hx2 => ?_⟩, fun j hj => ?_⟩, FT⟩
    · rw [o4 0 (by omega), f8.cell 196 rfl rfl, (i4 0 (by omega)).1]; exact s6.1
    · rw [o4 1 (by omega), f8.cell 196 rfl rfl, (i4 1 (by omega)).1]; exact s6.2
    · rw [o4 (2 + x) (by omega), f8.cell 196 rfl rfl, (i3 x (by omega)).1, if_pos hx]
    · rw [o8 1 (by omega), f8.cell 197 rfl rfl, (i4 1 (by omega)).2]; exact b6.1
    · rw [o8 0 (by omega), f8.cell 197 rfl rfl, (i4 0 (by omega)).2]; exact b6.2
    · by_cases z : 2 + wsm V ch.2.1 ≤ x
      · exact o7 x z hx2
      · rw [o8 x (by omega), f8.cell 197 rfl rfl]
        have := (i3 (x - 2) (by omega)).2
        rw [show 2 + (x - 2) = x by omega] at this
        exact this
    · rw [o9.cell 206 rfl rfl, f8.cell 206 rfl rfl]; exact i2 j hj
  · left
    refine ⟨sm, h2, ?_, f2'⟩
    rw [pB_f sm, if_pos rfl, p_bit0]
end
