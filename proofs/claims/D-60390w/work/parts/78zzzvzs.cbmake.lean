/-! CHIPS, 45: the board: the component's root -/
section
variable {d L : Nat} {K V P : Nat → Int} {Z : Nat} {chs : List cCh} {ch : cCh}
def rtC : List Nat := [196, 197, 206]
def rtF : List (Nat × Nat) := [(195, 3)]
theorem zrt {h h' : am_H} (f : p_fr rtC rtF h h') : zfr h h' := fun c k hc => f c k (by unfold rtC; simp; omega) (by unfold rtF; simp; omega)
/-- between the board's pins -/
def rtI (V : Nat → Int) (ch : cCh) (h0 : am_H) (p : Nat) (h : am_H) : Prop := h 195 3 = ((2 + wfl (cWs V ch) p : Nat) : Int) ∧ (∀ j, j < p → h 206 j = ((2 + wfl (cWs V ch) j : Nat) : Int)) ∧ (∀ x, x < wfl (cWs V ch) p → h 196 (2 + x) = (if x < inb V ch then ((2 + x : Nat) : Int) else 0) ∧ h 197 (2 + x) = 0) ∧ (∀ x, x < 2 → h 196 x = h0 196 x ∧ h 197 x = h0 197 x) ∧ p_fr rtC rtF h0 h
theorem cb_r3 {c : Nat} (hc : chs[c]? = some ch) {h0 : am_H} {p n w0 : Nat} (hp : p < ch.2.1.length) (hn : (cWs V ch).getD p 1 = (n : Int)) (hn16 : n ≤ 16) (hb : w0 + n ≤ 40002) : ∀ (m j : Nat) {h1 : am_H}, j + m = n → kZ K V P Z chs h1 → h1 195 18 = ((84 + 7 * c : Nat) : Int) → h1 195 3 = ((w0 + j : Nat) : Int) → h1 196 = fill (h0 196) w0 j (fun i => ((w0 + i : Nat) : Int)) → h1 197 = fill (h0 197) w0 j (fun _ => 0) → p_fr [196, 197] [(195, 3)] h0 h1 → ∃ h', am_E (am_D (d + 1)) m_2_3 (.inl 3) [some (am_r (am_a 195)), some (am_i (p : Int)), some (am_i (j : Int))] [] (zS L, h1) = am_E (am_D (d + 1)) m_2_3 (.inl 5) [some (am_r (am_a 195)), some (am_i (p : Int)), some (am_i 0)] [] (zS L, h') ∧ h' 195 3 = ((w0 + n : Nat) : Int) ∧ h' 196 = fill (h0 196) w0 n (fun i => ((w0 + i : Nat) : Int)) ∧ h' 197 = fill (h0 197) w0 n (fun _ => 0) ∧ p_fr [196, 197] [(195, 3)] h0 h'
  | 0, j, h1, hm, S, e18, e3, e6, e7, f => by
    have hcl := (List.getElem?_eq_some_iff.1 hc).1
    have G16 := S.1.2.1.1.2
    have C0 := CB_c L c (by omega)
    have dc : am_dec (h1 195 18) = am_a (83 + 7 * c) := by unfold am_dec; rw [e18, if_neg (by omega), show (((84 + 7 * c : Nat) : Int) - 1).toNat = 83 + 7 * c by omega]
    obtain ⟨-, -, -, -, o5, -, -, o8⟩ := ky_own (d := d) (L := L) hc S.1
    have wi : (cWs V ch)[p]? = some (n : Int) := by
      rw [← hn, List.getD_eq_getElem?_getD, List.getElem?_eq_getElem (by unfold cWs; rw [List.length_map]; omega)]; rfl
    rw [q_2_3_3, dc, C0.ob, CB.r7, C0.a2, p_idx (by omega) (by omega), Int.toNat_natCast, o8 _ _ wi, if_neg (by omega)]
    rw [show n = j by omega]
    exact ⟨h1, rfl, e3, e6, e7, f⟩
  | m + 1, j, h1, hm, S, e18, e3, e6, e7, f => by
    have hcl := (List.getElem?_eq_some_iff.1 hc).1
    have G16 := S.1.2.1.1.2
    have C0 := CB_c L c (by omega)
    have dc : am_dec (h1 195 18) = am_a (83 + 7 * c) := by unfold am_dec; rw [e18, if_neg (by omega), show (((84 + 7 * c : Nat) : Int) - 1).toNat = 83 + 7 * c by omega]
    obtain ⟨-, -, -, -, o5, -, -, o8⟩ := ky_own (d := d) (L := L) hc S.1
    have wi : (cWs V ch)[p]? = some (n : Int) := by
      rw [← hn, List.getD_eq_getElem?_getD, List.getElem?_eq_getElem (by unfold cWs; rw [List.length_map]; omega)]; rfl
    obtain ⟨h2, r2, a3, a6, a7, f2⟩ := cb_wire (d := d) (L := L) e3 (show w0 + j < 40002 by omega)
    rw [q_2_3_3, dc, C0.ob, CB.r7, C0.a2, p_idx (by omega) (by omega), Int.toNat_natCast, o8 _ _ wi, if_pos (by omega), r2, p_xI, p_w (by omega) (by omega)]
    exact cb_r3 hc hp hn hn16 hb m (j + 1) (by omega) (S.fr (zbd (f2.mono rfl rfl))) (by rw [f2 195 18 rfl rfl]; exact e18) (by rw [a3]; omega) (by rw [a6, e6]; exact fill_s (h0 196) w0 j (fun i => ((w0 + i : Nat) : Int))) (by rw [a7, e7]; exact fill_s (h0 197) w0 j (fun _ => 0)) (f.trans f2)
theorem cb_r5 {c : Nat} (hc : chs[c]? = some ch) {h0 : am_H} {p n w0 : Nat} (hp : p < ch.2.1.length) (hn : (cWs V ch).getD p 1 = (n : Int)) (hn16 : 1 ≤ n ∧ n ≤ 16) (hb : w0 + n ≤ 40002) : ∀ (m j : Nat) {h1 : am_H}, j + m = n → (j = 0 ∨ ¬ p < ch.2.2.1) → kZ K V P Z chs h1 → h1 195 18 = ((84 + 7 * c : Nat) : Int) → h1 206 p = (w0 : Int) → h1 196 = fill (h0 196) w0 j (fun _ => 0) → p_fr [196] [] h0 h1 → ∃ h' w2, am_E (am_D (d + 1)) m_2_3 (.inl 5) [some (am_r (am_a 195)), some (am_i (p : Int)), some (am_i (j : Int))] [] (zS L, h1) = am_E (am_D (d + 1)) m_2_3 (.inl 2) [some (am_r (am_a 195)), some (am_i ((p + 1 : Nat) : Int)), w2] [] (zS L, h') ∧ h' 196 = (if p < ch.2.2.1 then h0 196 else fill (h0 196) w0 n (fun _ => 0)) ∧ p_fr [196] [] h0 h'
  | 0, j, h1, hm, hj, S, e18, e206, e6, f => by
    have hcl := (List.getElem?_eq_some_iff.1 hc).1
    have G16 := S.1.2.1.1.2
    have C0 := CB_c L c (by omega)
    have dc : am_dec (h1 195 18) = am_a (83 + 7 * c) := by unfold am_dec; rw [e18, if_neg (by omega), show (((84 + 7 * c : Nat) : Int) - 1).toNat = 83 + 7 * c by omega]
    obtain ⟨-, -, -, -, o5, -, -, o8⟩ := ky_own (d := d) (L := L) hc S.1
    have wi : (cWs V ch)[p]? = some (n : Int) := by
      rw [← hn, List.getD_eq_getElem?_getD, List.getElem?_eq_getElem (by unfold cWs; rw [List.length_map]; omega)]; rfl
    rw [q_2_3_5, dc, C0.ob, CB.r7, C0.a2, p_idx (by omega) (by omega), Int.toNat_natCast, o8 _ _ wi, if_neg (by omega), p_w (by omega) (by omega)]
    refine ⟨h1, _, rfl, ?_, f⟩
    rw [if_neg (by omega), e6, show n = j by omega]
  | m + 1, j, h1, hm, hj, S, e18, e206, e6, f => by
    have hcl := (List.getElem?_eq_some_iff.1 hc).1
    have G16 := S.1.2.1.1.2
    have C0 := CB_c L c (by omega)
    have dc : am_dec (h1 195 18) = am_a (83 + 7 * c) := by unfold am_dec; rw [e18, if_neg (by omega), show (((84 + 7 * c : Nat) : Int) - 1).toNat = 83 + 7 * c by omega]
    obtain ⟨-, -, o3, -, o5, -, -, o8⟩ := ky_own (d := d) (L := L) hc S.1
    have wi : (cWs V ch)[p]? = some (n : Int) := by
      rw [← hn, List.getD_eq_getElem?_getD, List.getElem?_eq_getElem (by unfold cWs; rw [List.length_map]; omega)]; rfl
    rw [q_2_3_5, dc, C0.ob, CB.r7, C0.a2, p_idx (by omega) (by omega), Int.toNat_natCast, o8 _ _ wi, if_pos (by omega), C0.ob, o3]
    by_cases y : p < ch.2.2.1
    · have j0 : j = 0 := by omega
      rw [if_pos (by omega), p_w (by omega) (by omega)]
      refine ⟨h1, _, rfl, ?_, f⟩
      rw [if_pos y, e6, j0, fill_0]
    · rw [if_neg (by omega), p_idx (by omega) (by omega), Int.toNat_natCast, e206, p_w (x := (w0 : Int) + (j : Int)) (by omega) (by omega), p_idx (by omega) (by omega), show ((w0 : Int) + (j : Int)).toNat = w0 + j by omega, p_w (by omega) (by omega)]
      have f2 : p_fr [196] [] h1 (am_up h1 196 (w0 + j) 0) := (p_fr.refl h1).upc _ _ _ rfl
      exact cb_r5 hc hp hn hn16 hb m (j + 1) (h1 := am_up h1 196 (w0 + j) 0) (by omega) (Or.inr y) (S.fr (zbd (f2.mono rfl rfl))) (by rw [p_up_c _ _ _ _ _ (by decide)]; exact e18) (by rw [p_up_c _ _ _ _ _ (by decide)]; exact e206) (by rw [p_up_f, e6]; exact fill_s (h0 196) w0 j (fun _ => 0)) (f.trans f2)
theorem cb_r2 {c : Nat} (hc : chs[c]? = some ch) (hin : ch.2.2.1 ≤ ch.2.1.length) {h0 : am_H} (S0 : kZ K V P Z chs h0) (e0 : h0 195 18 = ((84 + 7 * c : Nat) : Int)) (hb : 2 + wsm V ch.2.1 ≤ 40002) : ∀ (m p : Nat) {h1 : am_H} (u2 : Option am_V), p + m = ch.2.1.length → rtI V ch h0 p h1 → ∃ h' w2, am_E (am_D (d + 1)) m_2_3 (.inl 2) [some (am_r (am_a 195)), some (am_i (p : Int)), u2] [] (zS L, h1) = am_E (am_D (d + 1)) m_2_3 (.inl 8) [some (am_r (am_a 195)), some (am_i 0), w2] [] (zS L, h') ∧ rtI V ch h0 ch.2.1.length h'
  | 0, p, h1, u2, hm, I => by
    have S := S0.fr (zrt I.2.2.2.2)
    have hcl := (List.getElem?_eq_some_iff.1 hc).1
    have G16 := S.1.2.1.1.2
    have C0 := CB_c L c (by omega)
    have e18 : h1 195 18 = ((84 + 7 * c : Nat) : Int) := by rw [I.2.2.2.2 195 18 rfl rfl]; exact e0
    have dc : am_dec (h1 195 18) = am_a (83 + 7 * c) := by unfold am_dec; rw [e18, if_neg (by omega), show (((84 + 7 * c : Nat) : Int) - 1).toNat = 83 + 7 * c by omega]
    have g1 := (S.1.2.1.2.1 (2 + c) (by omega)).1.1
    rw [kb_c, (kNm_c (V := V) hc).1, show (cNm V ch).length = ch.2.1.length by unfold cNm; rw [List.length_map]] at g1
    rw [q_2_3_2, dc, C0.ob, g1, if_neg (by omega)]
    exact ⟨h1, _, rfl, by rw [show ch.2.1.length = p by omega]; exact I⟩
  | m + 1, p, h1, u2, hm, I => by
    have S := S0.fr (zrt I.2.2.2.2)
    have hcl := (List.getElem?_eq_some_iff.1 hc).1
    have G16 := S.1.2.1.1.2
    have C0 := CB_c L c (by omega)
    have e18 : h1 195 18 = ((84 + 7 * c : Nat) : Int) := by rw [I.2.2.2.2 195 18 rfl rfl]; exact e0
    have dc : am_dec (h1 195 18) = am_a (83 + 7 * c) := by unfold am_dec; rw [e18, if_neg (by omega), show (((84 + 7 * c : Nat) : Int) - 1).toNat = 83 + 7 * c by omega]
    have g1 := (S.1.2.1.2.1 (2 + c) (by omega)).1
    rw [kb_c, (kNm_c (V := V) hc).1, show (cNm V ch).length = ch.2.1.length by unfold cNm; rw [List.length_map]] at g1
    obtain ⟨i1, i2, i3, i4, i5⟩ := I
    have hp : p < ch.2.1.length := by omega
    obtain ⟨n, hn, n1, n16⟩ : ∃ n : Nat, (cWs V ch).getD p 1 = (n : Int) ∧ 1 ≤ n ∧ n ≤ 16 := by
      have := getD_rg (l := cWs V ch) (fun w hw => by unfold cWs at hw; obtain ⟨p, -, rfl⟩ := List.mem_map.1 hw; exact c_w_rg V p.2) p
      exact ⟨((cWs V ch).getD p 1).toNat, by omega, by omega, by omega⟩
    have ws : wfl (cWs V ch) (p + 1) = wfl (cWs V ch) p + n := by show _ + _ = _; rw [hn]; rfl
    have wm : wfl (cWs V ch) (p + 1) ≤ wsm V ch.2.1 := by rw [← wfl_all]; exact wfl_mono _ (by omega)
    obtain ⟨w0, hw0⟩ : ∃ w0, w0 = 2 + wfl (cWs V ch) p := ⟨_, rfl⟩
    rw [← hw0] at i1
    rw [q_2_3_2, dc, C0.ob, g1.1, if_pos (by omega), p_idx (by omega) (by omega), Int.toNat_natCast, i1]
    obtain ⟨h2, e2⟩ : ∃ h2, h2 = am_up h1 206 p (w0 : Int) := ⟨_, rfl⟩
    rw [← e2]
    have f2 : p_fr rtC rtF h1 h2 := by rw [e2]; exact (p_fr.refl h1).upc _ _ _ rfl
    have S2 := S.fr (zrt f2)
    have e218 : h2 195 18 = ((84 + 7 * c : Nat) : Int) := by rw [f2 195 18 rfl rfl]; exact e18
    obtain ⟨h3, r3, a3, a6, a7, f3⟩ := cb_r3 (d := d) (L := L) hc (h0 := h2) hp hn n16 (w0 := w0) (by omega) n 0 (h1 := h2) (by omega) S2 e218 (by rw [e2, p_up_c _ _ _ _ _ (by decide), i1]; rfl) (by rw [fill_0]) (by rw [fill_0]) (p_fr.refl h2)
    rw [show ((0 : Nat) : Int) = 0 from rfl] at r3
    rw [r3]
    have S3 := S2.fr (zbd (f3.mono rfl rfl))
    have e206 : h3 206 = h2 206 := f3.cell 206 rfl rfl
    obtain ⟨h4, w2, r4, a46, f4⟩ := cb_r5 (d := d) (L := L) hc (h0 := h3) hp hn ⟨n1, n16⟩ (w0 := w0) (by omega) n 0 (h1 := h3) (by omega) (Or.inl rfl) S3 (by rw [f3 195 18 rfl rfl]; exact e218) (by rw [e206, e2, p_up_s]) (by rw [fill_0]) (p_fr.refl h3)
    rw [show ((0 : Nat) : Int) = 0 from rfl] at r4
    rw [r4]
    have f24 : p_fr rtC rtF h1 h4 := (f2.trans (f3.mono rfl rfl)).trans (f4.mono rfl rfl)
    have s3 : ∀ x, h3 196 x = if w0 ≤ x ∧ x < w0 + n then ((x : Nat) : Int) else h1 196 x := fun x => by
      rw [a6, e2, p_up_c _ _ _ _ _ (by decide)]; unfold fill
      by_cases z : w0 ≤ x ∧ x < w0 + n
      · rw [if_pos z, if_pos z]
        show ((w0 + (x - w0) : Nat) : Int) = _
        omega
      · rw [if_neg z, if_neg z]
    have s4 : ∀ x, h4 196 x = if w0 ≤ x ∧ x < w0 + n then (if p < ch.2.2.1 then ((x : Nat) : Int) else 0) else h1 196 x := fun x => by
      rw [a46]
      by_cases y : p < ch.2.2.1
      · rw [if_pos y, if_pos y, s3]
      · rw [if_neg y, if_neg y]; unfold fill
        by_cases z : w0 ≤ x ∧ x < w0 + n
        · rw [if_pos z, if_pos z]
        · rw [if_neg z, if_neg z, s3, if_neg z]
    have b4 : ∀ x, h4 197 x = if w0 ≤ x ∧ x < w0 + n then 0 else h1 197 x := fun x => by
      rw [f4.cell 197 rfl rfl, a7, e2, p_up_c _ _ _ _ _ (by decide)]; rfl
    have v206 : ∀ j, h4 206 j = if j = p then (w0 : Int) else h1 206 j := fun j => by
      rw [f4.cell 206 rfl rfl, e206, e2, p_up_f]; rfl
    have inp : p < ch.2.2.1 ↔ w0 + n ≤ 2 + inb V ch := by
      constructor
      · intro y
        have : wfl (cWs V ch) (p + 1) ≤ inb V ch := wfl_mono _ (by omega)
        omega
      · intro y
        rcases Nat.lt_or_ge p ch.2.2.1 with z | z
        · exact z
        · exfalso
          have : inb V ch ≤ wfl (cWs V ch) p := wfl_mono _ z
          omega
    have inp2 : ¬ p < ch.2.2.1 → 2 + inb V ch ≤ w0 := fun y => by
      have : inb V ch ≤ wfl (cWs V ch) p := wfl_mono _ (by omega)
      omega
    refine cb_r2 hc hin S0 e0 hb m (p + 1) w2 (by omega) ⟨by rw [f4 195 3 rfl rfl, a3, ws]; omega, fun j hj => ?_, fun x hx => ?_, fun x hx => ?_, i5.trans f24⟩
    · rw [v206]
      by_cases e : j = p
      · rw [if_pos e, e, hw0]
      · rw [if_neg e]; exact i2 j (by omega)
    · rw [s4, b4]
      by_cases z : w0 ≤ 2 + x ∧ 2 + x < w0 + n
      · rw [if_pos z, if_pos z]
        refine ⟨?_, rfl⟩
        by_cases y : p < ch.2.2.1
        · rw [if_pos y, if_pos (by have := inp.1 y; omega)]
        · rw [if_neg y, if_neg (by have := inp2 y; omega)]
      · rw [if_neg z, if_neg z]; exact i3 x (by omega)
    · rw [s4, b4, if_neg (by omega), if_neg (by omega)]; exact i4 x hx
/-- rows of the board's pins -/
theorem cb_r8 {c : Nat} (hc : chs[c]? = some ch) (u2 : Option am_V) {h0 : am_H} (e18 : h0 195 18 = ((84 + 7 * c : Nat) : Int)) (e206 : ∀ j, j < ch.2.1.length → h0 206 j = ((2 + wfl (cWs V ch) j : Nat) : Int)) : ∀ (m p : Nat) {h1 : am_H}, p + m = ch.2.1.length → kZ K V P Z chs h1 → p_fr [207] [] h0 h1 → (∀ j, j < p → h1 207 (100 + j) = ((2 + wfl (cWs V ch) j : Nat) : Int)) → ∃ h', am_E (am_D (d + 1)) m_2_3 (.inl 8) [some (am_r (am_a 195)), some (am_i (p : Int)), u2] [] (zS L, h1) = am_E (am_D (d + 1)) m_2_3 (.inl 8) [some (am_r (am_a 195)), some (am_i (ch.2.1.length : Int)), u2] [] (zS L, h') ∧ p_fr [207] [] h0 h' ∧ rwP 100 (cWs V ch) ch.2.1.length 2 h'
  | 0, p, h1, hm, S, f, R => by
    rw [show p = ch.2.1.length by omega] at R ⊢
    exact ⟨h1, rfl, f, R⟩
  | m + 1, p, h1, hm, S, f, R => by
    have hcl := (List.getElem?_eq_some_iff.1 hc).1
    have G16 := S.1.2.1.1.2
    have C0 := CB_c L c (by omega)
    have dc : am_dec (h1 195 18) = am_a (83 + 7 * c) := by unfold am_dec; rw [f 195 18 rfl rfl, e18, if_neg (by omega), show (((84 + 7 * c : Nat) : Int) - 1).toNat = 83 + 7 * c by omega]
    have g1 := (S.1.2.1.2.1 (2 + c) (by omega)).1
    rw [kb_c, (kNm_c (V := V) hc).1, show (cNm V ch).length = ch.2.1.length by unfold cNm; rw [List.length_map]] at g1
    rw [q_2_3_8, dc, C0.ob, g1.1, if_pos (by omega), p_idx (by omega) (by omega), Int.toNat_natCast, p_w (x := 100 + (p : Int)) (by omega) (by omega), p_idx (by omega) (by omega), show (100 + (p : Int)).toNat = 100 + p by omega, f.cell 206 rfl rfl, e206 p (by omega), p_w (by omega) (by omega)]
    have f2 : p_fr [207] [] h1 (am_up h1 207 (100 + p) ((2 + wfl (cWs V ch) p : Nat) : Int)) := (p_fr.refl h1).upc _ _ _ rfl
    exact cb_r8 hc u2 e18 e206 m (p + 1) (h1 := am_up h1 207 (100 + p) ((2 + wfl (cWs V ch) p : Nat) : Int)) (by omega) (S.fr (zbd (f2.mono rfl rfl))) (f.trans f2) (fun j hj => by
      by_cases e : j = p
      · rw [e, p_up_s]
      · rw [p_up_n _ _ _ _ _ _ (Or.inr (by omega))]; exact R j (by omega))
end
