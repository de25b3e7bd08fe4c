/-! CHIPS, 42: the board: the component makes wires -/
def bdC : List Nat := [196, 197, 198, 199, 200, 201, 207]
def bdF : List (Nat × Nat) := [(36, 5), (36, 9), (36, 10), (195, 3), (195, 9), (195, 10), (195, 11)]
theorem p_set_set (S : Nat → Int) (k : Nat) (v w : Int) : p_set (p_set S k v) k w = p_set S k w := by
  funext x; unfold p_set; by_cases e : x = k
  · rw [if_pos e, if_pos e]
  · rw [if_neg e, if_neg e, if_neg e]
section
variable {d L : Nat} {K V P : Nat → Int} {Z c0 k : Nat} {chs : List cCh} {ch : cCh} {h h' : am_H}
theorem zbd (f : p_fr bdC bdF h h') : zfr h h' := fun c k hc => f c k (by unfold bdC; simp; omega) (by unfold bdF; simp; omega)
/-- wire() -/
theorem cb_wire {w : Nat} (hw : h 195 3 = (w : Int)) (hb : w < 40002) : ∃ h', am_D (d + 1) 2 1 [am_r (am_a 195)] (zS L, h) = pI L (w : Int) h' ∧ h' 195 3 = ((w + 1 : Nat) : Int) ∧ h' 196 = p_set (h 196) w (w : Int) ∧ h' 197 = p_set (h 197) w 0 ∧ p_fr [196, 197] [(195, 3)] h h' := by
  rw [D_2_1, hw, p_idx (by omega) (by omega), p_bit0, p_idx (by omega) (by omega), Int.toNat_natCast, p_w (x := (w : Int) + 1) (by omega) (by omega), p_w (by omega) (by omega), show (w : Int) + 1 - 1 = (w : Int) by omega]
  refine ⟨_, rfl, ?_, ?_, ?_, (((p_fr.refl h).upc _ _ _ rfl).upc _ _ _ rfl).upf _ _ _ rfl⟩
  · rw [p_up_s]; omega
  · rw [p_up_c _ _ _ _ _ (by decide), p_up_c _ _ _ _ _ (by decide), p_up_f]
  · rw [p_up_c _ _ _ _ _ (by decide), p_up_f, p_up_c _ _ _ _ _ (by decide)]
/-- wires of an inner name -/
theorem cb_in2 (hc : chs[c0]? = some ch) (x2 x3 x4 x5 : Int) {i n w0 : Nat} (hi : i < ch.2.2.2.2.length) (hn : cIW K V chs ch i = (n : Int)) (hb : w0 + n ≤ 40002) (hn16 : n ≤ 16) (u8 u9 : Option am_V) : ∀ (m j : Nat) {h1 : am_H}, j + m = n → kZ K V P Z chs h1 → h1 195 3 = ((w0 + j : Nat) : Int) → h1 196 = fill (h 196) w0 j (fun i => ((w0 + i : Nat) : Int)) → h1 197 = fill (h 197) w0 j (fun _ => 0) → p_fr [196, 197] [(195, 3)] h h1 → ∃ h' w7, am_E (am_D (d + 1)) m_2_8 (.inl 2) [some (am_r (am_a 195)), some (am_r (am_a (83 + 7 * c0))), some (am_i x2), some (am_i x3), some (am_i x4), some (am_i x5), some (am_i (i : Int)), some (am_i (j : Int)), u8, u9] [] (zS L, h1) = am_E (am_D (d + 1)) m_2_8 (.inl 1) [some (am_r (am_a 195)), some (am_r (am_a (83 + 7 * c0))), some (am_i x2), some (am_i x3), some (am_i x4), some (am_i x5), some (am_i ((i + 1 : Nat) : Int)), w7, u8, u9] [] (zS L, h') ∧ h' 195 3 = ((w0 + n : Nat) : Int) ∧ h' 196 = fill (h 196) w0 n (fun i => ((w0 + i : Nat) : Int)) ∧ h' 197 = fill (h 197) w0 n (fun _ => 0) ∧ p_fr [196, 197] [(195, 3)] h h'
  | 0, j, h1, hm, S, e3, e6, e7, f => by
    have hcl := (List.getElem?_eq_some_iff.1 hc).1
    have G16 := S.1.2.1.1.2
    have C0 := CB_c L c0 (by omega)
    have g2 := (S.1.2.1.2.2 c0 ch hc).2.2.1.2
    rw [q_2_8_2, C0.ob, CB.r10, C0.a5, p_idx (by omega) (by omega), Int.toNat_natCast, S.2 c0 ch hc i hi, hn, if_neg (by omega), p_w (by omega) (by omega)]
    rw [show n = j by omega]
    exact ⟨h1, _, rfl, e3, e6, e7, f⟩
  | m + 1, j, h1, hm, S, e3, e6, e7, f => by
    have hcl := (List.getElem?_eq_some_iff.1 hc).1
    have G16 := S.1.2.1.1.2
    have C0 := CB_c L c0 (by omega)
    have g2 := (S.1.2.1.2.2 c0 ch hc).2.2.1.2
    obtain ⟨h2, r2, a3, a6, a7, f2⟩ := cb_wire (d := d) (L := L) e3 (show w0 + j < 40002 by omega)
    rw [q_2_8_2, C0.ob, CB.r10, C0.a5, p_idx (by omega) (by omega), Int.toNat_natCast, S.2 c0 ch hc i hi, hn, if_pos (by omega), r2, p_xI, p_w (by omega) (by omega)]
    exact cb_in2 hc x2 x3 x4 x5 hi hn hb hn16 u8 u9 m (j + 1) (by omega) (S.fr (zbd (f2.mono rfl rfl))) (by rw [a3]; omega) (by rw [a6, e6]; exact fill_s (h 196) w0 j (fun i => ((w0 + i : Nat) : Int))) (by rw [a7, e7]; exact fill_s (h 197) w0 j (fun _ => 0)) (f.trans f2)
theorem fill_app (S : Nat → Int) (a n m : Nat) (f : Nat → Int) : fill (fill S a n f) (a + n) m (fun i => f (n + i)) = fill S a (n + m) f := by
  funext x
  unfold fill
  by_cases y : a + n ≤ x ∧ x < a + n + m
  · rw [if_pos y, if_pos (by omega)]
    show f (n + (x - (a + n))) = _
    rw [show n + (x - (a + n)) = x - a by omega]
  · rw [if_neg y]
    by_cases z : a ≤ x ∧ x < a + n
    · rw [if_pos z, if_pos (by omega)]
    · rw [if_neg z, if_neg (by omega)]
/-- wires of all inner names -/
theorem cb_in1 (hc : chs[c0]? = some ch) (hw : ∀ j, 0 ≤ cIW K V chs ch j ∧ cIW K V chs ch j ≤ 16) (x2 x3 x5 : Int) {ri w0 : Nat} (hri : ri + 100 ≤ 1904) (hb : w0 + ism (cIW K V chs ch) ch.2.2.2.2.length ≤ 40002) (u8 u9 : Option am_V) : ∀ (m i : Nat) {h1 : am_H} (u7 : Option am_V), i + m = ch.2.2.2.2.length → kZ K V P Z chs h1 → h1 195 3 = ((w0 + ism (cIW K V chs ch) i : Nat) : Int) → h1 196 = fill (h 196) w0 (ism (cIW K V chs ch) i) (fun i => ((w0 + i : Nat) : Int)) → h1 197 = fill (h 197) w0 (ism (cIW K V chs ch) i) (fun _ => 0) → (∀ j, j < i → h1 207 (ri + j) = ((w0 + ism (cIW K V chs ch) j : Nat) : Int)) → (∀ x, (x < ri ∨ ri + 100 ≤ x) → h1 207 x = h 207 x) → p_fr [196, 197, 207] [(195, 3)] h h1 → ∃ h' w7, am_E (am_D (d + 1)) m_2_8 (.inl 1) [some (am_r (am_a 195)), some (am_r (am_a (83 + 7 * c0))), some (am_i x2), some (am_i x3), some (am_i (ri : Int)), some (am_i x5), some (am_i (i : Int)), u7, u8, u9] [] (zS L, h1) = am_E (am_D (d + 1)) m_2_8 (.inl 5) [some (am_r (am_a 195)), some (am_r (am_a (83 + 7 * c0))), some (am_i x2), some (am_i x3), some (am_i (ri : Int)), some (am_i x5), some (am_i 0), w7, u8, u9] [] (zS L, h') ∧ h' 195 3 = ((w0 + ism (cIW K V chs ch) ch.2.2.2.2.length : Nat) : Int) ∧ h' 196 = fill (h 196) w0 (ism (cIW K V chs ch) ch.2.2.2.2.length) (fun i => ((w0 + i : Nat) : Int)) ∧ h' 197 = fill (h 197) w0 (ism (cIW K V chs ch) ch.2.2.2.2.length) (fun _ => 0) ∧ rwI ri (cIW K V chs ch) ch.2.2.2.2.length w0 h' ∧ (∀ x, (x < ri ∨ ri + 100 ≤ x) → h' 207 x = h 207 x) ∧ p_fr [196, 197, 207] [(195, 3)] h h'
  | 0, i, h1, u7, hm, S, e3, e6, e7, er, eo, f => by
    have hcl := (List.getElem?_eq_some_iff.1 hc).1
    have G16 := S.1.2.1.1.2
    have C0 := CB_c L c0 (by omega)
    obtain ⟨-, -, ⟨g1, g2⟩, -⟩ := S.1.2.1.2.2 c0 ch hc
    rw [q_2_8_1, C0.ob, g1, if_neg (by omega)]
    rw [show i = ch.2.2.2.2.length by omega] at e3 e6 e7 er
    exact ⟨h1, _, rfl, e3, e6, e7, er, eo, f⟩
  | m + 1, i, h1, u7, hm, S, e3, e6, e7, er, eo, f => by
    have hcl := (List.getElem?_eq_some_iff.1 hc).1
    have G16 := S.1.2.1.1.2
    have C0 := CB_c L c0 (by omega)
    obtain ⟨-, -, ⟨g1, g2⟩, -⟩ := S.1.2.1.2.2 c0 ch hc
    have hi : i < ch.2.2.2.2.length := by omega
    have wi := hw i
    have im := ism_mono (cIW K V chs ch) (show i + 1 ≤ ch.2.2.2.2.length by omega)
    have is : ism (cIW K V chs ch) (i + 1) = ism (cIW K V chs ch) i + (cIW K V chs ch i).toNat := rfl
    rw [q_2_8_1, C0.ob, g1, if_pos (by omega), p_w (x := (ri : Int) + (i : Int)) (by omega) (by omega), p_idx (by omega) (by omega), show ((ri : Int) + (i : Int)).toNat = ri + i by omega, e3]
    obtain ⟨h2, e2⟩ : ∃ h2, h2 = am_up h1 207 (ri + i) ((w0 + ism (cIW K V chs ch) i : Nat) : Int) := ⟨_, rfl⟩
    rw [← e2]
    have f2 : p_fr [196, 197, 207] [(195, 3)] h h2 := by rw [e2]; exact f.upc _ _ _ rfl
    have S2 : kZ K V P Z chs h2 := by
      have : p_fr [207] [] h1 h2 := by rw [e2]; exact (p_fr.refl h1).upc _ _ _ rfl
      exact S.fr (zbd (this.mono rfl rfl))
    have e23 : h2 195 3 = ((w0 + ism (cIW K V chs ch) i + 0 : Nat) : Int) := by rw [e2, p_up_c _ _ _ _ _ (by decide)]; exact e3
    have e26 : h2 196 = h1 196 := by rw [e2, p_up_c _ _ _ _ _ (by decide)]
    have e27 : h2 197 = h1 197 := by rw [e2, p_up_c _ _ _ _ _ (by decide)]
    obtain ⟨h3, w7, r3, a3, a6, a7, f3⟩ := cb_in2 (d := d) (L := L) (h := h2) hc x2 x3 (ri : Int) x5 hi (n := (cIW K V chs ch i).toNat) (by omega) (w0 := w0 + ism (cIW K V chs ch) i) (by omega) (by omega) u8 u9 (cIW K V chs ch i).toNat 0 (h1 := h2) (by omega) S2 e23 (by rw [fill_0]) (by rw [fill_0]) (p_fr.refl h2)
    rw [show ((0 : Nat) : Int) = 0 from rfl] at r3
    rw [r3]
    have e37 : h3 207 = h2 207 := f3.cell 207 rfl rfl
    have v7 : ∀ x, h3 207 x = if x = ri + i then ((w0 + ism (cIW K V chs ch) i : Nat) : Int) else h1 207 x := fun x => by
      rw [e37, e2, p_up_f]; rfl
    refine cb_in1 hc hw x2 x3 x5 hri hb u8 u9 m (i + 1) w7 (by omega) (S2.fr (zbd (f3.mono rfl rfl))) (by rw [a3, is]; omega) ?_ ?_ (fun j hj => ?_) (fun x hx => ?_) (f2.trans (f3.mono rfl rfl))
    · rw [a6, e26, e6, is]
      refine Eq.trans ?_ (fill_app (h 196) w0 (ism (cIW K V chs ch) i) (cIW K V chs ch i).toNat (fun i => ((w0 + i : Nat) : Int)))
      congr 1
      funext j
      rw [Nat.add_assoc]
    · rw [a7, e27, e7, is]
      exact fill_app (h 197) w0 (ism (cIW K V chs ch) i) (cIW K V chs ch i).toNat (fun _ => 0)
    · rw [v7]
      by_cases e : j = i
      · subst e; rw [if_pos rfl]
      · rw [if_neg (by omega)]; exact er j (by omega)
    · rw [v7, if_neg (by omega)]; exact eo x hx
/-- wires of a part's pin -/
theorem cb_p7 (hk : k < 2 + chs.length) (X1 : am_R) (x2 x3 x4 x5 x6 : Int) {i n w0 : Nat} (hi : i < (kNm V chs k).length) (hn : (kWd V chs k).getD i 1 = (n : Int)) (hb : w0 + n ≤ 40002) (hn16 : n ≤ 16) : ∀ (m j : Nat) {h1 : am_H}, j + m = n → kZ K V P Z chs h1 → h1 195 3 = ((w0 + j : Nat) : Int) → h1 196 = fill (h 196) w0 j (fun _ => 0) → h1 197 = fill (h 197) w0 j (fun _ => 0) → p_fr [196, 197] [(195, 3)] h h1 → ∃ h' w9, am_E (am_D (d + 1)) m_2_8 (.inl 7) [some (am_r (am_a 195)), some (am_r X1), some (am_i x2), some (am_i x3), some (am_i x4), some (am_i x5), some (am_i x6), some (am_r (am_a (kb k))), some (am_i (i : Int)), some (am_i (j : Int))] [] (zS L, h1) = am_E (am_D (d + 1)) m_2_8 (.inl 6) [some (am_r (am_a 195)), some (am_r X1), some (am_i x2), some (am_i x3), some (am_i x4), some (am_i x5), some (am_i x6), some (am_r (am_a (kb k))), some (am_i ((i + 1 : Nat) : Int)), w9] [] (zS L, h') ∧ h' 195 3 = ((w0 + n : Nat) : Int) ∧ h' 196 = fill (h 196) w0 n (fun _ => 0) ∧ h' 197 = fill (h 197) w0 n (fun _ => 0) ∧ p_fr [196, 197] [(195, 3)] h h'
  | 0, j, h1, hm, S, e3, e6, e7, f => by
    have G16 := S.1.2.1.1.2
    have Ck := CB_k L (show k < 18 by omega)
    have g2 := (S.1.2.1.2.1 k hk).1.2
    have wi : (kWd V chs k)[i]? = some (n : Int) := by
      rw [← hn, List.getD_eq_getElem?_getD, List.getElem?_eq_getElem (by rw [kWd_len]; omega)]; rfl
    rw [q_2_8_7, Ck.ob, CB.r7, Ck.a2, p_idx (by omega) (by omega), Int.toNat_natCast, S.1.2.2 k hk i _ wi, if_neg (by omega), p_w (by omega) (by omega)]
    rw [show n = j by omega]
    exact ⟨h1, _, rfl, e3, e6, e7, f⟩
  | m + 1, j, h1, hm, S, e3, e6, e7, f => by
    have G16 := S.1.2.1.1.2
    have Ck := CB_k L (show k < 18 by omega)
    have g2 := (S.1.2.1.2.1 k hk).1.2
    have wi : (kWd V chs k)[i]? = some (n : Int) := by
      rw [← hn, List.getD_eq_getElem?_getD, List.getElem?_eq_getElem (by rw [kWd_len]; omega)]; rfl
    obtain ⟨h2, r2, a3, a6, a7, f2⟩ := cb_wire (d := d) (L := L) e3 (show w0 + j < 40002 by omega)
    rw [q_2_8_7, Ck.ob, CB.r7, Ck.a2, p_idx (by omega) (by omega), Int.toNat_natCast, S.1.2.2 k hk i _ wi, if_pos (by omega), r2, p_xI, p_idx (by omega) (by omega), Int.toNat_natCast, p_w (by omega) (by omega)]
    have f3 : p_fr [196, 197] [(195, 3)] h1 (am_up h2 196 (w0 + j) 0) := f2.upc _ _ _ rfl
    refine cb_p7 hk X1 x2 x3 x4 x5 x6 hi hn hb hn16 m (j + 1) (h1 := am_up h2 196 (w0 + j) 0) (by omega) (S.fr (zbd (f3.mono rfl rfl))) (by rw [p_up_c _ _ _ _ _ (by decide), a3]; omega) ?_ ?_ (f.trans f3)
    · rw [p_up_f, a6, p_set_set, e6]; exact fill_s (h 196) w0 j (fun _ => 0)
    · rw [p_up_c _ _ _ _ _ (by decide), a7, e7]; exact fill_s (h 197) w0 j (fun _ => 0)
theorem cb_p6 (hk : k < 2 + chs.length) (X1 : am_R) (x2 x3 x4 x6 : Int) {rf w0 : Nat} (hrf : rf + 12 ≤ 1904) (hb : w0 + pbt V chs k ≤ 40002) : ∀ (m i : Nat) {h1 : am_H} (u9 : Option am_V), i + m = (kNm V chs k).length → kZ K V P Z chs h1 → h1 195 3 = ((w0 + wfl (kWd V chs k) i : Nat) : Int) → h1 196 = fill (h 196) w0 (wfl (kWd V chs k) i) (fun _ => 0) → h1 197 = fill (h 197) w0 (wfl (kWd V chs k) i) (fun _ => 0) → (∀ j, j < i → h1 207 (rf + j) = ((w0 + wfl (kWd V chs k) j : Nat) : Int)) → (∀ x, (x < rf ∨ rf + 12 ≤ x) → h1 207 x = h 207 x) → p_fr [196, 197, 207] [(195, 3)] h h1 → ∃ h' w9, am_E (am_D (d + 1)) m_2_8 (.inl 6) [some (am_r (am_a 195)), some (am_r X1), some (am_i x2), some (am_i x3), some (am_i x4), some (am_i (rf : Int)), some (am_i x6), some (am_r (am_a (kb k))), some (am_i (i : Int)), u9] [] (zS L, h1) = am_E (am_D (d + 1)) m_2_8 (.inl 6) [some (am_r (am_a 195)), some (am_r X1), some (am_i x2), some (am_i x3), some (am_i x4), some (am_i (rf : Int)), some (am_i x6), some (am_r (am_a (kb k))), some (am_i ((kNm V chs k).length : Int)), w9] [] (zS L, h') ∧ h' 195 3 = ((w0 + pbt V chs k : Nat) : Int) ∧ h' 196 = fill (h 196) w0 (pbt V chs k) (fun _ => 0) ∧ h' 197 = fill (h 197) w0 (pbt V chs k) (fun _ => 0) ∧ rwP rf (kWd V chs k) (kNm V chs k).length w0 h' ∧ (∀ x, (x < rf ∨ rf + 12 ≤ x) → h' 207 x = h 207 x) ∧ p_fr [196, 197, 207] [(195, 3)] h h'
  | 0, i, h1, u9, hm, S, e3, e6, e7, er, eo, f => by
    rw [show i = (kNm V chs k).length by omega] at e3 e6 e7 er ⊢
    exact ⟨h1, _, rfl, e3, e6, e7, er, eo, f⟩
  | m + 1, i, h1, u9, hm, S, e3, e6, e7, er, eo, f => by
    have G16 := S.1.2.1.1.2
    have Ck := CB_k L (show k < 18 by omega)
    obtain ⟨g1, g2⟩ := (S.1.2.1.2.1 k hk).1
    have hi : i < (kNm V chs k).length := by omega
    have wi := getD_rg (kWd_rg (V := V) (chs := chs) k) i
    have im := wfl_mono (kWd V chs k) (show i + 1 ≤ (kNm V chs k).length by omega)
    have is : wfl (kWd V chs k) (i + 1) = wfl (kWd V chs k) i + ((kWd V chs k).getD i 1).toNat := rfl
    have pb : pbt V chs k = wfl (kWd V chs k) (kNm V chs k).length := rfl
    rw [q_2_8_6, Ck.ob, g1, if_pos (by omega), p_w (x := (rf : Int) + (i : Int)) (by omega) (by omega), p_idx (by omega) (by omega), show ((rf : Int) + (i : Int)).toNat = rf + i by omega, e3]
    obtain ⟨h2, e2⟩ : ∃ h2, h2 = am_up h1 207 (rf + i) ((w0 + wfl (kWd V chs k) i : Nat) : Int) := ⟨_, rfl⟩
    rw [← e2]
    have f2 : p_fr [196, 197, 207] [(195, 3)] h h2 := by rw [e2]; exact f.upc _ _ _ rfl
    have S2 : kZ K V P Z chs h2 := by
      have : p_fr [207] [] h1 h2 := by rw [e2]; exact (p_fr.refl h1).upc _ _ _ rfl
      exact S.fr (zbd (this.mono rfl rfl))
    have e23 : h2 195 3 = ((w0 + wfl (kWd V chs k) i + 0 : Nat) : Int) := by rw [e2, p_up_c _ _ _ _ _ (by decide)]; exact e3
    have e26 : h2 196 = h1 196 := by rw [e2, p_up_c _ _ _ _ _ (by decide)]
    have e27 : h2 197 = h1 197 := by rw [e2, p_up_c _ _ _ _ _ (by decide)]
    obtain ⟨h3, w9, r3, a3, a6, a7, f3⟩ := cb_p7 (d := d) (L := L) (h := h2) hk X1 x2 x3 x4 (rf : Int) x6 hi (n := ((kWd V chs k).getD i 1).toNat) (by omega) (w0 := w0 + wfl (kWd V chs k) i) (by omega) (by omega) ((kWd V chs k).getD i 1).toNat 0 (h1 := h2) (by omega) S2 e23 (by rw [fill_0]) (by rw [fill_0]) (p_fr.refl h2)
    rw [show ((0 : Nat) : Int) = 0 from rfl] at r3
    rw [r3]
    have e37 : h3 207 = h2 207 := f3.cell 207 rfl rfl
    have v7 : ∀ x, h3 207 x = if x = rf + i then ((w0 + wfl (kWd V chs k) i : Nat) : Int) else h1 207 x := fun x => by
      rw [e37, e2, p_up_f]; rfl
    refine cb_p6 hk X1 x2 x3 x4 x6 hrf hb m (i + 1) w9 (by omega) (S2.fr (zbd (f3.mono rfl rfl))) (by rw [a3, is]; omega) ?_ ?_ (fun j hj => ?_) (fun x hx => ?_) (f2.trans (f3.mono rfl rfl))
    · rw [a6, e26, e6, is]
      exact fill_app (h 196) w0 (wfl (kWd V chs k) i) ((kWd V chs k).getD i 1).toNat (fun _ => 0)
    · rw [a7, e27, e7, is]
      exact fill_app (h 197) w0 (wfl (kWd V chs k) i) ((kWd V chs k).getD i 1).toNat (fun _ => 0)
    · rw [v7]
      by_cases e : j = i
      · subst e; rw [if_pos rfl]
      · rw [if_neg (by omega)]; exact er j (by omega)
    · rw [v7, if_neg (by omega)]; exact eo x hx
/-- gate() -/
theorem cb_gate (S : kZ K V P Z chs h) (hk2 : k < 2) {rf β γ : Nat} (hrf : rf + 12 ≤ 1904) (R1 : rwP rf (kWd V chs k) (kNm V chs k).length β h) (hb : β + ibt V chs k < 40002) (hg : h 195 9 = (γ : Int)) (hg2 : γ < 1500) (h10 : h 195 10 = ((cz (h 201) γ : Nat) : Int)) (h11 : h 195 11 = (γ : Int) - h 195 10) : ∃ h', am_D (d + 1) 2 9 [am_r (am_a 195), am_r (am_a (kb k)), am_i (rf : Int)] (zS L, h) = pV L h' ∧ h' 196 = p_set (h 196) (β + ibt V chs k) ((β + ibt V chs k : Nat) : Int) ∧ h' 198 = p_set (h 198) γ (β : Int) ∧ h' 199 = p_set (h 199) γ ((if k = 0 then β + 1 else β : Nat) : Int) ∧ h' 200 = p_set (h 200) γ ((β + ibt V chs k : Nat) : Int) ∧ h' 201 = p_set (h 201) γ (if k = 1 then 1 else 0) ∧ h' 195 9 = ((γ + 1 : Nat) : Int) ∧ h' 195 10 = ((cz (h' 201) (γ + 1) : Nat) : Int) ∧ h' 195 11 = ((γ + 1 : Nat) : Int) - h' 195 10 ∧ p_fr [196, 198, 199, 200, 201] [(195, 9), (195, 10), (195, 11)] h h' := by
  have Ck := CB_k L (show k < 18 by omega)
  have hkl : k < 2 + chs.length := by omega
  have g3 := (S.1.2.1.2.1 k hkl).2.1
  have ib : ibt V chs k = kIp chs k := by rcases (show k = 0 ∨ k = 1 by omega) with rfl | rfl <;> rfl
  have kp : kIp chs k = 2 - k := by rcases (show k = 0 ∨ k = 1 by omega) with rfl | rfl <;> rfl
  have ln : (kNm V chs k).length = 3 - k := by rcases (show k = 0 ∨ k = 1 by omega) with rfl | rfl <;> rfl
  have wf : ∀ j, j ≤ 2 - k → wfl (kWd V chs k) j = j := fun j hj => by
    rcases (show k = 0 ∨ k = 1 by omega) with rfl | rfl
    · rcases (show j = 0 ∨ j = 1 ∨ j = 2 by omega) with rfl | rfl | rfl <;> rfl
    · rcases (show j = 0 ∨ j = 1 by omega) with rfl | rfl <;> rfl
  have r0 : h 207 rf = (β : Int) := by have := R1 0 (by omega); rw [wf 0 (by omega)] at this; exact this
  have ro : h 207 (rf + kIp chs k) = ((β + ibt V chs k : Nat) : Int) := by have := R1 (kIp chs k) (by omega); rw [wf _ (by omega)] at this; rw [this, ib]
  obtain ⟨o, ho⟩ : ∃ o, o = β + ibt V chs k := ⟨_, rfl⟩
  rw [← ho] at ro ⊢
  have ob : o < 40002 := by omega
  rw [D_2_9, Ck.ob, g3, p_w (x := (rf : Int) + (kIp chs k : Int)) (by omega) (by omega), p_idx (by omega) (by omega), show ((rf : Int) + (kIp chs k : Int)).toNat = rf + kIp chs k by omega, ro, p_idx (by omega) (by omega), Int.toNat_natCast, acmp_n]
  obtain ⟨h1, e1⟩ : ∃ h1, h1 = am_up h 196 o (o : Int) := ⟨_, rfl⟩
  rw [← e1, hg]
  have c1 : ∀ c, c ≠ 196 → h1 c = h c := fun c hc => by rw [e1, p_up_c _ _ _ _ _ hc]
  obtain ⟨s0, hs0, hs1⟩ : ∃ s0 : Int, s0 = (if k = 1 then 1 else 0) ∧ (s0 = 0 ∨ s0 = 1) := ⟨_, rfl, by split <;> omega⟩
  -- the last step
  have e6 : ∀ {h5 : am_H} (s0' : Int) (u2 u3 : Option am_V), s0' = (if k = 0 then 1 else 0) → h5 195 9 = (γ : Int) → h5 195 11 = (γ : Int) - h 195 10 → h5 201 = p_set (h 201) γ (if k = 1 then 1 else 0) → ∃ h', am_E (am_D d) m_2_9 (.inl 6) [some (am_r (am_a 195)), some (am_r (am_a (kb k))), u2, u3] [am_i s0', am_i (h 195 10), am_r (am_a 195)] (zS L, h5) = pV L h' ∧ (∀ c, c ≠ 195 → h' c = h5 c) ∧ h' 195 9 = ((γ + 1 : Nat) : Int) ∧ h' 195 10 = ((cz (h' 201) (γ + 1) : Nat) : Int) ∧ h' 195 11 = ((γ + 1 : Nat) : Int) - h' 195 10 ∧ p_fr [] [(195, 9), (195, 10), (195, 11)] h5 h' := by
    intro h5 s0' u2 u3 hs g9 g11 g201
    have czb : cz (h 201) γ ≤ γ := by have := cz_le (g := fun _ => 0) (g' := h 201) γ (fun _ _ _ => rfl); rw [cz_all] at this; exact this
    have czc : cz (p_set (h 201) γ (if k = 1 then 1 else 0)) (γ + 1) = cz (h 201) γ + (if k = 0 then 1 else 0) := by
      have e : cz (p_set (h 201) γ (if k = 1 then 1 else 0)) γ = cz (h 201) γ := by
        have a1 := cz_le (g := h 201) (g' := p_set (h 201) γ (if k = 1 then 1 else 0)) γ (fun b hb z => by unfold p_set at z; rw [if_neg (by omega)] at z; exact z)
        have a2 := cz_le (g := p_set (h 201) γ (if k = 1 then 1 else 0)) (g' := h 201) γ (fun b hb z => by unfold p_set; rw [if_neg (by omega)]; exact z)
        omega
      show cz _ γ + (if p_set (h 201) γ (if k = 1 then 1 else 0) γ = 0 then 1 else 0) = _
      rw [e]
      unfold p_set
      rw [if_pos rfl]
      rcases (show k = 0 ∨ k = 1 by omega) with rfl | rfl <;> rfl
    have kk : ∀ (a b c : Int), (∀ x, x ≠ 195 → am_up (am_up (am_up h5 195 10 a) 195 11 b) 195 9 c x = h5 x) ∧ am_up (am_up (am_up h5 195 10 a) 195 11 b) 195 9 c 195 9 = c ∧ am_up (am_up (am_up h5 195 10 a) 195 11 b) 195 9 c 195 10 = a ∧ am_up (am_up (am_up h5 195 10 a) 195 11 b) 195 9 c 195 11 = b ∧ p_fr [] [(195, 9), (195, 10), (195, 11)] h5 (am_up (am_up (am_up h5 195 10 a) 195 11 b) 195 9 c) := fun a b c => by
      refine ⟨fun x hx => ?_, p_up_s _ _ _ _, ?_, ?_, (((p_fr.refl h5).upf _ _ _ rfl).upf _ _ _ rfl).upf _ _ _ rfl⟩
      · rw [p_up_c _ _ _ _ _ hx, p_up_c _ _ _ _ _ hx, p_up_c _ _ _ _ _ hx]
      · rw [p_up_n _ _ _ _ _ _ (Or.inr (by decide)), p_up_n _ _ _ _ _ _ (Or.inr (by decide)), p_up_s]
      · rw [p_up_n _ _ _ _ _ _ (Or.inr (by decide)), p_up_s]
    rw [q_2_9_6, acmp_n, g9, g11, hs, h10, p_w (x := (γ : Int) + 1) (by omega) (by omega)]
    rcases (show k = 0 ∨ k = 1 by omega) with rfl | rfl
    · rw [if_neg (show ¬ kb 0 = 45 by decide), show (if (0 : Nat) = 0 then (1 : Int) else 0) = 1 from rfl]
      obtain ⟨k1, k2, k3, k4, k5⟩ := kk (am_w (((cz (h 201) γ : Nat) : Int) + 1)) (am_w ((γ : Int) - ((cz (h 201) γ : Nat) : Int) + 0)) ((γ : Int) + 1)
      refine ⟨_, rfl, k1, by rw [k2]; omega, ?_, ?_, k5⟩
      · rw [k3, k1 201 (by decide), g201, czc, p_w (by omega) (by omega), if_pos rfl]; omega
      · rw [k4, k3, p_w (by omega) (by omega), p_w (by omega) (by omega)]; omega
    · rw [if_pos (show kb 1 = 45 from rfl), show (if (1 : Nat) = 0 then (1 : Int) else 0) = 0 from rfl]
      obtain ⟨k1, k2, k3, k4, k5⟩ := kk (am_w (((cz (h 201) γ : Nat) : Int) + 0)) (am_w ((γ : Int) - ((cz (h 201) γ : Nat) : Int) + 1)) ((γ : Int) + 1)
      refine ⟨_, rfl, k1, by rw [k2]; omega, ?_, ?_, k5⟩
      · rw [k3, k1 201 (by decide), g201, czc, p_w (by omega) (by omega), if_neg (by decide)]; omega
      · rw [k4, k3, p_w (by omega) (by omega), p_w (by omega) (by omega)]; omega
  -- from the flag on
  have e2 : ∃ h', am_E (am_D d) m_2_9 (.inl 2) [some (am_r (am_a 195)), some (am_r (am_a (kb k))), some (am_i (rf : Int)), some (am_i (o : Int))] [am_i s0, am_i (γ : Int), am_r (am_a 201)] (zS L, h1) = pV L h' ∧ h' 196 = p_set (h 196) o (o : Int) ∧ h' 198 = p_set (h 198) γ (β : Int) ∧ h' 199 = p_set (h 199) γ ((if k = 0 then β + 1 else β : Nat) : Int) ∧ h' 200 = p_set (h 200) γ (o : Int) ∧ h' 201 = p_set (h 201) γ (if k = 1 then 1 else 0) ∧ h' 195 9 = ((γ + 1 : Nat) : Int) ∧ h' 195 10 = ((cz (h' 201) (γ + 1) : Nat) : Int) ∧ h' 195 11 = ((γ + 1 : Nat) : Int) - h' 195 10 ∧ p_fr [196, 198, 199, 200, 201] [(195, 9), (195, 10), (195, 11)] h h' := by
    have bt : ∀ x : Option am_O, am_bit s0 x = x := fun x => by rcases hs1 with z | z <;> rw [z]; exact p_bit0; exact p_bit1
    obtain ⟨h2, e2⟩ : ∃ h2, h2 = am_up (am_up h1 201 γ s0) 198 γ (β : Int) := ⟨_, rfl⟩
    have g9 : am_up h1 201 γ s0 195 9 = (γ : Int) := by rw [p_up_c _ _ _ _ _ (by decide), c1 195 (by decide)]; exact hg
    have g7 : am_up h1 201 γ s0 207 rf = (β : Int) := by rw [p_up_c _ _ _ _ _ (by decide), c1 207 (by decide)]; exact r0
    rw [q_2_9_2, bt, p_arr (show (zS L)[201]? = some (4, 1500, []) from rfl), p_idx (by omega) (by omega), Int.toNat_natCast, show ∀ x : Option am_O, cond (Nat.beq 201 0) none x = x from fun _ => rfl, p_idx (by omega) (by omega), Int.toNat_natCast, g9, p_idx (by omega) (by omega), Int.toNat_natCast, g7, ← e2, acmp_n]
    have c2 : ∀ c, c ≠ 196 → c ≠ 201 → c ≠ 198 → h2 c = h c := fun c a b c' => by rw [e2, p_up_c _ _ _ _ _ c', p_up_c _ _ _ _ _ b, c1 c a]
    have st : (if kb k = 38 then am_E (am_D d) m_2_9 (.inl 4) [some (am_r (am_a 195)), some (am_r (am_a (kb k))), some (am_i (rf : Int)), some (am_i (o : Int))] [am_i (am_w ((rf : Int) + 1)), am_r (am_a 207), am_i (γ : Int), am_r (am_a 199)] (zS L, h2) else am_E (am_D d) m_2_9 (.inl 4) [some (am_r (am_a 195)), some (am_r (am_a (kb k))), some (am_i (rf : Int)), some (am_i (o : Int))] [am_i (rf : Int), am_r (am_a 207), am_i (γ : Int), am_r (am_a 199)] (zS L, h2)) = am_E (am_D d) m_2_9 (.inl 4) [some (am_r (am_a 195)), some (am_r (am_a (kb k))), some (am_i (rf : Int)), some (am_i (o : Int))] [am_i ((if k = 0 then rf + 1 else rf : Nat) : Int), am_r (am_a 207), am_i (γ : Int), am_r (am_a 199)] (zS L, h2) := by
      rcases (show k = 0 ∨ k = 1 by omega) with rfl | rfl
      · rw [if_pos (show kb 0 = 38 from rfl), p_w (by omega) (by omega), if_pos rfl]; rfl
      · rw [if_neg (show ¬ kb 1 = 38 by decide), if_neg (by decide)]
    rw [st]
    have rb : h2 207 (if k = 0 then rf + 1 else rf) = ((if k = 0 then β + 1 else β : Nat) : Int) := by
      rw [c2 207 (by decide) (by decide) (by decide)]
      rcases (show k = 0 ∨ k = 1 by omega) with rfl | rfl
      · rw [if_pos rfl, if_pos rfl]
        have := R1 1 (by omega); rw [wf 1 (by omega)] at this; exact this
      · rw [if_neg (by decide), if_neg (by decide)]; exact r0
    have rrx : (if k = 0 then rf + 1 else rf) < 1904 := by split <;> omega
    obtain ⟨rx, hrx⟩ : ∃ rx, rx = (if k = 0 then rf + 1 else rf) := ⟨_, rfl⟩
    rw [← hrx] at rb rrx ⊢
    obtain ⟨h3, e3⟩ : ∃ h3, h3 = am_up (am_up h2 199 γ ((if k = 0 then β + 1 else β : Nat) : Int)) 200 γ (o : Int) := ⟨_, rfl⟩
    have g9' : am_up h2 199 γ ((if k = 0 then β + 1 else β : Nat) : Int) 195 9 = (γ : Int) := by rw [p_up_c _ _ _ _ _ (by decide), c2 195 (by decide) (by decide) (by decide)]; exact hg
    have g10' : am_up h2 199 γ ((if k = 0 then β + 1 else β : Nat) : Int) 195 10 = h 195 10 := by rw [p_up_c _ _ _ _ _ (by decide), c2 195 (by decide) (by decide) (by decide)]
    rw [q_2_9_4, p_arr (show (zS L)[207]? = some (1, 1904, []) from rfl), p_idx (by omega) (by omega), Int.toNat_natCast, p_arr (show (zS L)[199]? = some (1, 1500, []) from rfl), p_idx (by omega) (by omega), Int.toNat_natCast, show ∀ x : Option am_O, cond (Nat.beq 199 0) none x = x from fun _ => rfl, rb, g9', g10', p_idx (by omega) (by omega), Int.toNat_natCast, ← e3, acmp_n]
    have st2 : (if kb k = 38 then am_E (am_D d) m_2_9 (.inl 6) [some (am_r (am_a 195)), some (am_r (am_a (kb k))), some (am_i (rf : Int)), some (am_i (o : Int))] [am_i 1, am_i (h 195 10), am_r (am_a 195)] (zS L, h3) else am_E (am_D d) m_2_9 (.inl 6) [some (am_r (am_a 195)), some (am_r (am_a (kb k))), some (am_i (rf : Int)), some (am_i (o : Int))] [am_i 0, am_i (h 195 10), am_r (am_a 195)] (zS L, h3)) = am_E (am_D d) m_2_9 (.inl 6) [some (am_r (am_a 195)), some (am_r (am_a (kb k))), some (am_i (rf : Int)), some (am_i (o : Int))] [am_i (if k = 0 then 1 else 0), am_i (h 195 10), am_r (am_a 195)] (zS L, h3) := by
      rcases (show k = 0 ∨ k = 1 by omega) with rfl | rfl
      · rw [if_pos (show kb 0 = 38 from rfl), if_pos rfl]
      · rw [if_neg (show ¬ kb 1 = 38 by decide), if_neg (by decide)]
    rw [st2]
    have c3 : ∀ c, c ≠ 199 → c ≠ 200 → h3 c = h2 c := fun c a b => by rw [e3, p_up_c _ _ _ _ _ b, p_up_c _ _ _ _ _ a]
    have v201 : h3 201 = p_set (h 201) γ (if k = 1 then 1 else 0) := by rw [c3 201 (by decide) (by decide), e2, p_up_c _ _ _ _ _ (by decide), p_up_f, c1 201 (by decide), hs0]
    have v195 : h3 195 = h 195 := by rw [c3 195 (by decide) (by decide), c2 195 (by decide) (by decide) (by decide)]
    obtain ⟨h4, r4, x1, x2, x3, x4, x5⟩ := e6 (if k = 0 then 1 else 0) (some (am_i (rf : Int))) (some (am_i (o : Int))) rfl (h5 := h3) (by rw [v195]; exact hg) (by rw [v195]; exact h11) v201
    refine ⟨h4, r4, ?_, ?_, ?_, ?_, ?_, x2, x3, x4, ?_⟩
    · rw [x1 196 (by decide), c3 196 (by decide) (by decide), e2, p_up_c _ _ _ _ _ (by decide), p_up_c _ _ _ _ _ (by decide), e1, p_up_f]
    · rw [x1 198 (by decide), c3 198 (by decide) (by decide), e2, p_up_f, p_up_c _ _ _ _ _ (by decide), c1 198 (by decide)]
    · rw [x1 199 (by decide), e3, p_up_c _ _ _ _ _ (by decide), p_up_f, c2 199 (by decide) (by decide) (by decide)]
    · rw [x1 200 (by decide), e3, p_up_f, p_up_c _ _ _ _ _ (by decide), c2 200 (by decide) (by decide) (by decide)]
    · rw [x1 201 (by decide)]; exact v201
    · have : p_fr [196, 198, 199, 200, 201] [(195, 9), (195, 10), (195, 11)] h h3 := by
        rw [e3, e2, e1]
        exact (((((p_fr.refl h).upc _ _ _ rfl).upc _ _ _ rfl).upc _ _ _ rfl).upc _ _ _ rfl).upc _ _ _ rfl
      exact this.trans (x5.mono rfl rfl)
  have st0 : (if kb k = 45 then am_E (am_D d) m_2_9 (.inl 2) [some (am_r (am_a 195)), some (am_r (am_a (kb k))), some (am_i (rf : Int)), some (am_i (o : Int))] [am_i 1, am_i (γ : Int), am_r (am_a 201)] (zS L, h1) else am_E (am_D d) m_2_9 (.inl 2) [some (am_r (am_a 195)), some (am_r (am_a (kb k))), some (am_i (rf : Int)), some (am_i (o : Int))] [am_i 0, am_i (γ : Int), am_r (am_a 201)] (zS L, h1)) = am_E (am_D d) m_2_9 (.inl 2) [some (am_r (am_a 195)), some (am_r (am_a (kb k))), some (am_i (rf : Int)), some (am_i (o : Int))] [am_i s0, am_i (γ : Int), am_r (am_a 201)] (zS L, h1) := by
    rw [hs0]
    rcases (show k = 0 ∨ k = 1 by omega) with rfl | rfl
    · rw [if_neg (show ¬ kb 0 = 45 by decide), if_neg (by decide)]
    · rw [if_pos (show kb 1 = 45 from rfl), if_pos rfl]
  rw [st0]
  exact e2
end
