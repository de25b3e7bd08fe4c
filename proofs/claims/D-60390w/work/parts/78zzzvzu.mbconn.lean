/-! CHIPS, 47: the board: the model's places and links -/
def mbC : List Nat := [355, 356, 357, 358, 364, 365]
def mbF : List (Nat × Nat) := [(254, 158), (254, 161), (254, 170)]
section
variable {d L : Nat} {K V P : Nat → Int} {W : Nat → List Int} {Z c k : Nat} {chs : List cCh} {ch : cCh} {h h' : am_H}
theorem mQ.b (Q : mQ K V P W Z chs h) (f : p_fr mbC mbF h h') : mQ K V P W Z chs h' := by
  refine ⟨?_, ?_⟩
  · unfold mR
    rw [f.cell 256 rfl rfl, f.cell 257 rfl rfl, f.cell 258 rfl rfl, f.cell 259 rfl rfl, f.cell 260 rfl rfl]
    exact Q.1
  · unfold mV fRl
    rw [f 254 122 rfl rfl, f.cell 328 rfl rfl, f.cell 329 rfl rfl, f.cell 330 rfl rfl, f.cell 331 rfl rfl, f.cell 332 rfl rfl, f.cell 333 rfl rfl, f.cell 334 rfl rfl, f.cell 335 rfl rfl, f.cell 336 rfl rfl, f.cell 337 rfl rfl, f.cell 338 rfl rfl, f.cell 339 rfl rfl, f.cell 340 rfl rfl, f.cell 341 rfl rfl, f.cell 342 rfl rfl, f.cell 343 rfl rfl, f.cell 344 rfl rfl, f.cell 345 rfl rfl, f.cell 346 rfl rfl]
    exact Q.2
theorem mI.b (I : mI K V chs c h) (f1 : p_fr mbC mbF h h') : mI K V chs c h' := fun c' ch' hl hc' => by
  obtain ⟨x1, x2⟩ := I c' ch' hl hc'
  refine ⟨fun j hj => by rw [f1.cell 347 rfl rfl]; exact x1 j hj, fun a q ha => by rw [f1.cell 349 rfl rfl]; exact x2 a q ha⟩
/-- pinPlace -/
theorem mb_pp (Q : mQ K V P W Z chs h) (hc : chs[c]? = some ch) (hl : ch.2.1.length ≤ 12) (u1 : Option am_V) {n : Nat} (hn : n ≤ ch.2.1.length) : ∀ (m j : Nat), j + m = n → am_E (am_D d) m_17_171 (.inl 1) [some (am_r (am_a 254)), u1, some (am_i ((oP chs c + n : Nat) : Int)), some (am_i ((wfl (cWs V ch) j : Nat) : Int)), some (am_i ((oP chs c + j : Nat) : Int))] [] (zS L, h) = pI L ((wfl (cWs V ch) n : Nat) : Int) h
  | 0, j, hm => by rw [q_17_171_1, if_neg (by omega), show j = n by omega]
  | m + 1, j, hm => by
    have ipn := oP_n hc
    have ptk : oP chs (c + 1) ≤ (aP chs).length := flat_le cpM chs (c + 1)
    have b1 := Q.2.2.1.1
    have hj : j < ch.2.1.length := by omega
    have wr := c_w_rg V ch.2.1[j].2
    have ws : wfl (cWs V ch) (j + 1) = wfl (cWs V ch) j + (c_w V ch.2.1[j].2).toNat := by
      show _ + _ = _
      unfold cWs
      rw [List.getD_eq_getElem?_getD, List.getElem?_map, List.getElem?_eq_getElem hj]; rfl
    have wb : wfl (cWs V ch) j ≤ 16 * 12 := by
      rw [wfl_c ch j (by omega)]
      have := wsm_rg (V := V) (ch.2.1.take j)
      rw [List.length_take] at this
      omega
    rw [q_17_171_1, if_pos (by omega), p_idx (by omega) (by omega), Int.toNat_natCast, (Q.2.2.2.2.2.1 c ch hc j _ (List.getElem?_eq_getElem hj)).2.2.2, p_w (by omega) (by omega), p_w (by omega) (by omega), show ((wfl (cWs V ch) j : Nat) : Int) + c_w V ch.2.1[j].2 = ((wfl (cWs V ch) (j + 1) : Nat) : Int) by rw [ws]; omega, show ((oP chs c + j : Nat) : Int) + 1 = ((oP chs c + (j + 1) : Nat) : Int) by omega]
    exact mb_pp Q hc hl u1 hn m (j + 1) (by omega)
theorem mb_pin (Q : mQ K V P W Z chs h) (hc : chs[c]? = some ch) (hl : ch.2.1.length ≤ 12) {n : Nat} (hn : n ≤ ch.2.1.length) : am_D (d + 1) 17 171 [am_r (am_a 254), am_i (c : Int), am_i ((oP chs c + n : Nat) : Int)] (zS L, h) = pI L ((wfl (cWs V ch) n : Nat) : Int) h := by
  have l16 := Q.2.1.2
  have hcl := (List.getElem?_eq_some_iff.1 hc).1
  rw [D_17_171, p_idx (by omega) (by omega), Int.toNat_natCast, (Q.2.2.2.2.1 c (by omega)).1]
  exact mb_pp Q hc hl _ hn n 0 (by omega)
theorem mb_ip (Q : mQ K V P W Z chs h) (hc : chs[c]? = some ch) (G : gM chs c ch (cIW K V chs ch) h) (hw : ∀ j, 0 ≤ cIW K V chs ch j ∧ cIW K V chs ch j ≤ 16) {w0 : Nat} (hw0 : w0 ≤ 4000) (u1 : Option am_V) {n : Nat} (hn : n ≤ ch.2.2.2.2.length) (hl : ch.2.2.2.2.length ≤ 100) : ∀ (m j : Nat), j + m = n → am_E (am_D d) m_17_172 (.inl 1) [some (am_r (am_a 254)), u1, some (am_i ((oI chs c + n : Nat) : Int)), some (am_i ((w0 + ism (cIW K V chs ch) j : Nat) : Int)), some (am_i ((oI chs c + j : Nat) : Int))] [] (zS L, h) = pI L ((w0 + ism (cIW K V chs ch) n : Nat) : Int) h
  | 0, j, hm => by rw [q_17_172_1, if_neg (by omega), show j = n by omega]
  | m + 1, j, hm => by
    have on := oI_n hc
    have ptk : oI chs (c + 1) ≤ (aI chs).length := flat_le _ chs (c + 1)
    have b4 := Q.2.2.1.2.2.2
    have wr := hw j
    have wb := ism_rg (X := cIW K V chs ch) (fun j => (hw j).2) j
    have is : ism (cIW K V chs ch) (j + 1) = ism (cIW K V chs ch) j + (cIW K V chs ch j).toNat := rfl
    rw [q_17_172_1, if_pos (by omega), p_idx (by omega) (by omega), Int.toNat_natCast, G j (by omega), p_w (x := ((oI chs c + j : Nat) : Int) + 1) (by omega) (by omega), show ((oI chs c + j : Nat) : Int) + 1 = ((oI chs c + (j + 1) : Nat) : Int) by omega]
    have ih := mb_ip Q hc G hw hw0 u1 hn hl m (j + 1) (by omega)
    by_cases y : 0 < cIW K V chs ch j
    · rw [if_pos y, p_idx (by omega) (by omega), Int.toNat_natCast, G j (by omega), p_w (by omega) (by omega), show ((w0 + ism (cIW K V chs ch) j : Nat) : Int) + cIW K V chs ch j = ((w0 + ism (cIW K V chs ch) (j + 1) : Nat) : Int) by rw [is]; omega]
      exact ih
    · rw [if_neg y, p_w (by omega) (by omega), show ((w0 + ism (cIW K V chs ch) j : Nat) : Int) + 0 = ((w0 + ism (cIW K V chs ch) (j + 1) : Nat) : Int) by rw [is]; omega]
      exact ih
theorem mb_inn (Q : mQ K V P W Z chs h) (hc : chs[c]? = some ch) (G : gM chs c ch (cIW K V chs ch) h) (hw : ∀ j, 0 ≤ cIW K V chs ch j ∧ cIW K V chs ch j ≤ 16) (hl : ch.2.1.length ≤ 12 ∧ ch.2.2.2.2.length ≤ 100) {n : Nat} (hn : n ≤ ch.2.2.2.2.length) : am_D (d + 2) 17 172 [am_r (am_a 254), am_i (c : Int), am_i ((oI chs c + n : Nat) : Int)] (zS L, h) = pI L ((wsm V ch.2.1 + ism (cIW K V chs ch) n : Nat) : Int) h := by
  have l16 := Q.2.1.2
  have hcl := (List.getElem?_eq_some_iff.1 hc).1
  have ipn := oP_n hc
  have wr := wsm_rg (V := V) ch.2.1
  rw [D_17_172, p_w (x := (c : Int) + 1) (by omega) (by omega), p_idx (by omega) (by omega), show ((c : Int) + 1).toNat = c + 1 by omega, (Q.2.2.2.2.1 (c + 1) (by omega)).1, ipn, mb_pin Q hc hl.1 (Nat.le_refl _), p_xI, wfl_all, p_idx (by omega) (by omega), Int.toNat_natCast, (Q.2.2.2.2.1 c (by omega)).2.2]
  exact mb_ip Q hc G hw (by omega) _ hn hl.2 n 0 (by omega)
theorem mb_own (Q : mQ K V P W Z chs h) (hc : chs[c]? = some ch) (G : gM chs c ch (cIW K V chs ch) h) (hw : ∀ j, 0 ≤ cIW K V chs ch j ∧ cIW K V chs ch j ≤ 16) (hl : ch.2.1.length ≤ 12 ∧ ch.2.2.2.2.length ≤ 100) : am_D (d + 3) 17 173 [am_r (am_a 254), am_i (c : Int)] (zS L, h) = pI L ((ownx K V chs ch : Nat) : Int) h := by
  have l16 := Q.2.1.2
  have hcl := (List.getElem?_eq_some_iff.1 hc).1
  have iin := oI_n hc
  rw [D_17_173, p_w (x := (c : Int) + 1) (by omega) (by omega), p_idx (by omega) (by omega), show ((c : Int) + 1).toNat = c + 1 by omega, (Q.2.2.2.2.1 (c + 1) (by omega)).2.2, iin, mb_inn Q hc G hw hl (Nat.le_refl _), p_xI]
  rfl
/-- newBits -/
theorem mb_new {b n : Nat} (hb : b + n ≤ 40000) : ∀ (m j : Nat) {h1 : am_H}, j + m = n → h1 254 158 = (b : Int) → h1 355 = fill (h 355) b j (fun _ => -1) → h1 356 = fill (h 356) b j (fun _ => 0) → p_fr [355, 356] [] h h1 → ∃ h', am_E (am_D d) m_17_170 (.inl 1) [some (am_r (am_a 254)), some (am_i (n : Int)), some (am_i (j : Int))] [] (zS L, h1) = pI L (b : Int) h' ∧ h' 254 158 = ((b + n : Nat) : Int) ∧ h' 355 = fill (h 355) b n (fun _ => -1) ∧ h' 356 = fill (h 356) b n (fun _ => 0) ∧ p_fr [355, 356] [(254, 158)] h h'
  | 0, j, h1, hm, e, e5, e6, f => by
    rw [q_17_170_1, if_neg (by omega), e, p_w (x := (b : Int) + (n : Int)) (by omega) (by omega), p_w (by omega) (by omega), show (b : Int) + (n : Int) - (n : Int) = (b : Int) by omega]
    refine ⟨_, rfl, by rw [p_up_s]; omega, ?_, ?_, (f.mono rfl rfl).upf _ _ _ rfl⟩
    · rw [p_up_c _ _ _ _ _ (by decide), e5, show n = j by omega]
    · rw [p_up_c _ _ _ _ _ (by decide), e6, show n = j by omega]
  | m + 1, j, h1, hm, e, e5, e6, f => by
    rw [q_17_170_1, if_pos (by omega), e, p_w (x := (b : Int) + (j : Int)) (by omega) (by omega), p_idx (by omega) (by omega), p_idx (by omega) (by omega), show ((b : Int) + (j : Int)).toNat = b + j by omega, p_w (by omega) (by omega)]
    refine mb_new hb m (j + 1) (h1 := am_up (am_up h1 355 (b + j) (-1)) 356 (b + j) 0) (by omega) (by rw [p_up_c _ _ _ _ _ (by decide), p_up_c _ _ _ _ _ (by decide)]; exact e) ?_ ?_ ((f.upc _ _ _ rfl).upc _ _ _ rfl)
    · rw [p_up_c _ _ _ _ _ (by decide), p_up_f, e5]; exact fill_s (h 355) b j (fun _ => -1)
    · rw [p_up_f, p_up_c _ _ _ _ _ (by decide), e6]; exact fill_s (h 356) b j (fun _ => 0)
theorem mb_newB {b n : Nat} (hb : b + n ≤ 40000) (e : h 254 158 = (b : Int)) : ∃ h', am_D (d + 1) 17 170 [am_r (am_a 254), am_i (n : Int)] (zS L, h) = pI L (b : Int) h' ∧ h' 254 158 = ((b + n : Nat) : Int) ∧ h' 355 = fill (h 355) b n (fun _ => -1) ∧ h' 356 = fill (h 356) b n (fun _ => 0) ∧ p_fr [355, 356] [(254, 158)] h h' := by
  rw [D_17_170]
  exact mb_new (d := d) (L := L) hb n 0 (h1 := h) (by omega) e (by rw [fill_0]) (by rw [fill_0]) (p_fr.refl h)
/-- newPart: a chip -/
theorem mb_chip (Q : mQ K V P W Z chs h) (hc : chs[c]? = some ch) (G : gM chs c ch (cIW K V chs ch) h) (hw : ∀ j, 0 ≤ cIW K V chs ch j ∧ cIW K V chs ch j ≤ 16) (hl : ch.2.1.length ≤ 12 ∧ ch.2.2.2.2.length ≤ 100) {b s : Nat} (hb : b + ownx K V chs ch ≤ 40000) (e : h 254 158 = (b : Int)) (hs : h 254 170 = (s : Int)) (hs2 : s < 20000) : ∃ h', am_D (d + 4) 17 174 [am_r (am_a 254), am_i ((2 + c : Nat) : Int)] (zS L, h) = pI L (b : Int) h' ∧ h' 254 158 = ((b + ownx K V chs ch : Nat) : Int) ∧ h' 355 = fill (h 355) b (ownx K V chs ch) (fun _ => -1) ∧ h' 356 = fill (h 356) b (ownx K V chs ch) (fun _ => 0) ∧ h' 364 = p_set (h 364) s (c : Int) ∧ h' 365 = p_set (h 365) s (b : Int) ∧ h' 254 170 = ((s + 1 : Nat) : Int) ∧ p_fr [355, 356, 364, 365] [(254, 158), (254, 170)] h h' := by
  have l16 := Q.2.1.2
  have hcl := (List.getElem?_eq_some_iff.1 hc).1
  obtain ⟨h1, r1, a1, a5, a6, f1⟩ := mb_newB (d := d + 2) (L := L) hb e
  have s1 : h1 254 170 = (s : Int) := by rw [f1 254 170 rfl rfl]; exact hs
  rw [D_17_174, if_pos (by omega), p_w (by omega) (by omega), show ((2 + c : Nat) : Int) - 2 = (c : Int) by omega, mb_own (d := d) Q hc G hw hl, p_xI, r1, p_xI, s1, p_idx (by omega) (by omega), p_idx (by omega) (by omega), Int.toNat_natCast, p_w (by omega) (by omega)]
  refine ⟨_, rfl, ?_, ?_, ?_, ?_, ?_, ?_, (((f1.mono rfl rfl).upc _ _ _ rfl).upc _ _ _ rfl).upf _ _ _ rfl⟩
  · rw [p_up_n _ _ _ _ _ _ (Or.inr (by decide)), p_up_c _ _ _ _ _ (by decide), p_up_c _ _ _ _ _ (by decide)]; exact a1
  · rw [p_up_c _ _ _ _ _ (by decide), p_up_c _ _ _ _ _ (by decide), p_up_c _ _ _ _ _ (by decide)]; exact a5
  · rw [p_up_c _ _ _ _ _ (by decide), p_up_c _ _ _ _ _ (by decide), p_up_c _ _ _ _ _ (by decide)]; exact a6
  · rw [p_up_c _ _ _ _ _ (by decide), p_up_c _ _ _ _ _ (by decide), p_up_f, f1.cell 364 rfl rfl]
  · rw [p_up_c _ _ _ _ _ (by decide), p_up_f, p_up_c _ _ _ _ _ (by decide), f1.cell 365 rfl rfl]
  · rw [p_up_s]; omega
/-- newPart: a gate -/
theorem mb_gate (hk : k < 2) {b g : Nat} (hb : b + pbt V chs k ≤ 40000) (e : h 254 158 = (b : Int)) (hg : h 254 161 = (g : Int)) (hg2 : g < 1500) : ∃ h', am_D (d + 2) 17 174 [am_r (am_a 254), am_i (k : Int)] (zS L, h) = pI L (b : Int) h' ∧ h' 254 158 = ((b + pbt V chs k : Nat) : Int) ∧ h' 355 = fill (h 355) b (pbt V chs k) (fun _ => -1) ∧ h' 356 = p_set (fill (h 356) b (pbt V chs k) (fun _ => 0)) (b + ibt V chs k) ((g + 1 : Nat) : Int) ∧ h' 357 = p_set (h 357) g (if k = 1 then 1 else 0) ∧ h' 358 = p_set (h 358) g (b : Int) ∧ h' 254 161 = ((g + 1 : Nat) : Int) ∧ p_fr [355, 356, 357, 358] [(254, 158), (254, 161)] h h' := by
  obtain ⟨h1, r1, a1, a5, a6, f1⟩ := mb_newB (d := d) (L := L) hb e
  have g1 : h1 254 161 = (g : Int) := by rw [f1 254 161 rfl rfl]; exact hg
  have e5 : ∀ (s0 : Int), s0 = (if k = 1 then 1 else 0) → ∃ h', am_E (am_D (d + 1)) m_17_174 (.inl 5) [some (am_r (am_a 254)), some (am_i (k : Int)), some (am_i (b : Int))] [am_i s0, am_i (g : Int), am_r (am_a 357)] (zS L, h1) = pI L (b : Int) h' ∧ h' = am_up (am_up (am_up (am_up h1 357 g s0) 358 g (b : Int)) 254 161 ((g + 1 : Nat) : Int)) 356 (b + ibt V chs k) ((g + 1 : Nat) : Int) := by
    intro s0 hs
    have bt : ∀ x : Option am_O, am_bit s0 x = x := fun x => by
      rcases (show k = 0 ∨ k = 1 by omega) with rfl | rfl
      · rw [hs, if_neg (by decide)]; exact p_bit0
      · rw [hs, if_pos rfl]; exact p_bit1
    have g2 : am_up h1 357 g s0 254 161 = (g : Int) := by rw [p_up_c _ _ _ _ _ (by decide)]; exact g1
    rw [q_17_174_5, bt, p_arr (show (zS L)[357]? = some (4, 1500, []) from rfl), p_idx (by omega) (by omega), Int.toNat_natCast, show ∀ x : Option am_O, cond (Nat.beq 357 0) none x = x from fun _ => rfl, g2, p_idx (by omega) (by omega), Int.toNat_natCast, p_w (x := (g : Int) + 1) (by omega) (by omega), show (g : Int) + 1 = ((g + 1 : Nat) : Int) by omega]
    rcases (show k = 0 ∨ k = 1 by omega) with rfl | rfl
    · have : pbt V chs 0 = 3 := rfl
      rw [if_pos (show ((0 : Nat) : Int) = 0 from rfl), p_w (by omega) (by omega), p_idx (by omega) (by omega), show ((b : Int) + 2).toNat = b + 2 by omega]
      exact ⟨_, rfl, rfl⟩
    · have : pbt V chs 1 = 2 := rfl
      rw [if_neg (show ¬ ((1 : Nat) : Int) = 0 by decide), p_w (by omega) (by omega), p_idx (by omega) (by omega), show ((b : Int) + 1).toNat = b + 1 by omega]
      exact ⟨_, rfl, rfl⟩
  have fin : ∀ (s0 : Int), s0 = (if k = 1 then 1 else 0) → ∀ h', h' = am_up (am_up (am_up (am_up h1 357 g s0) 358 g (b : Int)) 254 161 ((g + 1 : Nat) : Int)) 356 (b + ibt V chs k) ((g + 1 : Nat) : Int) → h' 254 158 = ((b + pbt V chs k : Nat) : Int) ∧ h' 355 = fill (h 355) b (pbt V chs k) (fun _ => -1) ∧ h' 356 = p_set (fill (h 356) b (pbt V chs k) (fun _ => 0)) (b + ibt V chs k) ((g + 1 : Nat) : Int) ∧ h' 357 = p_set (h 357) g (if k = 1 then 1 else 0) ∧ h' 358 = p_set (h 358) g (b : Int) ∧ h' 254 161 = ((g + 1 : Nat) : Int) ∧ p_fr [355, 356, 357, 358] [(254, 158), (254, 161)] h h' := by
    intro s0 hs h' e'
    rw [e']
    refine ⟨?_, ?_, ?_, ?_, ?_, ?_, ((((f1.mono rfl rfl).upc _ _ _ rfl).upc _ _ _ rfl).upf _ _ _ rfl).upc _ _ _ rfl⟩
    · rw [p_up_c _ _ _ _ _ (by decide), p_up_n _ _ _ _ _ _ (Or.inr (by decide)), p_up_c _ _ _ _ _ (by decide), p_up_c _ _ _ _ _ (by decide)]; exact a1
    · rw [p_up_c _ _ _ _ _ (by decide), p_up_c _ _ _ _ _ (by decide), p_up_c _ _ _ _ _ (by decide), p_up_c _ _ _ _ _ (by decide)]; exact a5
    · rw [p_up_f, p_up_c _ _ _ _ _ (by decide), p_up_c _ _ _ _ _ (by decide), p_up_c _ _ _ _ _ (by decide), a6]
    · rw [p_up_c _ _ _ _ _ (by decide), p_up_c _ _ _ _ _ (by decide), p_up_c _ _ _ _ _ (by decide), p_up_f, f1.cell 357 rfl rfl, hs]
    · rw [p_up_c _ _ _ _ _ (by decide), p_up_c _ _ _ _ _ (by decide), p_up_f, p_up_c _ _ _ _ _ (by decide), f1.cell 358 rfl rfl]
    · rw [p_up_c _ _ _ _ _ (by decide), p_up_s]
  have go : ∀ s : Int, s = ((pbt V chs k : Nat) : Int) → ∃ h', am_E (am_D (d + 1)) m_17_174 (.inl 3) [some (am_r (am_a 254)), some (am_i (k : Int)), none] [am_i s, am_r (am_a 254)] (zS L, h) = pI L (b : Int) h' ∧ h' 254 158 = ((b + pbt V chs k : Nat) : Int) ∧ h' 355 = fill (h 355) b (pbt V chs k) (fun _ => -1) ∧ h' 356 = p_set (fill (h 356) b (pbt V chs k) (fun _ => 0)) (b + ibt V chs k) ((g + 1 : Nat) : Int) ∧ h' 357 = p_set (h 357) g (if k = 1 then 1 else 0) ∧ h' 358 = p_set (h 358) g (b : Int) ∧ h' 254 161 = ((g + 1 : Nat) : Int) ∧ p_fr [355, 356, 357, 358] [(254, 158), (254, 161)] h h' := by
    intro s hs
    rw [q_17_174_3, hs, r1, p_xI, g1]
    rcases (show k = 0 ∨ k = 1 by omega) with rfl | rfl
    · obtain ⟨h', x1, x2⟩ := e5 0 rfl
      rw [if_neg (show ¬ ((0 : Nat) : Int) = 1 by decide)]
      exact ⟨h', x1, fin 0 rfl h' x2⟩
    · obtain ⟨h', x1, x2⟩ := e5 1 rfl
      rw [if_pos (show ((1 : Nat) : Int) = 1 from rfl)]
      exact ⟨h', x1, fin 1 rfl h' x2⟩
  rw [D_17_174, if_neg (by omega)]
  rcases (show k = 0 ∨ k = 1 by omega) with rfl | rfl
  · rw [if_pos (show ((0 : Nat) : Int) = 0 from rfl)]
    exact go 3 rfl
  · rw [if_neg (show ¬ ((1 : Nat) : Int) = 0 by decide)]
    exact go 2 rfl
end
