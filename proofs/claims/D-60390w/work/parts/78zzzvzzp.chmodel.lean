/-! CHIPS, 68: chips() of the model -/
theorem p_lc (x y : Int) : 0 < am_lcmp x y ↔ y < x := by
  unfold am_lcmp
  by_cases c : x < y
  · rw [if_pos c]; omega
  · rw [if_neg c]
    by_cases z : x = y
    · rw [if_pos z]; omega
    · rw [if_neg z]; omega
/-- what chips() leaves of the model -/
def mjR (h h' : am_H) : Prop := p_fr chC chF h h' ∧ h' 254 1 = 0 ∧ (∀ c k, c < 254 → h' c k = h c k) ∧ CA h' ∧ (0 ≤ h' 254 174 ∧ h' 254 174 ≤ 15) ∧ h' 254 152 = 0
theorem mj_side {cs : List Nat} {fs : List (Nat × Nat)} (hc : (cs.all fun a => chC.contains a && Nat.ble 256 a && !(a == 353) && !(a == 354)) = true) (hf : (fs.all fun q => chF.contains q && (q.1 == 254) && !(q.2 == 1) && !(q.2 == 152) && !(q.2 == 174)) = true) : (∀ c, (c < 256 ∨ c = 353 ∨ c = 354) → cs.contains c = false) ∧ (∀ c k, (c ≠ 254 ∨ k = 1 ∨ k = 152 ∨ k = 174) → fs.contains (c, k) = false) := by
  rw [List.all_eq_true] at hc hf
  refine ⟨fun c h => ?_, fun c k h => ?_⟩
  · cases e : cs.contains c with
    | false => rfl
    | true =>
      have := hc c (List.contains_iff_mem.1 e)
      simp at this
      omega
  · cases e : fs.contains (c, k) with
    | false => rfl
    | true =>
      have := hf (c, k) (List.contains_iff_mem.1 e)
      simp at this
      omega
theorem mjR.step {g h h' : am_H} (H : mjR g h) {cs : List Nat} {fs : List (Nat × Nat)} (f : p_fr cs fs h h') (hc : (cs.all fun a => chC.contains a && Nat.ble 256 a && !(a == 353) && !(a == 354)) = true) (hf : (fs.all fun q => chF.contains q && (q.1 == 254) && !(q.2 == 1) && !(q.2 == 152) && !(q.2 == 174)) = true) : mjR g h' := by
  obtain ⟨nc, nf⟩ := mj_side hc hf
  obtain ⟨h1, h2, h3, h4, h5, h6⟩ := H
  refine ⟨h1.trans (f.mono ?_ ?_), ?_, fun c k hk => ?_, fun c hk => ?_, ?_, ?_⟩
  · rw [List.all_eq_true] at hc ⊢
    intro a ha
    have := hc a ha
    simp only [Bool.and_eq_true] at this
    exact this.1.1.1
  · rw [List.all_eq_true] at hf ⊢
    intro a ha
    have := hf a ha
    simp only [Bool.and_eq_true] at this
    rw [this.1.1.1.1, Bool.or_true]
  · rw [f 254 1 (nc _ (by omega)) (nf _ _ (by omega))]; exact h2
  · rw [f c k (nc _ (by omega)) (nf _ _ (by omega))]; exact h3 c k hk
  · rw [f 353 c (nc _ (by omega)) (nf _ _ (by omega)), f 354 c (nc _ (by omega)) (nf _ _ (by omega))]; exact h4 c hk
  · rw [f 254 174 (nc _ (by omega)) (nf _ _ (by omega))]; exact h5
  · rw [f 254 152 (nc _ (by omega)) (nf _ _ (by omega))]; exact h6
section
variable {e L : Nat} {n : Nat} {h : am_H} {K V P : Nat → Int} {W : Nat → List Int} {Z : Nat}
/-- up to the tokens -/
theorem mj_pre (T4 : ∀ k, k < n → 0 ≤ h 255 k ∧ h 255 k ≤ 255) (hn : n ≤ 4000) (hn2 : (n : Int) ≤ h 254 1) (S : CA h) (h174 : 0 ≤ h 254 174 ∧ h 254 174 ≤ 15) (tk : ∀ hm : am_H, lm_S (h 255) n (cx_mods (h 255) n 2000 (n + 1) 0 0) hm → mR K V P W Z hm) : ∃ b, am_D (e + 9) 17 183 [am_r (am_a 254), am_i (n : Int)] (zS L, h) = (am_xV (zS L) (am_D (e + 8) 17 156 [am_r (am_a 254)] (zS L, b)) (am_up1 (zS L)) fun h4 => if (0 : Int) < h4 254 11 then pI L (h4 254 11) (am_up h4 254 4 (h4 254 12)) else am_xV (zS L) (am_D (e + 8) 17 164 [am_r (am_a 254)] (zS L, am_up (am_up h4 254 4 (h4 254 12)) 254 69 0)) (am_up1 (zS L)) fun h5 => am_E (am_D (e + 8)) m_17_183 (.inl 3) [some (am_r (am_a 254)), some (am_i (n : Int)), some (am_i 0)] [] (zS L, h5)) ∧ mR K V P W Z b ∧ b 254 10 = 0 ∧ b 254 3 = (n : Int) ∧ mjR h b := by
  obtain ⟨b1, hb1⟩ : ∃ b1, b1 = am_up h 254 3 (n : Int) := ⟨_, rfl⟩
  obtain ⟨b2, rb2, b22, b23, fb2⟩ := pt_take_m (d := e + 7) (L := L) (n := n) n b1 0 (by omega) hn
  have rb2 : am_E (am_D (e + 7)) m_17_3 (.inl 3) [some (am_r (am_a 254)), some (am_i (n : Int)), some (am_i 0)] [] (zS L, b1) = pI L 1 b2 := rb2
  obtain ⟨b3, hb3⟩ : ∃ b3, b3 = am_up b2 254 152 0 := ⟨_, rfl⟩
  obtain ⟨b4, hb4⟩ : ∃ b4, b4 = am_up (am_up b3 254 9 0) 254 10 0 := ⟨_, rfl⟩
  have f1 : p_fr [] [(254, 3)] h b1 := by rw [hb1]; exact (p_fr.refl h).upf _ _ _ rfl
  have f4 : p_fr [] [(254, 152), (254, 9), (254, 10)] b2 b4 := by rw [hb4, hb3]; exact (((p_fr.refl b2).upf _ _ _ rfl).upf _ _ _ rfl).upf _ _ _ rfl
  have S4 : lm_S (h 255) n [] b4 := by
    refine ⟨⟨?_, hn, fun k hk => ⟨?_, T4 k hk⟩⟩, by rw [hb4]; simp [p_up], fun i q hq => by cases hq⟩
    · rw [f4 254 3 rfl rfl, fb2 254 3 rfl rfl, hb1, p_up_s]
    · rw [f4.cell 256 rfl rfl, b23, if_pos ⟨Nat.zero_le _, hk⟩, f1.cell 255 rfl rfl]
  obtain ⟨b5, rb5, fb5, S5⟩ := km_read (d := e + 2) (L := L) (t := h 255) (n := n) 2000 (Nat.le_refl _) (n + 1) b4 0 [] none S4 (Nat.zero_le _) (by omega) (by decide)
  rw [List.nil_append, List.length_nil] at S5
  have FT : p_fr [256, 257, 258, 259, 260] [(254, 1), (254, 3), (254, 152), (254, 9), (254, 10)] h b5 := (((f1.mono rfl rfl).trans (fb2.mono rfl rfl)).trans (f4.mono rfl rfl)).trans (fb5.mono rfl rfl)
  have FU : p_fr [256, 257, 258, 259, 260] [(254, 152), (254, 9), (254, 10)] b2 b5 := (f4.mono rfl rfl).trans (fb5.mono rfl rfl)
  refine ⟨b5, ?_, tk b5 S5, by rw [fb5 254 10 rfl rfl, hb4, p_up_s], S5.1.1, FT.mono rfl rfl, by rw [FU 254 1 rfl rfl]; exact b22, fun c k hc => FT c k (by simp; omega) (by simp; omega), fun c hc => by rw [FT.cell 353 rfl rfl, FT.cell 354 rfl rfl]; exact S c hc, by rw [FT 254 174 rfl rfl]; exact h174, by rw [fb5 254 152 rfl rfl, hb4, hb3]; simp [p_up]⟩
  have sk := lm_D_skip (d := e + 5) (L := L) S4.1 0 (Nat.zero_le _)
  have sk' : am_D (e + 7) 17 9 [am_r (am_a 254), am_i 0] (zS L, b4) = pI L (lm_sk (lx_skip (h 255) n (n + 1) 0)) b4 := sk
  have rb5' : am_E (am_D (e + 7)) m_17_11 (.inl 1) [some (am_r (am_a 254)), some (am_i 2000), some (am_i 1), some (am_i (lm_sk (lx_skip (h 255) n (n + 1) 0))), some (am_i 1), none] [] (zS L, b4) = pV L b5 := rb5
  rw [D_17_183, D_17_3, if_neg (by omega), if_neg (by omega), ← hb1, rb2, p_xI, if_neg (by decide), p_bit0, ← hb3, D_17_11, ← hb4, sk', p_xI, rb5', p_xV]
/-- chips() up to the board -/
theorem mj_m (T4 : ∀ k, k < n → 0 ≤ h 255 k ∧ h 255 k ≤ 255) (hn : n ≤ 4000) (hn2 : (n : Int) ≤ h 254 1) (S : CA h) (h174 : 0 ≤ h 254 174 ∧ h 254 174 ≤ 15) (tk : ∀ hm : am_H, lm_S (h 255) n (cx_mods (h 255) n 2000 (n + 1) 0 0) hm → mR K V P W Z hm) (WD : mWd K V W Z) (hP : ∀ x y, x < y → y ≤ Z → P x < P y) (hv : ∀ j, K j = 3 → 0 ≤ V j ∧ V j ≤ 99) (T : cT K Z) : match c_chs K V (Z + 1) (Z + 1) [] 0 with
    | .inl e' => ∃ h1, am_D (e + 9) 17 183 [am_r (am_a 254), am_i (n : Int)] (zS L, h) = pI L e'.1 h1 ∧ h1 254 4 = P e'.2 ∧ mjR h h1
    | .inr chs => match cksS K V chs chs 0 with
      | some e' => ∃ h1, am_D (e + 9) 17 183 [am_r (am_a 254), am_i (n : Int)] (zS L, h) = pI L e'.1 h1 ∧ h1 254 4 = P e'.2 ∧ mjR h h1
      | none => (∃ c ch h1, chs[c]? = some ch ∧ rch V chs c c ∧ (∀ c', c' < c → ¬ rch V chs c' c') ∧ am_D (e + 9) 17 183 [am_r (am_a 254), am_i (n : Int)] (zS L, h) = pI L 6 h1 ∧ h1 254 4 = P ch.1 ∧ mjR h h1) ∨ ((∀ c, c < chs.length → ¬ rch V chs c c) ∧ ∃ c ch, chs[c]? = some ch ∧ c + 1 = chs.length ∧ ((¬ (gAll V chs c ≤ 1500 ∧ bAll K V chs c ≤ 40000) ∧ ∃ h1, am_D (e + 9) 17 183 [am_r (am_a 254), am_i (n : Int)] (zS L, h) = pI L 6 h1 ∧ h1 254 4 = (n : Int) ∧ mjR h h1) ∨ ((gAll V chs c ≤ 1500 ∧ bAll K V chs c ≤ 40000) ∧ ∃ h1, am_D (e + 9) 17 183 [am_r (am_a 254), am_i (n : Int)] (zS L, h) = (am_xV (zS L) (am_D (e + 8) 17 177 [am_r (am_a 254)] (zS L, h1)) (am_up1 (zS L)) fun h6 => am_E (am_D (e + 8)) m_17_183 (.inl 8) [some (am_r (am_a 254)), some (am_i (n : Int)), some (am_i 1)] [] (zS L, h6)) ∧ mQ K V P W Z chs h1 ∧ mI K V chs chs.length h1 ∧ h1 254 69 = 0 ∧ h1 254 174 = (c : Int) ∧ h1 254 3 = (n : Int) ∧ mjR h h1))) := by
  obtain ⟨b, rb, Rb, b10, b3, Jb⟩ := mj_pre (e := e) (L := L) T4 hn hn2 S h174 tk
  have X := mx_read (d := e) (L := L) (V := V) (M := Z + 1) (m := Z + 1) Rb b10 (by omega) (by omega)
  cases hx : c_chs K V (Z + 1) (Z + 1) [] 0 with
  | inl e' =>
    rw [hx] at X
    dsimp only at X ⊢
    obtain ⟨h4, r4, f4, ⟨k1, k2⟩, k3, -⟩ := X
    obtain ⟨h5, e5⟩ : ∃ h5, h5 = am_up h4 254 4 (h4 254 12) := ⟨_, rfl⟩
    have f5 : p_fr [] [(254, 4)] h4 h5 := by rw [e5]; exact (p_fr.refl h4).upf _ _ _ rfl
    refine ⟨h5, by rw [rb, r4, p_xV, if_pos (by omega), k1, ← e5], by rw [e5, p_up_s]; exact k3, (Jb.step f4 rfl rfl).step f5 rfl rfl⟩
  | inr chs =>
    rw [hx] at X
    dsimp only at X ⊢
    obtain ⟨h4, r4, ⟨j, ⟨⟨Rm, -, -, k11, f4⟩, FR, -⟩⟩, FE⟩ := X
    obtain ⟨e0, t1, t2, ⟨l1, l2⟩, E, CT, hin⟩ := ch_read T hv (show Z < Z + 1 by omega) hx
    have J4 : mjR h h4 := Jb.step f4 rfl rfl
    have h43 : h4 254 3 = (n : Int) := by rw [f4 254 3 rfl rfl]; exact b3
    obtain ⟨h5, e5⟩ : ∃ h5, h5 = am_up (am_up h4 254 4 (h4 254 12)) 254 69 0 := ⟨_, rfl⟩
    have f5 : p_fr [] [(254, 4), (254, 69)] h4 h5 := by rw [e5]; exact ((p_fr.refl h4).upf _ _ _ rfl).upf _ _ _ rfl
    have J5 : mjR h h5 := J4.step f5 rfl rfl
    have Q4 : mQ K V P W Z chs h4 := ⟨Rm, mV_of FR FE⟩
    have Q5 : mQ K V P W Z chs h5 := by
      refine ⟨?_, ?_⟩
      · unfold mR
        rw [f5.cell 256 rfl rfl, f5.cell 257 rfl rfl, f5.cell 258 rfl rfl, f5.cell 259 rfl rfl, f5.cell 260 rfl rfl]
        exact Q4.1
      · unfold mV fRl
        rw [f5 254 122 rfl rfl, f5.cell 328 rfl rfl, f5.cell 329 rfl rfl, f5.cell 330 rfl rfl, f5.cell 331 rfl rfl, f5.cell 332 rfl rfl, f5.cell 333 rfl rfl, f5.cell 334 rfl rfl, f5.cell 335 rfl rfl, f5.cell 336 rfl rfl, f5.cell 337 rfl rfl, f5.cell 338 rfl rfl, f5.cell 339 rfl rfl, f5.cell 340 rfl rfl, f5.cell 341 rfl rfl, f5.cell 342 rfl rfl, f5.cell 343 rfl rfl, f5.cell 344 rfl rfl, f5.cell 345 rfl rfl, f5.cell 346 rfl rfl]
        exact Q4.2
    obtain ⟨h6, h7, r6, r7, f7, I7, N7⟩ := mn_all (d := e + 4) (L := L) E WD hP CT t1 t2 Q5 (by rw [e5, p_up_s]) (some (am_i (n : Int)))
    have Q7 := Q5.fr f7
    have J7 : mjR h h7 := J5.step f7 rfl rfl
    have h73 : h7 254 3 = (n : Int) := by rw [f7 254 3 rfl rfl, f5 254 3 rfl rfl]; exact h43
    have r6' : am_D (e + 8) 17 164 [am_r (am_a 254)] (zS L, h5) = pV L h6 := r6
    have r7' : am_E (am_D (e + 8)) m_17_183 (.inl 3) [some (am_r (am_a 254)), some (am_i (n : Int)), some (am_i 0)] [] (zS L, h6) = am_E (am_D (e + 8)) m_17_183 (.inl 3) [some (am_r (am_a 254)), some (am_i (n : Int)), some (am_i (chs.length : Int))] [] (zS L, h7) := r7
    have rr7 : am_D (e + 9) 17 183 [am_r (am_a 254), am_i (n : Int)] (zS L, h) = am_E (am_D (e + 8)) m_17_183 (.inl 3) [some (am_r (am_a 254)), some (am_i (n : Int)), some (am_i (chs.length : Int))] [] (zS L, h7) := by
      rw [rb, r4, p_xV, if_neg (by omega), ← e5, r6', p_xV, r7']
    rw [q_17_183_3, if_neg (by rw [Q7.2.1.1]; omega)] at rr7
    -- a fault noted
    have bad : ∀ (g : am_H) (v p : Int) (u2 : Option am_V), 0 < v → g 254 69 = v → g 254 70 = p → mjR h g → ∃ h1, am_E (am_D (e + 8)) m_17_183 (.inl 10) [some (am_r (am_a 254)), some (am_i (n : Int)), u2] [] (zS L, g) = pI L v h1 ∧ h1 254 4 = p ∧ mjR h h1 := fun g v p u2 hv g1 g2 J => by
      obtain ⟨h1, e1⟩ : ∃ h1, h1 = am_up g 254 4 (g 254 70) := ⟨_, rfl⟩
      have f1 : p_fr [] [(254, 4)] g h1 := by rw [e1]; exact (p_fr.refl g).upf _ _ _ rfl
      exact ⟨h1, by rw [q_17_183_10, if_pos (by omega), g1, ← e1], by rw [e1, p_up_s]; exact g2, J.step f1 rfl rfl⟩
    cases hk : cksS K V chs chs 0 with
    | some e' =>
      rw [hk] at N7
      dsimp only at N7 ⊢
      obtain ⟨n1, n2, n3⟩ := N7
      obtain ⟨h1, q1, q2, q3⟩ := bad h7 e'.1 (P e'.2) (some (am_i (chs.length : Int))) n2 n1 n3 J7
      refine ⟨h1, ?_, q2, q3⟩
      rw [rr7, if_neg (by omega), q_17_183_5, if_neg (by omega), q1]
    | none =>
      rw [hk] at N7
      dsimp only at N7 ⊢
      obtain ⟨f, hf⟩ := chsT_fun t1
      have Wr := mn_ring (d := e + 6) (L := L) hP (fun ch hch => Nat.le_of_lt (CT ch hch).1.2) hf Q7 I7 N7
      rw [if_pos N7] at rr7
      rcases Wr with ⟨c, ch, h8, w1, w2, w3, w4, w5, w6, w7⟩ | ⟨w1, h8, w2, w3⟩
      · left
        obtain ⟨h1, q1, q2, q3⟩ := bad h8 6 (P ch.1) (some (am_i (chs.length : Int))) (by decide) w5 w6 (J7.step w7 rfl rfl)
        refine ⟨c, ch, h1, w1, w2, w3, ?_, q2, q3⟩
        have w4' : am_D (e + 8) 17 168 [am_r (am_a 254)] (zS L, h7) = pV L h8 := w4
        rw [rr7, w4', p_xV, q_17_183_5, if_neg (by omega), q1]
      · right
        refine ⟨w1, ?_⟩
        obtain ⟨c, hcl⟩ : ∃ c, c + 1 = chs.length := ⟨chs.length - 1, by omega⟩
        obtain ⟨ch, hc⟩ : ∃ ch, chs[c]? = some ch := ⟨chs[c]'(by omega), List.getElem?_eq_getElem (by omega)⟩
        refine ⟨c, ch, hc, hcl, ?_⟩
        have w2' : am_D (e + 8) 17 168 [am_r (am_a 254)] (zS L, h7) = pV L h8 := w2
        have Q8 := Q7.fr (w3.mono (cs' := nfC) (fs' := ntF) rfl rfl)
        have I8 := I7.w w3
        have J8 : mjR h h8 := J7.step w3 rfl rfl
        have N8 : h8 254 69 = 0 := by rw [w3 254 69 rfl rfl]; exact N7
        obtain ⟨h9, e9⟩ : ∃ h9, h9 = am_up h8 254 174 (c : Int) := ⟨_, rfl⟩
        have f9 : p_fr [] [(254, 174)] h8 h9 := by rw [e9]; exact (p_fr.refl h8).upf _ _ _ rfl
        have Q9 : mQ K V P W Z chs h9 := by
          refine ⟨?_, ?_⟩
          · unfold mR
            rw [f9.cell 256 rfl rfl, f9.cell 257 rfl rfl, f9.cell 258 rfl rfl, f9.cell 259 rfl rfl, f9.cell 260 rfl rfl]
            exact Q8.1
          · unfold mV fRl
            rw [f9 254 122 rfl rfl, f9.cell 328 rfl rfl, f9.cell 329 rfl rfl, f9.cell 330 rfl rfl, f9.cell 331 rfl rfl, f9.cell 332 rfl rfl, f9.cell 333 rfl rfl, f9.cell 334 rfl rfl, f9.cell 335 rfl rfl, f9.cell 336 rfl rfl, f9.cell 337 rfl rfl, f9.cell 338 rfl rfl, f9.cell 339 rfl rfl, f9.cell 340 rfl rfl, f9.cell 341 rfl rfl, f9.cell 342 rfl rfl, f9.cell 343 rfl rfl, f9.cell 344 rfl rfl, f9.cell 345 rfl rfl, f9.cell 346 rfl rfl]
            exact Q8.2
        have I9 : mI K V chs chs.length h9 := fun c' ch' hl hc' => by
          obtain ⟨x1, x2⟩ := I8 c' ch' hl hc'
          refine ⟨fun j hj => by rw [f9.cell 347 rfl rfl]; exact x1 j hj, fun a q ha => by rw [f9.cell 349 rfl rfl]; exact x2 a q ha⟩
        have e174 : h9 254 174 = (c : Int) := by rw [e9, p_up_s]
        have J9 : mjR h h9 := by
          obtain ⟨j1, j2, j3, j4, -, j6⟩ := J8
          exact ⟨j1.trans (f9.mono rfl rfl), by rw [f9 254 1 rfl rfl]; exact j2, fun c k hk => by rw [f9 c k rfl (by simp; omega)]; exact j3 c k hk, fun c hk => by rw [f9.cell 353 rfl rfl, f9.cell 354 rfl rfl]; exact j4 c hk, by rw [e174]; omega, by rw [f9 254 152 rfl rfl]; exact j6⟩
        obtain ⟨Y, LK⟩ := ch_ckd E CT l1 l2 hk w1
        obtain ⟨h10, r10, f10, C10, R10⟩ := mc_count (d := e + 7) (L := L) Y (fun ch hch => (CT ch hch).2.1.2.2.2.2.2) Q9 I9 J9.2.2.2.1
        have r10' : am_D (e + 8) 17 169 [am_r (am_a 254)] (zS L, h9) = pV L h10 := r10
        have Q10 := Q9.f f10
        have I10 := I9.f f10
        have J10 : mjR h h10 := by
          obtain ⟨j1, j2, j3, -, j5, j6⟩ := J9
          exact ⟨j1.trans (f10.mono rfl rfl), by rw [f10 254 1 rfl rfl]; exact j2, fun c k hk => by rw [f10 c k (by simp; omega) rfl]; exact j3 c k hk, C10, by rw [f10 254 174 rfl rfl]; exact j5, by rw [f10 254 152 rfl rfl]; exact j6⟩
        have e174' : h10 254 174 = (c : Int) := by rw [f10 254 174 rfl rfl]; exact e174
        have h103 : h10 254 3 = (n : Int) := by rw [f10 254 3 rfl rfl, f9 254 3 rfl rfl, w3 254 3 rfl rfl]; exact h73
        have N10 : h10 254 69 = 0 := by rw [f10 254 69 rfl rfl, f9 254 69 rfl rfl]; exact N8
        obtain ⟨c1, c2⟩ := R10 c (by omega)
        rw [w2', p_xV, q_17_183_5, if_pos N8, (Q8.2).1.1, p_w (by omega) (by omega), show (chs.length : Int) - 1 = (c : Int) by omega, ← e9, r10', p_xV, e174', p_idx (by omega) (by omega), Int.toNat_natCast, c1, p_idx (by omega) (by omega), Int.toNat_natCast, c2] at rr7
        have e8 : ∃ h1, am_E (am_D (e + 8)) m_17_183 (.inl 8) [some (am_r (am_a 254)), some (am_i (n : Int)), some (am_i 0)] [] (zS L, h10) = pI L 6 h1 ∧ h1 254 4 = (n : Int) ∧ mjR h h1 := by
          obtain ⟨g, eg⟩ : ∃ g, g = am_up (am_up h10 254 69 6) 254 70 (h10 254 3) := ⟨_, rfl⟩
          have fg : p_fr [] [(254, 69), (254, 70)] h10 g := by rw [eg]; exact ((p_fr.refl h10).upf _ _ _ rfl).upf _ _ _ rfl
          obtain ⟨h1, q1, q2, q3⟩ := bad g 6 (n : Int) (some (am_i 0)) (by decide) (by rw [eg]; simp [p_up]) (by rw [eg, p_up_s]; exact h103) (J10.step fg rfl rfl)
          exact ⟨h1, by rw [q_17_183_8, if_pos rfl, ← eg, q1], q2, q3⟩
        by_cases g1 : gAll V chs c ≤ 1500
        · rw [if_neg (by rw [p_lc]; omega)] at rr7
          by_cases g2 : bAll K V chs c ≤ 40000
          · rw [if_neg (by rw [p_lc]; omega), if_neg (by decide)] at rr7
            exact Or.inr ⟨⟨g1, g2⟩, h10, rr7, Q10, I10, N10, e174', h103, J10⟩
          · rw [if_pos (by rw [p_lc]; omega), if_pos rfl] at rr7
            obtain ⟨h1, q1, q2, q3⟩ := e8
            exact Or.inl ⟨fun z => g2 z.2, h1, by rw [rr7, q1], q2, q3⟩
        · rw [if_pos (by rw [p_lc]; omega), if_pos rfl] at rr7
          obtain ⟨h1, q1, q2, q3⟩ := e8
          exact Or.inl ⟨fun z => g1 z.1, h1, by rw [rr7, q1], q2, q3⟩
end
