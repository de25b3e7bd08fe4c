/-! CHIPS, 20: the component's heads; widths of inner names -/
def pfc (K V : Nat → Int) (Z : Nat) (p : Nat × Int) : Prop := p.1 < Z ∧ K p.1 = 2 ∧ (p.2 = -1 ∧ ¬ cSg K V 91 (p.1 + 1) ∨ p.2 = ((p.1 + 2 : Nat) : Int) ∧ cSg K V 91 (p.1 + 1) ∧ K (p.1 + 2) = 3 ∧ p.1 + 2 < Z)
/-- what is known of a chip that has been read -/
def cht (K V : Nat → Int) (Z : Nat) (ch : cCh) : Prop := (K ch.1 = 2 ∧ ch.1 < Z) ∧ innT K V ch ∧ (∀ p ∈ ch.2.1, pfc K V Z p) ∧ ∀ q ∈ ch.2.2.2.1, (q.1 + 2 ≤ Z ∧ K q.1 = 2) ∧ ∃ j, lksT K V q.2 (q.1 + 2) j ∧ cSg K V 41 j
/-- what is known of the tokens -/
def kEx (K V : Nat → Int) (Z : Nat) : Prop := cT K Z ∧ (∀ j, j ≤ Z → K j ≠ 7) ∧ ∀ j, K j = 3 → 0 ≤ V j ∧ V j ≤ 99
def kK (K V P : Nat → Int) (Z : Nat) (chs : List cCh) (h : am_H) : Prop := kR K V P Z h ∧ kG V P chs h ∧ kGw V chs h
section
variable {d L : Nat} {K V P : Nat → Int} {Z i b c0 k : Nat} {chs : List cCh} {ch : cCh} {g h h' : am_H}
theorem kK.fx (R : kK K V P Z chs h) (f : kfx (83 + 7 * c0) h h') : kK K V P Z chs h' := ⟨R.1.fx f, R.2.1.fr f, R.2.2.fr f⟩
theorem bt_fx (f : p_fr [] btF h h') : kfx b h h' := fun c k a1 a2 a3 a4 a5 => f c k rfl (by
  unfold btF
  by_cases z : c = 36
  · have := a5 z
    simp; omega
  · simp; omega)
theorem ky_ok (c x : Int) : am_D (d + 2) 4 6 [am_r (am_a 36), am_i 1, am_i c, am_i x] (zS L, h) = pV L h := by
  rw [D_4_6, if_neg (by decide)]
theorem ky_no (f : kfy g h) (c : Int) (j : Nat) : ∃ h', am_D (d + 2) 4 6 [am_r (am_a 36), am_i 0, am_i c, am_i (P j)] (zS L, h) = kT L h' ∧ kFt P g (c, j) h' := by
  rw [D_4_6, if_pos rfl]
  refine ⟨_, by rw [D_4_5, kT_V], ?_, p_up_s _ _ _ _, (f.up (by omega)).up (by omega)⟩
  rw [p_up_n _ _ _ _ _ _ (Or.inr (by decide)), p_up_s]
theorem pA_at (c : Nat) (hc : c < 16) : List.getD [am_a 56, am_a 57, am_a 58, am_a 59, am_a 60, am_a 61, am_a 62, am_a 63, am_a 64, am_a 65, am_a 66, am_a 67, am_a 68, am_a 69, am_a 70, am_a 71] c am_n = am_a (56 + c) ∧ (zS L)[56 + c]? = some (1, 12, []) := by
  have : c = 0 ∨ c = 1 ∨ c = 2 ∨ c = 3 ∨ c = 4 ∨ c = 5 ∨ c = 6 ∨ c = 7 ∨ c = 8 ∨ c = 9 ∨ c = 10 ∨ c = 11 ∨ c = 12 ∨ c = 13 ∨ c = 14 ∨ c = 15 := by omega
  rcases this with rfl | rfl | rfl | rfl | rfl | rfl | rfl | rfl | rfl | rfl | rfl | rfl | rfl | rfl | rfl | rfl <;> exact ⟨rfl, rfl⟩
/-- heads of the pins before j are done -/
def hdR (V : Nat → Int) (c : Nat) (ch : cCh) (j : Nat) (h : am_H) : Prop := ∀ k p, ch.2.1[k]? = some p → (k < j → h (56 + c) k = (p.1 : Int) ∧ h (83 + 7 * c + 2) k = c_w V p.2) ∧ (j ≤ k → h (83 + 7 * c + 2) k = (p.1 : Int))
def hdf (c : Nat) (h h' : am_H) : Prop := ∀ a k, a ≠ 56 + c → a ≠ 83 + 7 * c + 2 → h' a k = h a k
theorem hdf.up {c a k : Nat} {v : Int} (f : hdf c h h') (ha : a = 56 + c ∨ a = 83 + 7 * c + 2) : hdf c h (am_up h' a k v) := fun x y h1 h2 => by rw [p_up_c _ _ _ _ _ (by omega)]; exact f x y h1 h2
theorem kR.hd {c : Nat} (R : kR K V P Z h) (hc : c < 16) (f : hdf c h h') : kR K V P Z h' := R.fr (funext fun k => f 78 k (by omega) (by omega)) (funext fun k => f 79 k (by omega) (by omega)) (funext fun k => f 80 k (by omega) (by omega))
theorem ky_heads_l {c : Nat} (hc : c < 16) (E : kEx K V Z) (hp : ∀ p ∈ ch.2.1, pfc K V Z p) (hl : ch.2.1.length ≤ 12) : ∀ (m j : Nat) {h : am_H} (u3 : Option am_V), j + m = ch.2.1.length → kR K V P Z h → h (83 + 7 * c) 2 = (ch.2.1.length : Int) → hdR V c ch j h → ∃ h', am_E (am_D (d + 1)) m_4_21 (.inl 1) [some (am_r (am_a 36)), some (am_r (am_a (83 + 7 * c))), some (am_i (j : Int)), u3] [] (zS L, h) = pV L h' ∧ hdf c h h' ∧ hdR V c ch ch.2.1.length h'
  | 0, j, h, u3, hm, R, h2, H => by
    rw [q_4_21_1, (CB_c L c hc).ob, h2, if_neg (by omega)]
    exact ⟨h, rfl, fun _ _ _ _ => rfl, by rw [show ch.2.1.length = j by omega]; exact H⟩
  | m + 1, j, h, u3, hm, R, h2, H => by
    have z2 := R.1.1
    have hj : j < ch.2.1.length := by omega
    obtain ⟨p, hpe⟩ : ∃ p, p = ch.2.1[j] := ⟨_, rfl⟩
    have hpj : ch.2.1[j]? = some p := by rw [hpe]; exact List.getElem?_eq_getElem hj
    obtain ⟨f1, f2, f3⟩ := hp p (List.mem_of_getElem? hpj)
    have C := CB_c L c hc
    have pa := (pA_at (L := L) c hc).1
    have pb := (pA_at (L := L) c hc).2
    rw [q_4_21_1, C.ob, h2, if_pos (by omega), C.ob, CB.r7, C.a2, p_idx (by omega) (by omega), Int.toNat_natCast, ky_index hc, p_xI, p_idx (by omega) (by omega), Int.toNat_natCast, pa, p_arr pb, p_idx (by omega) (by omega), Int.toNat_natCast, (H j p hpj).2 (Nat.le_refl _), show 56 + c = 55 + (c + 1) by omega]
    rw [show cond (Nat.beq (55 + (c + 1)) 0) (none : Option am_O) = fun y => y from rfl]
    dsimp only
    rw [show 55 + (c + 1) = 56 + c by omega]
    obtain ⟨h1, e1⟩ : ∃ h1, h1 = am_up h (56 + c) j (p.1 : Int) := ⟨_, rfl⟩
    rw [← e1]
    have g1 : hdf c h h1 := by rw [e1]; exact hdf.up (fun _ _ _ _ => rfl) (Or.inl rfl)
    have R1 := R.hd hc g1
    rw [C.ob, ky_told (d := d) R1 E.2.1 (by omega), p_xI]
    -- one more width
    have nx : ∀ (w : Int) (u : Option am_V), w = c_w V p.2 → ∃ h', am_E (am_D (d + 1)) m_4_21 (.inl 1) [some (am_r (am_a 36)), some (am_r (am_a (83 + 7 * c))), some (am_i (am_w ((j : Int) + 1))), u] [] (zS L, am_up h1 (83 + 7 * c + 2) j w) = pV L h' ∧ hdf c h h' ∧ hdR V c ch ch.2.1.length h' := by
      intro w u hw
      have g2 : hdf c h (am_up h1 (83 + 7 * c + 2) j w) := g1.up (Or.inr rfl)
      rw [p_w (by omega) (by omega)]
      have hh : hdR V c ch (j + 1) (am_up h1 (83 + 7 * c + 2) j w) := fun k q hq => by
        constructor
        · intro hk
          rw [p_up_c _ _ _ _ _ (show 56 + c ≠ 83 + 7 * c + 2 by omega), e1]
          by_cases hkj : k = j
          · subst hkj
            rw [hpj] at hq; cases hq
            exact ⟨p_up_s _ _ _ _, by rw [p_up_s, hw]⟩
          · rw [p_up_n _ _ _ _ _ _ (Or.inr hkj), p_up_n _ _ _ _ _ _ (Or.inr hkj), p_up_c _ _ _ _ _ (by omega)]
            exact (H k q hq).1 (by omega)
        · intro hk
          rw [p_up_n _ _ _ _ _ _ (Or.inr (by omega)), e1, p_up_c _ _ _ _ _ (by omega)]
          exact (H k q hq).2 (by omega)
      obtain ⟨h', r1, r2, r3⟩ := ky_heads_l hc E hp hl m (j + 1) (h := am_up h1 (83 + 7 * c + 2) j w) u (by omega) (R.hd hc g2) (by rw [g2 _ _ (by omega) (by omega)]; exact h2) hh
      exact ⟨h', r1, fun a k a1 a2 => (r2 a k a1 a2).trans (g2 a k a1 a2), r3⟩
    rcases f3 with ⟨y1, y2⟩ | ⟨y1, y2, y3, y4⟩
    · rw [pB_f y2, if_pos rfl, CB.r7, C.a2, p_idx (by omega) (by omega), Int.toNat_natCast]
      exact nx 1 _ (by rw [y1]; rfl)
    · have cw : c_w V p.2 = if V (p.1 + 2) < 1 ∨ 16 < V (p.1 + 2) then 1 else V (p.1 + 2) := by rw [y1]; unfold c_w; rw [if_neg (by omega), Int.toNat_natCast]
      have t1 := (R1.2 (p.1 + 2) (by omega)).2.2.1
      rw [pB_t y2, if_neg (by decide), p_w (x := (p.1 : Int) + 2) (by omega) (by omega), p_idx (by omega) (by omega), show ((p.1 : Int) + 2).toNat = p.1 + 2 by omega, t1]
      by_cases w1 : V (p.1 + 2) < 1
      · rw [if_pos w1, CB.r7, C.a2, p_idx (by omega) (by omega), Int.toNat_natCast]
        exact nx 1 _ (by rw [cw, if_pos (Or.inl w1)])
      · rw [if_neg w1, p_idx (by omega) (by omega), show ((p.1 : Int) + 2).toNat = p.1 + 2 by omega, t1]
        by_cases w2 : 16 < V (p.1 + 2)
        · rw [if_pos w2, CB.r7, C.a2, p_idx (by omega) (by omega), Int.toNat_natCast]
          exact nx 1 _ (by rw [cw, if_pos (Or.inr w2)])
        · rw [if_neg w2, p_idx (by omega) (by omega), show ((p.1 : Int) + 2).toNat = p.1 + 2 by omega, t1, CB.r7, C.a2, p_idx (by omega) (by omega), Int.toNat_natCast]
          exact nx _ _ (by rw [cw, if_neg (by omega)])
/-- a pin's head -/
theorem ky_headF {c : Nat} (hc : chs[c]? = some ch) (E : kEx K V Z) (S : kK K V P Z chs h) (F : kfy g h) (hp : ∀ p ∈ ch.2.1, pfc K V Z p) {j : Nat} {p : Nat × Int} (hj : ch.2.1[j]? = some p) (ha : h (56 + c) j = (p.1 : Int)) :
    (ffnd (V p.1) (cNm V ch) 0 ≠ (j : Int) ∧ ∃ h', am_D (d + 3) 4 24 [am_r (am_a 36), am_r (am_a (83 + 7 * c)), am_i (j : Int)] (zS L, h) = kT L h' ∧ kFt P g (3, p.1) h')
    ∨ (ffnd (V p.1) (cNm V ch) 0 = (j : Int) ∧ ¬ (p.2 = -1 ∨ (1 ≤ V p.2.toNat ∧ V p.2.toNat ≤ 16)) ∧ ∃ h', am_D (d + 3) 4 24 [am_r (am_a 36), am_r (am_a (83 + 7 * c)), am_i (j : Int)] (zS L, h) = kT L h' ∧ kFt P g (5, p.2.toNat) h')
    ∨ (ffnd (V p.1) (cNm V ch) 0 = (j : Int) ∧ (p.2 = -1 ∨ (1 ≤ V p.2.toNat ∧ V p.2.toNat ≤ 16)) ∧ am_D (d + 3) 4 24 [am_r (am_a 36), am_r (am_a (83 + 7 * c)), am_i (j : Int)] (zS L, h) = pV L h) := by
  obtain ⟨R, G, Gw⟩ := S
  have z2 := R.1.1
  have hcl := (List.getElem?_eq_some_iff.1 hc).1
  have c16 : c < 16 := by have := G.1.2; omega
  have C := CB_c L c c16
  obtain ⟨f1, f2, f3⟩ := hp p (List.mem_of_getElem? hj)
  have kn := kNm_c (V := V) hc
  have kb2 := kb_c c
  obtain ⟨⟨g1, g2⟩, g3, g4⟩ := G.2.1 (2 + c) (by omega)
  rw [kb2, kn.1] at g1 g4
  rw [kn.1] at g2
  have cl : (cNm V ch).length = ch.2.1.length := by unfold cNm; rw [List.length_map]
  have jl := (List.getElem?_eq_some_iff.1 hj).1
  have nj : (cNm V ch)[j]? = some (V p.1) := by unfold cNm; rw [List.getElem?_map, hj]; rfl
  have pb := (pA_at (L := L) c c16).2
  rw [D_4_24, ky_index c16, p_xI, p_idx (by omega) (by omega), Int.toNat_natCast, (pA_at (L := L) c c16).1, p_arr pb, p_idx (by omega) (by omega), Int.toNat_natCast, C.ob, CB.r6, C.a1, p_idx (by omega) (by omega), Int.toNat_natCast, C.ob, g4 j _ nj, kx_pin (d := d + 1) C (V p.1) g2 g1 g4, p_xI, ha]
  -- the second check
  have snd : ∀ (u1 u2 : Option am_V), (¬ (p.2 = -1 ∨ (1 ≤ V p.2.toNat ∧ V p.2.toNat ≤ 16)) ∧ ∃ h', am_E (am_D (d + 2)) m_4_24 (.inl 2) [some (am_r (am_a 36)), u1, u2, some (am_i (p.1 : Int))] [am_i 1, am_r (am_a 36)] (zS L, h) = kT L h' ∧ kFt P g (5, p.2.toNat) h') ∨ ((p.2 = -1 ∨ (1 ≤ V p.2.toNat ∧ V p.2.toNat ≤ 16)) ∧ am_E (am_D (d + 2)) m_4_24 (.inl 2) [some (am_r (am_a 36)), u1, u2, some (am_i (p.1 : Int))] [am_i 1, am_r (am_a 36)] (zS L, h) = pV L h) := by
    intro u1 u2
    rw [q_4_24_2, p_idx (by omega) (by omega), ky_ok, p_xV, ky_told (d := d + 1) R E.2.1 (by omega), p_xI]
    rcases f3 with ⟨y1, y2⟩ | ⟨y1, y2, y3, y4⟩
    · right
      rw [pB_f y2, if_pos rfl, p_w (x := (p.1 : Int) + 2) (by omega) (by omega), p_idx (by omega) (by omega), ky_ok, p_xV]
      exact ⟨Or.inl y1, rfl⟩
    · have t1 := (R.2 (p.1 + 2) (by omega)).2.2.1
      have t2 := (R.2 (p.1 + 2) (by omega)).2.2.2
      have pt : p.2.toNat = p.1 + 2 := by omega
      rw [pt, pB_t y2, if_neg (by decide), p_w (x := (p.1 : Int) + 2) (by omega) (by omega), p_idx (by omega) (by omega), show ((p.1 : Int) + 2).toNat = p.1 + 2 by omega, t1]
      by_cases w1 : V (p.1 + 2) < 1
      · left
        obtain ⟨h', r1, r2⟩ := ky_no (d := d) (L := L) (P := P) F 5 (p.1 + 2)
        refine ⟨by omega, h', ?_, r2⟩
        rw [if_pos w1, p_idx (by omega) (by omega), show ((p.1 : Int) + 2).toNat = p.1 + 2 by omega, t2, r1, kT_V]
      · rw [if_neg w1, p_idx (by omega) (by omega), show ((p.1 : Int) + 2).toNat = p.1 + 2 by omega, t1]
        by_cases w2 : 16 < V (p.1 + 2)
        · left
          obtain ⟨h', r1, r2⟩ := ky_no (d := d) (L := L) (P := P) F 5 (p.1 + 2)
          refine ⟨by omega, h', ?_, r2⟩
          rw [if_pos w2, p_idx (by omega) (by omega), show ((p.1 : Int) + 2).toNat = p.1 + 2 by omega, t2, r1, kT_V]
        · right
          rw [if_neg w2, p_idx (by omega) (by omega), ky_ok, p_xV]
          exact ⟨by omega, rfl⟩
  by_cases y : ffnd (V p.1) (cNm V ch) 0 = (j : Int)
  · right
    rw [if_pos y]
    rcases snd (some (am_r (am_a (83 + 7 * c)))) (some (am_i (j : Int))) with ⟨z1, z3⟩ | ⟨z1, z3⟩
    · exact Or.inl ⟨y, z1, z3⟩
    · exact Or.inr ⟨y, z1, z3⟩
  · left
    obtain ⟨h', r1, r2⟩ := ky_no (d := d) (L := L) (P := P) F 3 p.1
    refine ⟨y, h', ?_, r2⟩
    rw [if_neg y, q_4_24_2, p_idx (by omega) (by omega), Int.toNat_natCast, (R.2 p.1 (by omega)).2.2.2, r1, kT_V]
/-- the right side's range, and what stands there -/
theorem lkT_r {l : cLk} (H : lkT K V l) (hn : cSg K V 44 l.2.2.2.2 ∨ cSg K V 41 l.2.2.2.2) : c_rng K V (l.2.2.1 + 1) = .inr (l.2.2.2.1.1, l.2.2.2.1.2.1, l.2.2.2.1.2.2, l.2.2.2.2) ∧ (K l.2.2.1 = 2 ∨ K l.2.2.1 = 1 ∧ l.2.2.2.1 = (-1, 0, 0) ∧ l.2.2.2.2 = l.2.2.1 + 1) := by
  obtain ⟨h1, q, h2, h3, h4, h5⟩ := H
  rcases h5 with ⟨z1, z2, z3⟩ | ⟨z1, z2⟩
  · have n9 : ¬ cSg K V 91 (q + 2) := fun z => by
      rw [z3] at hn
      have := z.2
      rcases hn with y | y <;> (have := y.2; omega)
    refine ⟨?_, Or.inr ⟨?_, z2, by omega⟩⟩
    · rw [h4, z2, z3]
      unfold c_rng
      rw [if_neg n9]
    · rw [h4]; rcases z1 with y | y <;> exact y.1
  · rw [h4]
    exact ⟨z2, Or.inl z1⟩
/-- inner names' widths as they are found -/
def gR (c0 : Nat) (ch : cCh) (W : Nat → Int) (h : am_H) : Prop := ∀ j, j < ch.2.2.2.2.length → h (83 + 7 * c0 + 5) j = W j ∧ h (83 + 7 * c0 + 6) j = (if W j = 0 then 0 else 1)
theorem gR.fr {W : Nat → Int} (G : gR c0 ch W h) (f : p_fr [] btF h h') : gR c0 ch W h' := fun j hj => by
  rw [f _ _ rfl (by unfold btF; simp; omega), f _ _ rfl (by unfold btF; simp; omega)]; exact G j hj
theorem ky_gv1 (hc : chs[c0]? = some ch) (hk : k < 2 + chs.length) (E : kEx K V Z) (S : kK K V P Z chs h) {l : cLk} (N : kN K V P Z l.1 h) (T : lkT K V l) (hn : cSg K V 44 l.2.2.2.2 ∨ cSg K V 41 l.2.2.2.2) {W : Nat → Int} (G : gR c0 ch W h) (u2 u5 u6 u7 u8 : Option am_V) : ∃ h' w5 w6 w7 w8, am_E (am_D (d + 3)) m_4_27 (.inl 3) [some (am_r (am_a 36)), some (am_r (am_a (83 + 7 * c0))), u2, some (am_r (am_a (kb k))), some (am_i 1), u5, u6, u7, u8] [] (zS L, h) = am_E (am_D (d + 3)) m_4_27 (.inl 3) [some (am_r (am_a 36)), some (am_r (am_a (83 + 7 * c0))), u2, some (am_r (am_a (kb k))), some (am_i (pB (cSg K V 44 l.2.2.2.2))), w5, w6, w7, w8] [] (zS L, h') ∧ kN K V P Z (l.2.2.2.2 + 1) h' ∧ gR c0 ch (gv1 K V chs k ch l W) h' ∧ kfx (83 + 7 * c0) h h' := by
  have z2 := N.1.1.1
  have G16 := S.2.1.1.2
  have hcl := (List.getElem?_eq_some_iff.1 hc).1
  have C := CB_k L (show k < 18 by omega)
  have C0 := CB_c L c0 (by omega)
  obtain ⟨⟨g1, g2⟩, g3, g4⟩ := S.2.1.2.1 k hk
  have rg := lkT_rg N.1.1 T N.2.2.1
  obtain ⟨rrx, rkx⟩ := lkT_r T hn
  have T' := T
  obtain ⟨t1, q, t2, t3, t4, -⟩ := T'
  have nz : l.2.2.2.2 < Z := by
    rcases hn with y | y
    · exact N.1.1.lt rg.2.2.1 (by rw [y.1]; omega)
    · exact N.1.1.lt rg.2.2.1 (by rw [y.1]; omega)
  rw [q_4_27_3, if_neg (by decide), kx_val (d := d + 2) N, p_xI, C.ob, kx_pin (d := d + 2) C (V l.1) g2 g1 g4, p_xI, N.2.1, p_w (x := (l.1 : Int) + 1) (by omega) (by omega)]
  obtain ⟨h1, e1⟩ : ∃ h1, h1 = am_up h 36 5 (((l.1 + 1 : Nat) : Int)) := ⟨_, rfl⟩
  rw [show (l.1 : Int) + 1 = ((l.1 + 1 : Nat) : Int) by omega, ← e1]
  have f1 : p_fr [] btF h h1 := by rw [e1]; exact (p_fr.refl h).upf _ _ _ rfl
  have N1 : kN K V P Z (l.1 + 1) h1 := N.fb f1 (by omega) (by rw [e1, p_up_s]) (E.2.1 _ (by omega))
  have S1 := S.fx (c0 := c0) (bt_fx f1)
  have G1 := G.fr f1
  rw [C.ob, (S1.2.1.2.1 k hk).2.1]
  have lp : lpn V chs k l = ffnd (V l.1) (kNm V chs k) 0 := rfl
  rw [← lp]
  have qZ : q ≤ Z := by omega
  -- the end: behind the right side
  have fin : ∀ {hh : am_H} {W' : Nat → Int} (u2 u4 u5 u6 u7 u8 : Option am_V), kN K V P Z l.2.2.1 hh → gR c0 ch W' hh → kfx (83 + 7 * c0) h hh → ∃ h' w5 w6 w7 w8, am_E (am_D (d + 3)) m_4_27 (.inl 14) [some (am_r (am_a 36)), some (am_r (am_a (83 + 7 * c0))), u2, some (am_r (am_a (kb k))), u4, u5, u6, u7, u8] [] (zS L, hh) = am_E (am_D (d + 3)) m_4_27 (.inl 3) [some (am_r (am_a 36)), some (am_r (am_a (83 + 7 * c0))), u2, some (am_r (am_a (kb k))), some (am_i (pB (cSg K V 44 l.2.2.2.2))), w5, w6, w7, w8] [] (zS L, h') ∧ kN K V P Z (l.2.2.2.2 + 1) h' ∧ gR c0 ch W' h' ∧ kfx (83 + 7 * c0) h h' := by
    intro hh W' u2 u4 u5 u6 u7 u8 Nh Gh fh
    rw [q_4_27_14, Nh.2.1, p_w (x := (l.2.2.1 : Int) + 1) (by omega) (by omega), show (l.2.2.1 : Int) + 1 = ((l.2.2.1 + 1 : Nat) : Int) by omega]
    have Na : kN K V P Z (l.2.2.1 + 1) (am_up hh 36 5 ((l.2.2.1 + 1 : Nat) : Int)) := Nh.mv (by omega) (E.2.1 _ (by omega))
    obtain ⟨hb, r1, Nb, fb⟩ := ky_pass (d := d) (L := L) Na E.2.1 rrx
    have fb' : p_fr [] btF hh hb := ((p_fr.refl hh).upf _ _ _ rfl).trans fb
    rw [r1, p_xV, kx_isSign (d := d + 1) Nb 44, p_xI, Nb.2.1, p_w (by omega) (by omega), show (l.2.2.2.2 : Int) + 1 = ((l.2.2.2.2 + 1 : Nat) : Int) by omega]
    have fc : p_fr [] btF hh (am_up hb 36 5 ((l.2.2.2.2 + 1 : Nat) : Int)) := fb'.upf _ _ _ rfl
    exact ⟨_, _, _, _, _, rfl, Nb.mv (by omega) (E.2.1 _ (by omega)), Gh.fr fc, fh.trans (bt_fx fc)⟩
  -- at the sign =
  have mid : ∀ {hh : am_H} (u2 u4 u5 u8 : Option am_V) (x6 x7 : Int), kN K V P Z q hh → p_fr [] btF h hh → (x6 = 0 ∧ lpn V chs k l < kIp chs k ∨ x6 = 1 ∧ ¬ lpn V chs k l < kIp chs k ∧ x7 = pB (rok l.2.1 (lwd V chs k l)) ∧ hh 36 9 = rlo l.2.1 ∧ hh 36 10 = rhi l.2.1 (lwd V chs k l)) → ∃ h' w5 w6 w7 w8, am_E (am_D (d + 3)) m_4_27 (.inl 9) [some (am_r (am_a 36)), some (am_r (am_a (83 + 7 * c0))), u2, some (am_r (am_a (kb k))), u4, u5, some (am_i x6), some (am_i x7), u8] [] (zS L, hh) = am_E (am_D (d + 3)) m_4_27 (.inl 3) [some (am_r (am_a 36)), some (am_r (am_a (83 + 7 * c0))), u2, some (am_r (am_a (kb k))), some (am_i (pB (cSg K V 44 l.2.2.2.2))), w5, w6, w7, w8] [] (zS L, h') ∧ kN K V P Z (l.2.2.2.2 + 1) h' ∧ gR c0 ch (gv1 K V chs k ch l W) h' ∧ kfx (83 + 7 * c0) h h' := by
    intro hh u2 u4 u5 u8 x6 x7 Nh fh hx
    rw [q_4_27_9, Nh.2.1, p_w (by omega) (by omega), show (q : Int) + 1 = ((l.2.2.1 : Nat) : Int) by omega]
    have fa : p_fr [] btF h (am_up hh 36 5 (l.2.2.1 : Int)) := fh.upf _ _ _ rfl
    have v9 : ∀ j, j ≠ 5 → am_up hh 36 5 (l.2.2.1 : Int) 36 j = hh 36 j := fun j hj => p_up_n _ _ _ _ _ _ (Or.inr hj)
    obtain ⟨ha, ea⟩ : ∃ ha, ha = am_up hh 36 5 (l.2.2.1 : Int) := ⟨_, rfl⟩
    have Na : kN K V P Z l.2.2.1 ha := by rw [ea]; exact Nh.mv (by omega) (E.2.1 _ (by omega))
    rw [← ea] at fa v9 ⊢
    have Sa := S.fx (c0 := c0) (bt_fx fa)
    have Ga := G.fr fa
    obtain ⟨-, -, ⟨i1, i2⟩, -, i3⟩ := Sa.2.1.2.2 c0 ch hc
    have il : (cIn V ch).length = ch.2.2.2.2.length := by unfold cIn; rw [List.length_map]
    have i3' : ∀ (k : Nat) (y : Int), (cIn V ch)[k]? = some y → ha (83 + 7 * c0 + 4) k = y := fun k y hy => by
      unfold cIn at hy
      rw [List.getElem?_map] at hy
      cases ht : ch.2.2.2.2[k]? with
      | none => rw [ht] at hy; cases hy
      | some t => rw [ht] at hy; cases hy; exact i3 k t ht
    have ir := ffnd_rg (cIn V ch) (V l.2.2.1) 0
    have re : rin V ch l = ffnd (V l.2.2.1) (cIn V ch) 0 := rfl
    rw [← re, il] at ir
    rw [kx_kind (d := d + 2) Na, p_xI]
    unfold gv1
    by_cases kr : K l.2.2.1 = 2
    · rw [if_pos kr, kx_val (d := d + 2) Na, p_xI, C0.ob, kx_in (d := d + 2) C0 (V l.2.2.1) (by omega) (by rw [il]; exact i1) i3', p_xI, ← re, q_4_27_11]
      rcases hx with ⟨x1, x2⟩ | ⟨x1, x2, x3, x4, x5⟩
      · rw [if_pos x1, if_pos (Or.inl x2)]
        exact fin _ _ _ _ _ _ Na Ga (bt_fx fa)
      · rw [if_neg (by omega)]
        by_cases y1 : rin V ch l = -1
        · rw [if_pos y1, if_pos (Or.inr (Or.inr (Or.inl y1)))]
          exact fin _ _ _ _ _ _ Na Ga (bt_fx fa)
        · have ij : (rin V ch l).toNat < ch.2.2.2.2.length := by omega
          rw [if_neg y1, C0.ob, CB.r11, C0.a6, p_idx (by omega) (by omega), (Ga _ ij).2]
          by_cases y2 : W (rin V ch l).toNat = 0
          · rw [if_neg (show ¬ (lpn V chs k l < kIp chs k ∨ K l.2.2.1 ≠ 2 ∨ rin V ch l = -1 ∨ W (rin V ch l).toNat ≠ 0) by rintro (z | z | z | z); exact x2 z; exact z kr; exact y1 z; exact z y2), if_pos y2, if_pos rfl, C0.ob, p_bit1, CB.r11, C0.a6, p_idx (by omega) (by omega), beq_b 5, C0.ob]
            have gn : ∀ w : Int, w ≠ 0 → gR c0 ch (p_set W (rin V ch l).toNat w) (am_up (am_up ha (83 + 7 * c0 + 6) (rin V ch l).toNat 1) (83 + 7 * c0 + 5) (rin V ch l).toNat w) := fun w hw j hj => by
              unfold p_set
              by_cases e : j = (rin V ch l).toNat
              · subst e
                rw [if_pos rfl, if_neg hw]
                refine ⟨p_up_s _ _ _ _, ?_⟩
                rw [p_up_c _ _ _ _ _ (by omega), p_up_s]
              · rw [if_neg e]
                refine ⟨?_, ?_⟩
                · rw [p_up_n _ _ _ _ _ _ (Or.inr e), p_up_n _ _ _ _ _ _ (Or.inr e)]; exact (Ga j hj).1
                · rw [p_up_n _ _ _ _ _ _ (Or.inr e), p_up_n _ _ _ _ _ _ (Or.inr e)]; exact (Ga j hj).2
            have fn : ∀ w : Int, kfx (83 + 7 * c0) h (am_up (am_up ha (83 + 7 * c0 + 6) (rin V ch l).toNat 1) (83 + 7 * c0 + 5) (rin V ch l).toNat w) := fun w => ((bt_fx fa).up (Or.inr (Or.inr (Or.inr (Or.inl rfl))))).up (Or.inr (Or.inr (Or.inl rfl)))
            have Nn : ∀ w : Int, kN K V P Z l.2.2.1 (am_up (am_up ha (83 + 7 * c0 + 6) (rin V ch l).toNat 1) (83 + 7 * c0 + 5) (rin V ch l).toNat w) := fun w => ⟨S.1.fx (fn w), by rw [p_up_c _ _ _ _ _ (by omega), p_up_c _ _ _ _ _ (by omega)]; exact Na.2.1, Na.2.2⟩
            by_cases y3 : rok l.2.1 (lwd V chs k l)
            · have wr := lwd_rg (V := V) (chs := chs) k l
              have cv := rlo_rg (r := l.2.1) (w := lwd V chs k l) (c_rng_v t2 E.2.2) wr
              rw [x3, pB_t y3, if_neg (by decide), CB.r10, C0.a5, p_idx (by omega) (by omega), beq_b 4, p_up_c _ _ _ _ 36 (by omega), v9 10 (by decide), v9 9 (by decide), x4, x5, p_w (x := rhi l.2.1 (lwd V chs k l) - rlo l.2.1) (by omega) (by omega), p_w (by omega) (by omega), if_pos y3]
              exact fin _ _ _ _ _ _ (Nn _) (gn _ (by unfold rn; unfold rok at y3; omega)) (fn _)
            · rw [x3, pB_f y3, if_pos rfl, CB.r10, C0.a5, p_idx (by omega) (by omega), beq_b 4, if_neg y3]
              exact fin _ _ _ _ _ _ (Nn _) (gn _ (by decide)) (fn _)
          · rw [if_neg y2, if_neg (by decide), if_pos (Or.inr (Or.inr (Or.inr y2)))]
            exact fin _ _ _ _ _ _ Na Ga (bt_fx fa)
    · rw [if_neg kr, if_pos (Or.inr (Or.inl kr)), q_4_27_11]
      by_cases y : x6 = 0
      · rw [if_pos y]; exact fin _ _ _ _ _ _ Na Ga (bt_fx fa)
      · rw [if_neg y, if_pos rfl]; exact fin _ _ _ _ _ _ Na Ga (bt_fx fa)
  by_cases y : lpn V chs k l < kIp chs k
  · rw [if_pos y, q_4_27_5, if_pos rfl, if_pos rfl]
    obtain ⟨h2, r2, N2, f2⟩ := ky_pass (d := d) (L := L) N1 E.2.1 t2
    rw [r2, p_xV]
    exact mid _ _ _ _ _ _ N2 (f1.trans f2) (Or.inl ⟨rfl, y⟩)
  · have lr := ffnd_rg (kNm V chs k) (V l.1) 0
    rw [← lp] at lr
    have lj : 0 ≤ lpn V chs k l ∧ lpn V chs k l < ((kNm V chs k).length : Int) := by
      rcases lr with ⟨z, -⟩ | ⟨z1, z3, -⟩
      · omega
      · omega
    have wj : (kWd V chs k)[(lpn V chs k l).toNat]? = some (lwd V chs k l) := by
      unfold lwd
      rw [List.getD_eq_getElem?_getD]
      have : (lpn V chs k l).toNat < (kWd V chs k).length := by rw [kWd_len]; omega
      rw [List.getElem?_eq_getElem this]; rfl
    obtain ⟨h2, r2, N2, f2, v9, v10⟩ := ky_bits (d := d) (L := L) N1 E.2.1 E.2.2 t2 (lwd_rg (V := V) (chs := chs) k l)
    rw [if_neg y, q_4_27_5, if_neg (by decide), C.ob, CB.r7, C.a2, p_idx (by omega) (by omega), S1.2.2 k hk _ _ wj, r2, p_xI]
    by_cases y3 : rok l.2.1 (lwd V chs k l)
    · rw [pB_t y3, if_neg (by decide), if_neg (by decide)]
      exact mid _ _ _ _ _ _ N2 (f1.trans f2) (Or.inr ⟨rfl, y, by rw [pB_t y3], v9, v10⟩)
    · rw [pB_f y3, if_pos rfl, if_neg (by decide)]
      exact mid _ _ _ _ _ _ N2 (f1.trans f2) (Or.inr ⟨rfl, y, by rw [pB_f y3], v9, v10⟩)
end
