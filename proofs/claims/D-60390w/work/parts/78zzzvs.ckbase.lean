/-! CHIPS, 19: the component's checks: small steps -/
/-- what the whole check may change -/
def kfy (h h' : am_H) : Prop := ∀ c k, c ≠ 53 → c ≠ 54 → (c < 56 ∨ 72 < c) → (c < 83 ∨ 194 < c) → (c = 36 → k < 5 ∨ 10 < k) → h' c k = h c k
theorem kfy.refl (h : am_H) : kfy h h := fun _ _ _ _ _ _ _ => rfl
theorem kfy.trans {h1 h2 h3 : am_H} (f : kfy h1 h2) (g : kfy h2 h3) : kfy h1 h3 := fun c k a1 a2 a3 a4 a5 => (g c k a1 a2 a3 a4 a5).trans (f c k a1 a2 a3 a4 a5)
theorem kfy.up {h h' : am_H} (f : kfy h h') {c k : Nat} {v : Int} (hc : c = 53 ∨ c = 54 ∨ (56 ≤ c ∧ c ≤ 72) ∨ (83 ≤ c ∧ c ≤ 194) ∨ (c = 36 ∧ 5 ≤ k ∧ k ≤ 10)) : kfy h (am_up h' c k v) := fun c' k' a1 a2 a3 a4 a5 => by
  rw [p_up_n _ _ _ _ _ _ (by omega)]; exact f c' k' a1 a2 a3 a4 a5
/-- what the check of the chip at b may change as long as nothing is wrong -/
def kfx (b : Nat) (h h' : am_H) : Prop := ∀ c k, c ≠ 53 → c ≠ 54 → c ≠ b + 5 → c ≠ b + 6 → (c = 36 → k ≠ 5 ∧ k ≠ 9 ∧ k ≠ 10) → h' c k = h c k
theorem kfx.refl (b : Nat) (h : am_H) : kfx b h h := fun _ _ _ _ _ _ _ => rfl
theorem kfx.trans {b : Nat} {h1 h2 h3 : am_H} (f : kfx b h1 h2) (g : kfx b h2 h3) : kfx b h1 h3 := fun c k a1 a2 a3 a4 a5 => (g c k a1 a2 a3 a4 a5).trans (f c k a1 a2 a3 a4 a5)
theorem kfx.up {b : Nat} {h h' : am_H} (f : kfx b h h') {c k : Nat} {v : Int} (hc : c = 53 ∨ c = 54 ∨ c = b + 5 ∨ c = b + 6 ∨ (c = 36 ∧ (k = 5 ∨ k = 9 ∨ k = 10))) : kfx b h (am_up h' c k v) := fun c' k' a1 a2 a3 a4 a5 => by
  rw [p_up_n _ _ _ _ _ _ (by omega)]; exact f c' k' a1 a2 a3 a4 a5
theorem kfx.y {b : Nat} {h h' : am_H} (f : kfx b h h') (hb : 83 ≤ b ∧ b ≤ 188) : kfy h h' := fun c k a1 a2 a3 a4 a5 => f c k a1 a2 (by omega) (by omega) (fun z => by have := a5 z; omega)
def kFt (P : Nat → Int) (g : am_H) (e : cF) (h : am_H) : Prop := h 36 7 = e.1 ∧ h 36 8 = P e.2 ∧ kfy g h
/-- chips as the component has them, widths aside -/
def kG (V P : Nat → Int) (chs : List cCh) (h : am_H) : Prop := (h 36 6 = (chs.length : Int) ∧ chs.length ≤ 16) ∧ (∀ k, k < 2 + chs.length → (h (kb k) 2 = ((kNm V chs k).length : Int) ∧ (kNm V chs k).length ≤ 12) ∧ h (kb k) 3 = (kIp chs k : Int) ∧ ∀ (j : Nat) (y : Int), (kNm V chs k)[j]? = some y → h (kb k + 1) j = y) ∧ ∀ c ch, chs[c]? = some ch → (h (83 + 7 * c) 0 = V ch.1 ∧ h (83 + 7 * c) 1 = P ch.1) ∧ (h (83 + 7 * c) 4 = (ch.2.2.2.1.length : Int) ∧ ch.2.2.2.1.length ≤ 24) ∧ (h (83 + 7 * c) 5 = (ch.2.2.2.2.length : Int) ∧ ch.2.2.2.2.length ≤ 100) ∧ (∀ k q, ch.2.2.2.1[k]? = some q → h (83 + 7 * c + 3) k = (q.1 : Int)) ∧ ∀ (k t : Nat), ch.2.2.2.2[k]? = some t → h (83 + 7 * c + 4) k = V t
def kGw (V : Nat → Int) (chs : List cCh) (h : am_H) : Prop := ∀ k, k < 2 + chs.length → ∀ (j : Nat) (y : Int), (kWd V chs k)[j]? = some y → h (kb k + 2) j = y
/-- cells that hold chips -/
theorem kb_lo (k : Nat) : kb k = 38 ∨ kb k = 45 ∨ ∃ c, k = 2 + c ∧ kb k = 83 + 7 * c := by
  unfold kb
  by_cases h : k < 2
  · rw [if_pos h]; omega
  · rw [if_neg h]; exact Or.inr (Or.inr ⟨k - 2, by omega, by omega⟩)
section
variable {d L : Nat} {K V P : Nat → Int} {Z i b : Nat} {chs : List cCh} {g h h' : am_H}
theorem CB_k (L : Nat) {k : Nat} (hk : k < 18) : CB L (kb k) := by
  rcases kb_lo k with z | z | ⟨c, z1, z2⟩
  · rw [z]; exact CB_38 L
  · rw [z]; exact CB_45 L
  · rw [z2]; exact CB_c L c (by omega)
theorem kG.fr (G : kG V P chs h) {c0 : Nat} (f : kfx (83 + 7 * c0) h h') : kG V P chs h' := by
  obtain ⟨⟨g1, g2⟩, g3, g4⟩ := G
  have e : ∀ c k, c ≠ 53 → c ≠ 54 → c ≠ 83 + 7 * c0 + 5 → c ≠ 83 + 7 * c0 + 6 → c ≠ 36 → h' c k = h c k := fun c k a1 a2 a3 a4 a5 => f c k a1 a2 a3 a4 (fun z => absurd z a5)
  refine ⟨⟨by rw [f 36 6 (by decide) (by decide) (by omega) (by omega) (by omega)]; exact g1, g2⟩, fun k hk => ?_, fun c ch hc => ?_⟩
  · obtain ⟨a1, a2, a3⟩ := g3 k hk
    have hb : kb k ≠ 53 ∧ kb k ≠ 54 ∧ kb k ≠ 83 + 7 * c0 + 5 ∧ kb k ≠ 83 + 7 * c0 + 6 ∧ kb k ≠ 36 ∧ kb k + 1 ≠ 53 ∧ kb k + 1 ≠ 54 ∧ kb k + 1 ≠ 83 + 7 * c0 + 5 ∧ kb k + 1 ≠ 83 + 7 * c0 + 6 ∧ kb k + 1 ≠ 36 := by
      rcases kb_lo k with z | z | ⟨c, z1, z2⟩ <;> omega
    obtain ⟨b1, b2, b3, b4, b5, b6, b7, b8, b9, b10⟩ := hb
    refine ⟨by rw [e _ _ b1 b2 b3 b4 b5]; exact a1, by rw [e _ _ b1 b2 b3 b4 b5]; exact a2, fun j y hy => by rw [e _ _ b6 b7 b8 b9 b10]; exact a3 j y hy⟩
  · obtain ⟨a1, a2, a3, a4, a5⟩ := g4 c ch hc
    have eb : ∀ k, h' (83 + 7 * c) k = h (83 + 7 * c) k := fun k => e _ _ (by omega) (by omega) (by omega) (by omega) (by omega)
    have e3 : ∀ k, h' (83 + 7 * c + 3) k = h (83 + 7 * c + 3) k := fun k => e _ _ (by omega) (by omega) (by omega) (by omega) (by omega)
    have e4 : ∀ k, h' (83 + 7 * c + 4) k = h (83 + 7 * c + 4) k := fun k => e _ _ (by omega) (by omega) (by omega) (by omega) (by omega)
    rw [eb, eb, eb, eb]
    exact ⟨a1, a2, a3, fun k q hq => by rw [e3]; exact a4 k q hq, fun k t ht => by rw [e4]; exact a5 k t ht⟩
theorem kGw.fr (G : kGw V chs h) {c0 : Nat} (f : kfx (83 + 7 * c0) h h') : kGw V chs h' := by
  intro k hk j y hy
  rw [f _ _ (by rcases kb_lo k with z | z | ⟨c, z1, z2⟩ <;> omega) (by rcases kb_lo k with z | z | ⟨c, z1, z2⟩ <;> omega) (by rcases kb_lo k with z | z | ⟨c, z1, z2⟩ <;> omega) (by rcases kb_lo k with z | z | ⟨c, z1, z2⟩ <;> omega) (fun z => by rcases kb_lo k with z | z | ⟨c, z1, z2⟩ <;> omega)]
  exact G k hk j y hy
theorem kR.fx (R : kR K V P Z h) {c0 : Nat} (f : kfx (83 + 7 * c0) h h') : kR K V P Z h' :=
  R.fr (funext fun k => f 78 k (by decide) (by decide) (by omega) (by omega) (fun z => by cases z)) (funext fun k => f 79 k (by decide) (by decide) (by omega) (by omega) (fun z => by cases z)) (funext fun k => f 80 k (by decide) (by decide) (by omega) (by omega) (fun z => by cases z))
theorem ky_check (f : kfy g h) (p : Prop) [Decidable p] (c : Int) (j : Nat) : (¬ p ∧ ∃ h', am_D (d + 2) 4 6 [am_r (am_a 36), am_i (pB p), am_i c, am_i (P j)] (zS L, h) = kT L h' ∧ kFt P g (c, j) h') ∨ (p ∧ am_D (d + 2) 4 6 [am_r (am_a 36), am_i (pB p), am_i c, am_i (P j)] (zS L, h) = pV L h) := by
  rw [D_4_6]
  by_cases z : p
  · right
    exact ⟨z, by rw [pB_t z, if_neg (by decide)]⟩
  · left
    refine ⟨z, _, by rw [pB_f z, if_pos rfl, D_4_5, kT_V], ?_, p_up_s _ _ _ _, (f.up (by omega)).up (by omega)⟩
    rw [p_up_n _ _ _ _ _ _ (Or.inr (by decide)), p_up_s]
def kref : Option Nat → am_R
  | none => am_n
  | some k => am_a (kb k)
theorem ky_find_l (G : kG V P chs h) (v : Int) (h6 : v ≠ 6) (h7 : v ≠ 7) : ∀ (m k : Nat), k + m = chs.length → am_E (am_D d) m_4_19 (.inl 3) [some (am_r (am_a 36)), some (am_i v), some (am_i (k : Int))] [] (zS L, h) = pR L (kref (if ffnd v ((chs.map fun c => V c.1).drop k) k = -1 then none else some (2 + (ffnd v ((chs.map fun c => V c.1).drop k) k).toNat))) h
  | 0, k, hk => by
    rw [q_4_19_3, G.1.1, if_neg (by omega), List.drop_eq_nil_of_le (by rw [List.length_map]; omega)]
    rfl
  | m + 1, k, hk => by
    have l16 := G.1.2
    have hkl : k < (chs.map fun c => V c.1).length := by rw [List.length_map]; omega
    have hd := List.drop_eq_getElem_cons hkl
    rw [q_4_19_3, G.1.1, if_pos (by omega), p_idx (by omega) (by omega), Int.toNat_natCast, CHS_at k (by omega), (CB_c L k (by omega)).ob, (G.2.2 k _ (List.getElem?_eq_getElem (show k < chs.length by omega))).1.1, hd, ffnd_c, List.getElem_map, p_w (x := (k : Int) + 1) (by omega) (by omega)]
    by_cases c : V chs[k].1 = v
    · rw [if_pos c, if_pos c, p_idx (by omega) (by omega), Int.toNat_natCast, CHS_at k (by omega), if_neg (by omega)]
      show _ = pR L (am_a (kb (2 + k))) h
      rw [kb_c]
    · rw [if_neg c, if_neg c]
      exact ky_find_l G v h6 h7 m (k + 1) (by omega)
theorem ky_find (G : kG V P chs h) (v : Int) : am_D (d + 1) 4 19 [am_r (am_a 36), am_i v] (zS L, h) = pR L (kref (kOf V chs v)) h := by
  rw [D_4_19]
  unfold kOf
  by_cases h6 : v = 6
  · rw [if_pos h6, if_pos h6]; rfl
  by_cases h7 : v = 7
  · rw [if_neg h6, if_pos h7, if_neg h6, if_pos h7]; rfl
  rw [if_neg h6, if_neg h7, if_neg h6, if_neg h7]
  exact ky_find_l G v h6 h7 chs.length 0 (by omega)
theorem acmp_e (x y : Nat) (p q : Option am_O) : am_acmp .eq (am_a x) (am_a y) p q = if x = y then p else q := by
  show (if some x = some y then p else q) = _
  by_cases z : x = y
  · rw [if_pos z, if_pos (by rw [z])]
  · rw [if_neg z, if_neg (fun w => z (Option.some.inj w))]
theorem acmp_n (x y : Nat) (p q : Option am_O) : am_acmp .ne (am_a x) (am_a y) p q = if x = y then q else p := by
  show (if some x = some y then q else p) = _
  by_cases z : x = y
  · rw [if_pos z, if_pos (by rw [z])]
  · rw [if_neg z, if_neg (fun w => z (Option.some.inj w))]
theorem ky_index_l {c : Nat} (hc : c < 16) : ∀ (m k : Nat), k + m = c → am_E (am_D d) m_4_23 (.inl 1) [some (am_r (am_a 36)), some (am_r (am_a (83 + 7 * c))), some (am_i (k : Int))] [] (zS L, h) = pI L (c : Int) h
  | 0, k, hk => by rw [q_4_23_1, p_idx (by omega) (by omega), Int.toNat_natCast, CHS_at k (by omega), acmp_e, if_pos (by omega), show k = c by omega]
  | m + 1, k, hk => by
    rw [q_4_23_1, p_idx (by omega) (by omega), Int.toNat_natCast, CHS_at k (by omega), acmp_e, if_neg (by omega), p_w (by omega) (by omega)]
    exact ky_index_l hc m (k + 1) (by omega)
theorem ky_index {c : Nat} (hc : c < 16) : am_D (d + 1) 4 23 [am_r (am_a 36), am_r (am_a (83 + 7 * c))] (zS L, h) = pI L (c : Int) h := by
  rw [D_4_23]; exact ky_index_l hc c 0 (by omega)
theorem ky_told (R : kR K V P Z h) (n7 : ∀ j, j ≤ Z → K j ≠ 7) {t : Nat} (ht : t + 1 ≤ Z) : am_D (d + 1) 4 22 [am_r (am_a 36), am_i (t : Int)] (zS L, h) = pI L (pB (cSg K V 91 (t + 1))) h := by
  have z2 := R.1.1
  obtain ⟨a1, -, a2, -⟩ := R.2 (t + 1) ht
  rw [D_4_22, p_w (by omega) (by omega), p_idx (by omega) (by omega), show ((t : Int) + 1).toNat = t + 1 by omega, a1 (n7 _ ht)]
  by_cases c1 : K (t + 1) = 4
  · rw [if_pos c1, p_idx (by omega) (by omega), show ((t : Int) + 1).toNat = t + 1 by omega, a2]
    by_cases c2 : V (t + 1) = 91
    · rw [if_pos c2, p_bit1, pB_t ⟨c1, c2⟩]
    · rw [if_neg c2, p_bit0, pB_f (fun z => c2 z.2)]
  · rw [if_neg c1, p_bit0, pB_f (fun z => c1 z.1)]
/-- what stands at a range -/
theorem c_rng_c {i q : Nat} {r : cRg} (h : c_rng K V i = .inr (r.1, r.2.1, r.2.2, q)) : (¬ cSg K V 91 i ∧ r = (-1, 0, 0) ∧ q = i) ∨ (cSg K V 91 i ∧ K (i + 1) = 3 ∧ r.1 = (i : Int) ∧ r.2.1 = V (i + 1) ∧ ((cSg K V 256 (i + 2) ∧ K (i + 3) = 3 ∧ cSg K V 93 (i + 4) ∧ r.2.2 = V (i + 3) ∧ q = i + 5) ∨ (¬ cSg K V 256 (i + 2) ∧ cSg K V 93 (i + 2) ∧ r.2.2 = V (i + 1) ∧ q = i + 3))) := by
  obtain ⟨r1, r2, r3⟩ := r
  unfold c_rng at h
  by_cases c1 : cSg K V 91 i
  · rw [if_pos c1] at h
    by_cases c2 : K (i + 1) = 3
    · rw [if_pos c2] at h
      by_cases c3 : cSg K V 256 (i + 2)
      · rw [if_pos c3] at h
        by_cases c4 : K (i + 3) = 3
        · rw [if_pos c4] at h
          by_cases c5 : cSg K V 93 (i + 4)
          · rw [if_pos c5] at h
            cases h
            exact Or.inr ⟨c1, c2, rfl, rfl, Or.inl ⟨c3, c4, c5, rfl, rfl⟩⟩
          · rw [if_neg c5] at h; cases h
        · rw [if_neg c4] at h; cases h
      · rw [if_neg c3] at h
        by_cases c5 : cSg K V 93 (i + 2)
        · rw [if_pos c5] at h
          cases h
          exact Or.inr ⟨c1, c2, rfl, rfl, Or.inr ⟨c3, c5, rfl, rfl⟩⟩
        · rw [if_neg c5] at h; cases h
    · rw [if_neg c2] at h; cases h
  · rw [if_neg c1] at h
    cases h
    exact Or.inl ⟨c1, rfl, rfl⟩
def btF : List (Nat × Nat) := [(36, 5), (36, 9), (36, 10)]
theorem kN.fb (N : kN K V P Z i h) {j : Nat} (f : p_fr [] btF h h') (hj : j ≤ Z) (h5 : h' 36 5 = (j : Int)) (h7 : K j ≠ 7) : kN K V P Z j h' := ⟨N.1.fr (f.cell 78 rfl rfl) (f.cell 79 rfl rfl) (f.cell 80 rfl rfl), h5, hj, h7⟩
theorem ky_bits (N : kN K V P Z i h) (n7 : ∀ j, j ≤ Z → K j ≠ 7) (hv : ∀ j, K j = 3 → 0 ≤ V j ∧ V j ≤ 99) {r : cRg} {q : Nat} (hr : c_rng K V i = .inr (r.1, r.2.1, r.2.2, q)) {w : Int} (hw : 1 ≤ w ∧ w ≤ 16) : ∃ h', am_D (d + 3) 4 25 [am_r (am_a 36), am_i w] (zS L, h) = pI L (pB (rok r w)) h' ∧ kN K V P Z q h' ∧ p_fr [] btF h h' ∧ h' 36 9 = rlo r ∧ h' 36 10 = rhi r w := by
  have z2 := N.1.1.1
  have ub := N.ub
  rw [D_4_25, p_w (x := w - 1) (by omega) (by omega)]
  obtain ⟨h1, e1⟩ : ∃ h1, h1 = am_up (am_up h 36 9 0) 36 10 (w - 1) := ⟨_, rfl⟩
  have f1 : p_fr [] btF h h1 := by rw [e1]; exact ((p_fr.refl h).upf _ _ _ rfl).upf _ _ _ rfl
  have v5 : h1 36 5 = (i : Int) := by rw [e1, p_up_n _ _ _ _ _ _ (Or.inr (by decide)), p_up_n _ _ _ _ _ _ (Or.inr (by decide))]; exact N.2.1
  have N1 : kN K V P Z i h1 := N.fb f1 N.2.2.1 v5 N.2.2.2
  rw [← e1, kx_isSign (d := d) N1 91, p_xI]
  rcases c_rng_c hr with ⟨c1, c2, c3⟩ | ⟨c1, c2, c3, c4, c5⟩
  · have ro : rok r w := by rw [c2]; unfold rok rlo rhi; dsimp only; rw [if_pos rfl, if_pos rfl]; omega
    rw [pB_f c1, if_pos rfl, p_bit1, pB_t ro, c3]
    refine ⟨h1, rfl, N1, f1, ?_, ?_⟩
    · rw [c2, e1, p_up_n _ _ _ _ _ _ (Or.inr (by decide)), p_up_s]; rfl
    · rw [c2, e1, p_up_s]; rfl
  · have l1 := N.1.1.lt N.2.2.1 (by rw [c1.1]; omega)
    have l2 := N.1.1.lt (i := i + 1) (by omega) (by rw [c2]; omega)
    have l3 : i + 2 < Z := by
      rcases c5 with ⟨y1, -⟩ | ⟨-, y1, -⟩
      · exact N.1.1.lt (i := i + 2) (by omega) (by rw [y1.1]; omega)
      · exact N.1.1.lt (i := i + 2) (by omega) (by rw [y1.1]; omega)
    have rl : rlo r = V (i + 1) := by unfold rlo; rw [if_neg (by omega)]; exact c4
    have rh : rhi r w = r.2.2 := by unfold rhi; rw [if_neg (by omega)]
    have t1 := (N1.1.2 (i + 1) (by omega)).2.2.1
    have t2 := (N1.1.2 (i + 2) (by omega)).1 (n7 _ (by omega))
    have t3 := (N1.1.2 (i + 2) (by omega)).2.2.1
    rw [pB_t c1, if_neg (show ¬ (1 : Int) = 0 by decide), v5, p_w (by omega) (by omega), p_idx (by omega) (by omega), p_w (by omega) (by omega), p_idx (by omega) (by omega), show ((i : Int) + 1).toNat = i + 1 by omega, show ((i : Int) + 2).toNat = i + 2 by omega, t1, t2]
    obtain ⟨h2, e2⟩ : ∃ h2, h2 = am_up h1 36 9 (V (i + 1)) := ⟨_, rfl⟩
    rw [← e2]
    have f2 : p_fr [] btF h h2 := by rw [e2]; exact f1.upf _ _ _ rfl
    have v52 : h2 36 5 = (i : Int) := by rw [e2, p_up_n _ _ _ _ _ _ (Or.inr (by decide))]; exact v5
    have v92 : h2 36 9 = V (i + 1) := by rw [e2, p_up_s]
    -- the end
    have fin : ∀ (u2 : Option am_V) (s0 : Int) (h3 : am_H), p_fr [] btF h h3 → h3 36 9 = V (i + 1) → h3 36 10 = r.2.2 → (i : Int) + s0 = (q : Int) → q ≤ Z → ∃ h', am_E (am_D (d + 2)) m_4_25 (.inl 7) [some (am_r (am_a 36)), some (am_i w), u2] [am_i s0, am_i (i : Int), am_r (am_a 36)] (zS L, h3) = pI L (pB (rok r w)) h' ∧ kN K V P Z q h' ∧ p_fr [] btF h h' ∧ h' 36 9 = rlo r ∧ h' 36 10 = rhi r w := by
      intro u2 s0 h3 f3 v9 v10 hq hqZ
      have f4 : p_fr [] btF h (am_up h3 36 5 (q : Int)) := f3.upf _ _ _ rfl
      have N4 : kN K V P Z q (am_up h3 36 5 (q : Int)) := N.fb f4 hqZ (p_up_s _ _ _ _) (n7 _ hqZ)
      have p9 : am_up h3 36 5 (q : Int) 36 9 = rlo r := by rw [p_up_n _ _ _ _ _ _ (Or.inr (by decide)), v9, rl]
      have p10 : am_up h3 36 5 (q : Int) 36 10 = rhi r w := by rw [p_up_n _ _ _ _ _ _ (Or.inr (by decide)), v10, rh]
      refine ⟨am_up h3 36 5 (q : Int), ?_, N4, f4, p9, p10⟩
      rw [q_4_25_7, v9, v10, hq, p_w (by omega) (by omega)]
      by_cases y1 : r.2.2 < V (i + 1)
      · rw [if_pos y1, p_bit0, pB_f (fun z => by unfold rok at z; rw [rl, rh] at z; omega)]
      · rw [if_neg y1]
        by_cases y2 : r.2.2 < w
        · rw [if_pos y2, p_bit1, pB_t (by rw [rok, rl, rh]; omega)]
        · rw [if_neg y2, p_bit0, pB_f (fun z => by unfold rok at z; rw [rl, rh] at z; omega)]
    rcases c5 with ⟨y1, y2, y3, y4, y5⟩ | ⟨y1, y2, y3, y4⟩
    · have l4 := N.1.1.lt (i := i + 3) (by omega) (by rw [y2]; omega)
      have l5 := N.1.1.lt (i := i + 4) (by omega) (by rw [y3.1]; omega)
      have t4 : h2 79 (i + 3) = V (i + 3) := by rw [e2, p_up_c _ _ _ _ _ (by decide)]; exact (N1.1.2 (i + 3) (by omega)).2.2.1
      rw [if_pos y1.1, p_idx (by omega) (by omega), show ((i : Int) + 2).toNat = i + 2 by omega, t3, if_pos y1.2, q_4_25_3, if_neg (by decide), v52, p_w (by omega) (by omega), p_idx (by omega) (by omega), if_neg (by decide), show ((i : Int) + 3).toNat = i + 3 by omega, t4]
      exact fin _ 5 _ (f2.upf _ _ _ rfl) (by rw [p_up_n _ _ _ _ _ _ (Or.inr (by decide))]; exact v92) (by rw [p_up_s, y4]) (by omega) (by omega)
    · have go : ∃ h', am_E (am_D (d + 2)) m_4_25 (.inl 3) [some (am_r (am_a 36)), some (am_i w), none] [am_i 0] (zS L, h2) = pI L (pB (rok r w)) h' ∧ kN K V P Z q h' ∧ p_fr [] btF h h' ∧ h' 36 9 = rlo r ∧ h' 36 10 = rhi r w := by
        rw [q_4_25_3, if_pos rfl, if_pos rfl, v52, v92]
        exact fin _ 3 _ (f2.upf _ _ _ rfl) (by rw [p_up_n _ _ _ _ _ _ (Or.inr (by decide))]; exact v92) (by rw [p_up_s, y3]) (by omega) (by omega)
      by_cases x1 : K (i + 2) = 4
      · rw [if_pos x1, p_idx (by omega) (by omega), show ((i : Int) + 2).toNat = i + 2 by omega, t3, if_neg (fun z => y1 ⟨x1, z⟩)]
        exact go
      · exact absurd y2.1 x1
theorem ky_pass_l : ∀ (m j : Nat) {h : am_H}, kN K V P Z j h → (∀ a, a < m → ¬ cSg K V 93 (j + a)) → cSg K V 93 (j + m) → j + m + 1 ≤ Z → K (j + m + 1) ≠ 7 → (∀ a, a ≤ m → K (j + a) ≠ 7) → ∃ h', am_E (am_D (d + 2)) m_4_26 (.inl 1) [some (am_r (am_a 36))] [] (zS L, h) = pV L h' ∧ kN K V P Z (j + m + 1) h' ∧ p_fr [] btF h h'
  | 0, j, h, N, h1, h2, h3, h4, h5 => by
    have z2 := N.1.1.1
    rw [q_4_26_1, kx_isSign (d := d) N 93, p_xI, pB_t (show cSg K V 93 j from h2), if_neg (by decide), N.2.1, p_w (by omega) (by omega)]
    exact ⟨_, rfl, N.mv h3 h4, (p_fr.refl h).upf _ _ _ rfl⟩
  | m + 1, j, h, N, h1, h2, h3, h4, h5 => by
    have z2 := N.1.1.1
    rw [q_4_26_1, kx_isSign (d := d) N 93, p_xI, pB_f (show ¬ cSg K V 93 j from h1 0 (by omega)), if_pos rfl, N.2.1, p_w (by omega) (by omega)]
    obtain ⟨h', r1, r2, r3⟩ := ky_pass_l m (j + 1) (N.mv (j := j + 1) (by omega) (h5 1 (by omega))) (fun a ha => by rw [show j + 1 + a = j + (a + 1) by omega]; exact h1 (a + 1) (by omega)) (by rw [show j + 1 + m = j + (m + 1) by omega]; exact h2) (by omega) (by rw [show j + 1 + m + 1 = j + (m + 1) + 1 by omega]; exact h4) (fun a ha => by rw [show j + 1 + a = j + (a + 1) by omega]; exact h5 (a + 1) (by omega))
    rw [show j + 1 + m + 1 = j + (m + 1) + 1 by omega] at r2
    exact ⟨h', r1, r2, ((p_fr.refl h).upf _ _ _ rfl).trans r3⟩
theorem ky_pass (N : kN K V P Z i h) (n7 : ∀ j, j ≤ Z → K j ≠ 7) {r : cRg} {q : Nat} (hr : c_rng K V i = .inr (r.1, r.2.1, r.2.2, q)) : ∃ h', am_D (d + 3) 4 26 [am_r (am_a 36)] (zS L, h) = pV L h' ∧ kN K V P Z q h' ∧ p_fr [] btF h h' := by
  rw [D_4_26, kx_isSign (d := d) N 91, p_xI]
  rcases c_rng_c hr with ⟨c1, c2, c3⟩ | ⟨c1, c2, c3, c4, c5⟩
  · rw [pB_f c1, if_pos rfl, c3]
    exact ⟨h, rfl, N, p_fr.refl h⟩
  · rw [pB_t c1, if_neg (by decide)]
    have l1 := N.1.1.lt N.2.2.1 (by rw [c1.1]; omega)
    have l2 := N.1.1.lt (i := i + 1) (by omega) (by rw [c2]; omega)
    rcases c5 with ⟨y1, y2, y3, y4, y5⟩ | ⟨y1, y2, y3, y4⟩
    · have l3 := N.1.1.lt (i := i + 2) (by omega) (by rw [y1.1]; omega)
      have l4 := N.1.1.lt (i := i + 3) (by omega) (by rw [y2]; omega)
      have l5 := N.1.1.lt (i := i + 4) (by omega) (by rw [y3.1]; omega)
      rw [y5]
      refine ky_pass_l 4 i N (fun a ha z => ?_) y3 (by omega) (n7 _ (by omega)) (fun a ha => n7 _ (by omega))
      rcases (show a = 0 ∨ a = 1 ∨ a = 2 ∨ a = 3 by omega) with rfl | rfl | rfl | rfl
      · have := c1.2; have := z.2; rw [Nat.add_zero] at this; omega
      · have := z.1; omega
      · have := y1.2; have := z.2; omega
      · have := z.1; omega
    · have l3 := N.1.1.lt (i := i + 2) (by omega) (by rw [y2.1]; omega)
      rw [y4]
      refine ky_pass_l 2 i N (fun a ha z => ?_) y2 (by omega) (n7 _ (by omega)) (fun a ha => n7 _ (by omega))
      rcases (show a = 0 ∨ a = 1 by omega) with rfl | rfl
      · have := c1.2; have := z.2; rw [Nat.add_zero] at this; omega
      · have := z.1; omega
end
