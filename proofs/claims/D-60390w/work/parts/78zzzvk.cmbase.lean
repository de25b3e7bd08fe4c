/-! CHIPS, 11: the model reads chips: small steps -/
def kmp (k : Int) : Int := if k = 1 then 5 else if k = 2 then 1 else if k = 3 then 2 else if k = 5 then 6 else k
def mcCx : List Nat := [328, 329, 330, 331, 332, 333, 334, 335, 336, 337, 338, 339, 340, 341, 342, 343, 344, 345, 346]
def mcFx : List (Nat × Nat) := [(254, 10), (254, 11), (254, 12), (254, 122), (254, 125), (254, 131), (254, 134), (254, 144), (254, 148), (254, 149), (254, 150)]
/-- the model's tokens; W: the words of names -/
def mR (K V P : Nat → Int) (W : Nat → List Int) (Z : Nat) (h : am_H) : Prop := cT K Z ∧ (∀ i, i ≤ Z → h 257 i = kmp (K i) ∧ h 258 i = P i ∧ (K i = 1 ∨ K i = 3 → h 260 i = V i) ∧ (K i = 4 → h 260 i = (if V i = 256 then 46 else V i) ∧ V i ≠ 46) ∧ (0 ≤ K i ∧ K i ≤ 7 ∧ K i ≠ 6)) ∧ (∀ i, i ≤ Z → K i = 2 → h 259 i = ((W i).length : Int) ∧ (1 ≤ (W i).length ∧ (W i).length ≤ 16) ∧ (0 ≤ P i ∧ (P i).toNat + (W i).length ≤ 4000) ∧ ∀ (j : Nat) (x : Int), (W i)[j]? = some x → h 256 ((P i).toNat + j) = x ∧ x ≠ 32) ∧ ∀ a b, a ≤ Z → b ≤ Z → K a = 2 → K b = 2 → (V a = V b ↔ W a = W b)
theorem mR.fr {K V P : Nat → Int} {W : Nat → List Int} {Z : Nat} {h h' : am_H} (R : mR K V P W Z h) (f : p_fr mcCx mcFx h h') : mR K V P W Z h' := by
  unfold mR
  rw [f.cell 256 rfl rfl, f.cell 257 rfl rfl, f.cell 258 rfl rfl, f.cell 259 rfl rfl, f.cell 260 rfl rfl]
  exact R
/-- where the model's reading stands -/
def mcN (K V P : Nat → Int) (W : Nat → List Int) (Z i : Nat) (g h : am_H) : Prop := mR K V P W Z h ∧ h 254 10 = (i : Int) ∧ i ≤ Z ∧ h 254 11 = 0 ∧ p_fr mcCx mcFx g h
/-- a fault has been found -/
def mcB (P : Nat → Int) (g : am_H) (e : cF) (h : am_H) : Prop := p_fr mcCx mcFx g h ∧ (h 254 11 = e.1 ∧ 0 < e.1) ∧ h 254 12 = P e.2 ∧ (0 ≤ h 254 10 ∧ h 254 10 ≤ 2001) ∧ (0 ≤ h 254 134 ∧ h 254 134 ≤ 600) ∧ (0 ≤ h 254 122 ∧ h 254 122 ≤ 16) ∧ (0 ≤ h 254 131 ∧ h 254 131 ≤ 399)
theorem kmp_i {k : Int} (h : 0 ≤ k ∧ k ≤ 7 ∧ k ≠ 6) : (kmp k = 0 ↔ k = 0) ∧ (kmp k = 1 ↔ k = 2) ∧ (kmp k = 2 ↔ k = 3) ∧ (kmp k = 4 ↔ k = 4) ∧ (kmp k = 5 ↔ k = 1) ∧ (kmp k = 7 ↔ k = 7) := by
  unfold kmp
  refine ⟨?_, ?_, ?_, ?_, ?_, ?_⟩ <;> (repeat' split) <;> omega
section
variable {d L : Nat} {K V P : Nat → Int} {W : Nat → List Int} {Z i : Nat} {g h : am_H}
theorem mcN.ub (N : mcN K V P W Z i g h) : i ≤ 2000 := by have := N.1.1.1; have := N.2.2.1; omega
theorem mcN.up (N : mcN K V P W Z i g h) {c k : Nat} {v : Int} (hc : mcCx.contains c = true ∨ mcFx.contains (c, k) = true) (h10 : ¬ (c = 254 ∧ (k = 10 ∨ k = 11))) : mcN K V P W Z i g (am_up h c k v) := by
  have f : p_fr mcCx mcFx h (am_up h c k v) := by
    rcases hc with z | z
    · exact (p_fr.refl h).upc _ _ _ z
    · exact (p_fr.refl h).upf _ _ _ z
  refine ⟨N.1.fr f, ?_, N.2.2.1, ?_, N.2.2.2.2.trans f⟩
  · rw [p_up_n _ _ _ _ _ _ (by omega)]; exact N.2.1
  · rw [p_up_n _ _ _ _ _ _ (by omega)]; exact N.2.2.2.1
/-- counts within bounds -/
def mcL (h : am_H) : Prop := (0 ≤ h 254 134 ∧ h 254 134 ≤ 600) ∧ (0 ≤ h 254 122 ∧ h 254 122 ≤ 16) ∧ (0 ≤ h 254 131 ∧ h 254 131 ≤ 399)
theorem mx_isSign (N : mcN K V P W Z i g h) (c : Int) (hc : c ≠ 46) (h256 : c ≠ 256) : am_D (d + 1) 17 19 [am_r (am_a 254), am_i c] (zS L, h) = pI L (pB (cSg K V c i)) h := by
  have ub := N.ub
  obtain ⟨a1, a2, a3, a4, a5⟩ := N.1.2.1 i N.2.2.1
  have kk := kmp_i a5
  rw [D_17_19, N.2.1, p_idx (by omega) (by omega), Int.toNat_natCast, a1]
  by_cases c1 : K i = 4
  · obtain ⟨v1, v2⟩ := a4 c1
    rw [if_pos (kk.2.2.2.1.2 c1), p_idx (by omega) (by omega), Int.toNat_natCast, v1]
    by_cases c2 : V i = c
    · rw [if_pos (by rw [if_neg (by omega)]; exact c2), p_bit1, pB_t ⟨c1, c2⟩]
    · rw [if_neg (by split <;> omega), p_bit0, pB_f (fun z => c2 z.2)]
  · rw [if_neg (fun z => c1 (kk.2.2.2.1.1 z)), p_bit0, pB_f (fun z => c1 z.1)]
theorem mx_isDots (N : mcN K V P W Z i g h) : am_D (d + 1) 17 19 [am_r (am_a 254), am_i 46] (zS L, h) = pI L (pB (cSg K V 256 i)) h := by
  have ub := N.ub
  obtain ⟨a1, a2, a3, a4, a5⟩ := N.1.2.1 i N.2.2.1
  have kk := kmp_i a5
  rw [D_17_19, N.2.1, p_idx (by omega) (by omega), Int.toNat_natCast, a1]
  by_cases c1 : K i = 4
  · obtain ⟨v1, v2⟩ := a4 c1
    rw [if_pos (kk.2.2.2.1.2 c1), p_idx (by omega) (by omega), Int.toNat_natCast, v1]
    by_cases c2 : V i = 256
    · rw [if_pos (by rw [if_pos c2]), p_bit1, pB_t ⟨c1, c2⟩]
    · rw [if_neg (by rw [if_neg c2]; exact v2), p_bit0, pB_f (fun z => c2 z.2)]
  · rw [if_neg (fun z => c1 (kk.2.2.2.1.1 z)), p_bit0, pB_f (fun z => c1 z.1)]
theorem mx_isWord (N : mcN K V P W Z i g h) (c : Int) : am_D (d + 1) 17 20 [am_r (am_a 254), am_i c] (zS L, h) = pI L (pB (cWd K V c i)) h := by
  have ub := N.ub
  obtain ⟨a1, a2, a3, a4, a5⟩ := N.1.2.1 i N.2.2.1
  have kk := kmp_i a5
  rw [D_17_20, N.2.1, p_idx (by omega) (by omega), Int.toNat_natCast, a1]
  by_cases c1 : K i = 1
  · rw [if_pos (kk.2.2.2.2.1.2 c1), p_idx (by omega) (by omega), Int.toNat_natCast, a3 (Or.inl c1)]
    by_cases c2 : V i = c
    · rw [if_pos c2, p_bit1, pB_t ⟨c1, c2⟩]
    · rw [if_neg c2, p_bit0, pB_f (fun z => c2 z.2)]
  · rw [if_neg (fun z => c1 (kk.2.2.2.2.1.1 z)), p_bit0, pB_f (fun z => c1 z.1)]
theorem mx_wrong (N : mcN K V P W Z i g h) (B : mcL h) (c : Int) (hc : 0 < c) {j : Nat} (hj : j ≤ Z) : ∃ h', am_D (d + 1) 17 17 [am_r (am_a 254), am_i c, am_i (j : Int)] (zS L, h) = pV L h' ∧ mcB P g (c, j) h' ∧ p_fr [] [(254, 11), (254, 12)] h h' := by
  have ub := N.ub
  have z2 := N.1.1.1
  refine ⟨_, by rw [D_17_17, N.2.2.2.1, if_neg (by decide), p_idx (by omega) (by omega), Int.toNat_natCast, (N.1.2.1 j hj).2.1], ⟨(N.2.2.2.2.upf _ _ _ rfl).upf _ _ _ rfl, ⟨?_, hc⟩, p_up_s _ _ _ _, ?_, ?_, ?_, ?_⟩, ((p_fr.refl h).upf _ _ _ rfl).upf _ _ _ rfl⟩
  · rw [p_up_n _ _ _ _ _ _ (Or.inr (by decide)), p_up_s]
  · rw [p_up_n _ _ _ _ _ _ (Or.inr (by decide)), p_up_n _ _ _ _ _ _ (Or.inr (by decide)), N.2.1]; omega
  · rw [p_up_n _ _ _ _ _ _ (Or.inr (by decide)), p_up_n _ _ _ _ _ _ (Or.inr (by decide))]; exact B.1
  · rw [p_up_n _ _ _ _ _ _ (Or.inr (by decide)), p_up_n _ _ _ _ _ _ (Or.inr (by decide))]; exact B.2.1
  · rw [p_up_n _ _ _ _ _ _ (Or.inr (by decide)), p_up_n _ _ _ _ _ _ (Or.inr (by decide))]; exact B.2.2
theorem mx_syntax (N : mcN K V P W Z i g h) (B : mcL h) : ∃ h', am_D (d + 2) 17 18 [am_r (am_a 254)] (zS L, h) = pV L h' ∧ mcB P g (csx K i) h' ∧ p_fr [] [(254, 11), (254, 12)] h h' := by
  have ub := N.ub
  obtain ⟨a1, a2, a3, a4, a5⟩ := N.1.2.1 i N.2.2.1
  have kk := kmp_i a5
  rw [D_17_18, N.2.1, p_idx (by omega) (by omega), Int.toNat_natCast, a1]
  unfold csx
  by_cases c : K i = 7
  · obtain ⟨h', r1, r2⟩ := mx_wrong (d := d) (L := L) N B 2 (by decide) N.2.2.1
    rw [if_pos (kk.2.2.2.2.2.2 c), r1, p_xV, if_pos c]
    exact ⟨h', rfl, r2⟩
  · obtain ⟨h', r1, r2⟩ := mx_wrong (d := d) (L := L) N B 1 (by decide) N.2.2.1
    rw [if_neg (fun z => c (kk.2.2.2.2.2.1 z)), r1, p_xV, if_neg c]
    exact ⟨h', rfl, r2⟩
theorem mx_go (N : mcN K V P W Z i g h) (hK : 1 ≤ K i ∧ K i ≤ 4) : am_D (d + 1) 17 21 [am_r (am_a 254)] (zS L, h) = pV L (am_up h 254 10 ((i + 1 : Nat) : Int)) ∧ mcN K V P W Z (i + 1) g (am_up h 254 10 ((i + 1 : Nat) : Int)) := by
  have ub := N.ub
  have lt := N.1.1.lt N.2.2.1 hK
  refine ⟨?_, N.1.fr ((p_fr.refl h).upf _ _ _ rfl), p_up_s _ _ _ _, by omega, ?_, N.2.2.2.2.upf _ _ _ rfl⟩
  · rw [D_17_21, N.2.2.2.1, if_pos rfl, N.2.1, p_w (by omega) (by omega)]; rfl
  · rw [p_up_n _ _ _ _ _ _ (Or.inr (by decide))]; exact N.2.2.2.1
theorem mx_needSign (N : mcN K V P W Z i g h) (B : mcL h) (c : Int) (hc : c ≠ 46) (h256 : c ≠ 256) : (¬ cSg K V c i ∧ ∃ h', am_D (d + 3) 17 22 [am_r (am_a 254), am_i c] (zS L, h) = pV L h' ∧ mcB P g (csx K i) h' ∧ p_fr [] [(254, 11), (254, 12)] h h') ∨ (cSg K V c i ∧ am_D (d + 3) 17 22 [am_r (am_a 254), am_i c] (zS L, h) = pV L (am_up h 254 10 ((i + 1 : Nat) : Int)) ∧ mcN K V P W Z (i + 1) g (am_up h 254 10 ((i + 1 : Nat) : Int))) := by
  rw [D_17_22, mx_isSign N c hc h256, p_xI]
  by_cases z : cSg K V c i
  · right
    obtain ⟨r1, r2⟩ := mx_go (d := d + 1) (L := L) N (by rw [z.1]; omega)
    exact ⟨z, by rw [pB_t z, if_neg (by decide), r1, p_xV], r2⟩
  · left
    obtain ⟨h', r1, r2⟩ := mx_syntax (d := d) (L := L) N B
    exact ⟨z, h', by rw [pB_f z, if_pos rfl, r1, p_xV], r2⟩
theorem mx_needWord (N : mcN K V P W Z i g h) (B : mcL h) (c : Int) : (¬ cWd K V c i ∧ ∃ h', am_D (d + 3) 17 23 [am_r (am_a 254), am_i c] (zS L, h) = pV L h' ∧ mcB P g (csx K i) h' ∧ p_fr [] [(254, 11), (254, 12)] h h') ∨ (cWd K V c i ∧ am_D (d + 3) 17 23 [am_r (am_a 254), am_i c] (zS L, h) = pV L (am_up h 254 10 ((i + 1 : Nat) : Int)) ∧ mcN K V P W Z (i + 1) g (am_up h 254 10 ((i + 1 : Nat) : Int))) := by
  rw [D_17_23, mx_isWord N c, p_xI]
  by_cases z : cWd K V c i
  · right
    obtain ⟨r1, r2⟩ := mx_go (d := d + 1) (L := L) N (by rw [z.1]; omega)
    exact ⟨z, by rw [pB_t z, if_neg (by decide), r1, p_xV], r2⟩
  · left
    obtain ⟨h', r1, r2⟩ := mx_syntax (d := d) (L := L) N B
    exact ⟨z, h', by rw [pB_f z, if_pos rfl, r1, p_xV], r2⟩
/-! behind a fault -/
theorem mz_syntax {e : cF} (B : mcB P g e h) : am_D (d + 2) 17 18 [am_r (am_a 254)] (zS L, h) = pV L h := by
  obtain ⟨-, ⟨b1, b2⟩, -, b3, -⟩ := B
  have w : ∀ c t, am_D (d + 1) 17 17 [am_r (am_a 254), am_i c, am_i t] (zS L, h) = pV L h := fun c t => by rw [D_17_17, if_pos (by omega)]
  rw [D_17_18, p_idx (by omega) (by omega)]
  by_cases z : h 257 (h 254 10).toNat = 7
  · rw [if_pos z, w, p_xV]
  · rw [if_neg z, w, p_xV]
theorem mz_go {e : cF} (B : mcB P g e h) : am_D (d + 1) 17 21 [am_r (am_a 254)] (zS L, h) = pV L h := by
  obtain ⟨-, ⟨b1, b2⟩, -⟩ := B
  rw [D_17_21, if_neg (by omega), p_up_id' rfl]
theorem mz_isSign {e : cF} (B : mcB P g e h) (c : Int) : ∃ v, am_D (d + 1) 17 19 [am_r (am_a 254), am_i c] (zS L, h) = pI L v h := by
  obtain ⟨-, -, -, b3, -⟩ := B
  rw [D_17_19, p_idx (by omega) (by omega)]
  by_cases z : h 257 (h 254 10).toNat = 4
  · rw [if_pos z, p_idx (by omega) (by omega)]
    by_cases y : h 260 (h 254 10).toNat = c
    · exact ⟨1, by rw [if_pos y, p_bit1]⟩
    · exact ⟨0, by rw [if_neg y, p_bit0]⟩
  · exact ⟨0, by rw [if_neg z, p_bit0]⟩
theorem mz_isWord {e : cF} (B : mcB P g e h) (c : Int) : ∃ v, am_D (d + 1) 17 20 [am_r (am_a 254), am_i c] (zS L, h) = pI L v h := by
  obtain ⟨-, -, -, b3, -⟩ := B
  rw [D_17_20, p_idx (by omega) (by omega)]
  by_cases z : h 257 (h 254 10).toNat = 5
  · rw [if_pos z, p_idx (by omega) (by omega)]
    by_cases y : h 260 (h 254 10).toNat = c
    · exact ⟨1, by rw [if_pos y, p_bit1]⟩
    · exact ⟨0, by rw [if_neg y, p_bit0]⟩
  · exact ⟨0, by rw [if_neg z, p_bit0]⟩
theorem mz_needSign {e : cF} (B : mcB P g e h) (c : Int) : am_D (d + 3) 17 22 [am_r (am_a 254), am_i c] (zS L, h) = pV L h := by
  obtain ⟨v, hv⟩ := mz_isSign (d := d + 1) (L := L) B c
  rw [D_17_22, hv, p_xI]
  by_cases z : v = 0
  · rw [if_pos z, mz_syntax B, p_xV]
  · rw [if_neg z, mz_go B, p_xV]
theorem mz_needWord {e : cF} (B : mcB P g e h) (c : Int) : am_D (d + 3) 17 23 [am_r (am_a 254), am_i c] (zS L, h) = pV L h := by
  obtain ⟨v, hv⟩ := mz_isWord (d := d + 1) (L := L) B c
  rw [D_17_23, hv, p_xI]
  by_cases z : v = 0
  · rw [if_pos z, mz_syntax B, p_xV]
  · rw [if_neg z, mz_go B, p_xV]
theorem mcB.up {e : cF} (B : mcB P g e h) {c k : Nat} {v : Int} (hc : mcCx.contains c = true ∨ mcFx.contains (c, k) = true) (hn : c ≠ 254 ∨ k = 148 ∨ k = 149 ∨ k = 150 ∨ k = 125 ∨ k = 144 ∨ (k = 134 ∧ 0 ≤ v ∧ v ≤ 600)) : mcB P g e (am_up h c k v) := by
  obtain ⟨b0, b1, b2, b3, b4, b5, b6⟩ := B
  have f : p_fr mcCx mcFx g (am_up h c k v) := by
    rcases hc with z | z
    · exact b0.upc _ _ _ z
    · exact b0.upf _ _ _ z
  refine ⟨f, ?_, ?_, ?_, ?_, ?_, ?_⟩
  · rw [p_up_n _ _ _ _ _ _ (by omega)]; exact b1
  · rw [p_up_n _ _ _ _ _ _ (by omega)]; exact b2
  · rw [p_up_n _ _ _ _ _ _ (by omega)]; exact b3
  · by_cases z : c = 254 ∧ k = 134
    · obtain ⟨rfl, rfl⟩ := z
      rw [p_up_s]; omega
    · rw [p_up_n _ _ _ _ _ _ (by omega)]; exact b4
  · rw [p_up_n _ _ _ _ _ _ (by omega)]; exact b5
  · rw [p_up_n _ _ _ _ _ _ (by omega)]; exact b6
/-- names are alike -/
theorem mx_likel (R : mR K V P W Z h) {a b : Nat} (ha : a ≤ Z) (hb : b ≤ Z) (ka : K a = 2) (kb : K b = 2) (hl : (W a).length = (W b).length) : ∀ (m k : Nat), k + m = (W a).length → (∀ j, j < k → (W a)[j]? = (W b)[j]?) → am_E (am_D d) m_17_16 (.inl 3) [some (am_r (am_a 254)), some (am_i (a : Int)), some (am_i (b : Int)), some (am_i 1), some (am_i (k : Int))] [] (zS L, h) = pI L (pB (W a = W b)) h
  | 0, k, hk, hj => by
    have z2 := R.1.1
    obtain ⟨a1, a2, a3, a4⟩ := R.2.2.1 a ha ka
    have e : W a = W b := by
      apply List.ext_getElem?
      intro j
      by_cases z : j < k
      · exact hj j z
      · rw [List.getElem?_eq_none (by omega), List.getElem?_eq_none (by omega)]
    rw [q_17_16_3, p_idx (by omega) (by omega), Int.toNat_natCast, a1, if_neg (by omega), p_bit1, pB_t e]
  | m + 1, k, hk, hj => by
    have z2 := R.1.1
    obtain ⟨a1, a2, a3, a4⟩ := R.2.2.1 a ha ka
    obtain ⟨b1, b2, b3, b4⟩ := R.2.2.1 b hb kb
    have ka' : k < (W a).length := by omega
    have kb' : k < (W b).length := by omega
    rw [q_17_16_3, p_idx (by omega) (by omega), Int.toNat_natCast, a1, if_pos (by omega), if_neg (by decide), p_idx (by omega) (by omega), Int.toNat_natCast, (R.2.1 a ha).2.1, p_w (x := P a + (k : Int)) (by omega) (by omega), p_idx (by omega) (by omega), p_idx (by omega) (by omega), Int.toNat_natCast, (R.2.1 b hb).2.1, p_w (x := P b + (k : Int)) (by omega) (by omega), p_idx (by omega) (by omega), show (P a + (k : Int)).toNat = (P a).toNat + k by omega, show (P b + (k : Int)).toNat = (P b).toNat + k by omega, (a4 k _ (List.getElem?_eq_getElem ka')).1, (b4 k _ (List.getElem?_eq_getElem kb')).1, p_w (x := (k : Int) + 1) (by omega) (by omega)]
    by_cases c : (W a)[k] = (W b)[k]
    · rw [if_pos c]
      exact mx_likel R ha hb ka kb hl m (k + 1) (by omega) (fun j hj' => by
        by_cases z : j = k
        · rw [z, List.getElem?_eq_getElem ka', List.getElem?_eq_getElem kb', c]
        · exact hj j (by omega))
    · have ne : ¬ W a = W b := fun z => c (by
        have : (W a)[k]? = (W b)[k]? := by rw [z]
        rw [List.getElem?_eq_getElem ka', List.getElem?_eq_getElem kb'] at this
        exact Option.some.inj this)
      rw [if_neg c, pB_f ne, q_17_16_3, p_idx (by omega) (by omega), Int.toNat_natCast, a1]
      by_cases z : (k : Int) + 1 < ((W a).length : Int)
      · rw [if_pos z, if_pos rfl, p_bit0]
      · rw [if_neg z, p_bit0]
theorem mx_like (R : mR K V P W Z h) {a b : Nat} (ha : a ≤ Z) (hb : b ≤ Z) (ka : K a = 2) (kb : K b = 2) : am_D (d + 1) 17 16 [am_r (am_a 254), am_i (a : Int), am_i (b : Int)] (zS L, h) = pI L (pB (V a = V b)) h := by
  have z2 := R.1.1
  obtain ⟨a1, a2, a3, a4⟩ := R.2.2.1 a ha ka
  obtain ⟨b1, b2, b3, b4⟩ := R.2.2.1 b hb kb
  rw [pB_congr (R.2.2.2 a b ha hb ka kb), D_17_16, p_idx (by omega) (by omega), p_idx (by omega) (by omega), Int.toNat_natCast, Int.toNat_natCast, a1, b1]
  by_cases c : (W a).length = (W b).length
  · rw [if_pos (by omega)]
    exact mx_likel (d := d) R ha hb ka kb c (W a).length 0 (by omega) (fun j hj => by omega)
  · have ne : ¬ W a = W b := fun z => c (by rw [z])
    rw [if_neg (by omega), pB_f ne, q_17_16_3, p_idx (by omega) (by omega), Int.toNat_natCast, a1]
    by_cases z : (0 : Int) < ((W a).length : Int)
    · rw [if_pos z, if_pos rfl, p_bit0]
    · rw [if_neg z, p_bit0]
end
