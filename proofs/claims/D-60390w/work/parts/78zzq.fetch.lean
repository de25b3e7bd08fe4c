/-! QUERIES, 3: output is fetched -/
section
variable {L d n : Nat} {h : am_H}
theorem c_fetch2 {m len : Nat} {x3 : Int} (hm : m ≤ len) (h3 : len ≤ 3000) (m0 : m = 0 → len = 0) : ∀ (j k : Nat) {h : am_H}, k + j = len → m ≤ k → h 17 7 = (len : Int) → ∃ h', am_E (am_D d) m_0_27 (.inl 3) [some (am_r (am_a 1)), some (am_i (m : Int)), some (am_r (am_a 20)), some (am_l x3), none, some (am_i (k : Int))] [] (zS L, h) = pL L (if m = 0 then 0 else x3) (am_up h' 17 7 ((len - m : Nat) : Int)) ∧ (∀ c, c ≠ 20 → h' c = h c) ∧ (∀ i, k - m ≤ i → i < len - m → h' 20 i = am_s8 (h 20 (i + m))) ∧ (∀ i, i < k - m → h' 20 i = h 20 i)
  | 0, k, h, hj, hk, e => by
    have : k = len := by omega
    subst this
    refine ⟨h, ?_, fun _ _ => rfl, fun i h1 h2 => by omega, fun _ _ => rfl⟩
    rw [q_0_27_3, e, if_neg (by omega), p_w (by omega) (by omega), show (k : Int) - (m : Int) = ((k - m : Nat) : Int) by omega]
    by_cases z : m = 0
    · rw [if_pos (by omega), if_pos z]
    · rw [if_neg (by omega), if_neg z]
  | j + 1, k, h, hj, hk, e => by
    obtain ⟨h', r1, r2, r3, r4⟩ := c_fetch2 (x3 := x3) hm h3 m0 j (k + 1) (h := am_up h 20 (k - m) (am_s8 (h 20 k))) (by omega) (by omega) (by rw [p_up_c _ _ _ _ _ (by decide)]; exact e)
    refine ⟨h', ?_, fun c hc => by rw [r2 c hc, p_up_c _ _ _ _ _ hc], fun i h1 h2 => ?_, fun i hi => ?_⟩
    · rw [q_0_27_3, e, if_pos (by omega), p_arr rfl, p_idx (by omega) (by omega), p_arr rfl, p_w (x := (k : Int) - (m : Int)) (by omega) (by omega), p_idx (by omega) (by omega), show Nat.beq 20 0 = false from rfl, Int.toNat_natCast, show ((k : Int) - (m : Int)).toNat = k - m by omega]
      dsimp only [cond]
      rw [p_w (by omega) (by omega)]
      exact r1
    · by_cases z : i = k - m
      · rw [r4 i (by omega), z, p_up_s, show k - m + m = k by omega]
      · rw [r3 i (by omega) h2, p_up_n _ _ _ _ _ _ (Or.inr (by omega))]
    · rw [r4 i (by omega), p_up_n _ _ _ _ _ _ (Or.inr (by omega))]
theorem va_end {m : Nat} {b : Nat → Nat} (b0 : ∀ i, m ≤ i → b i = 0) : ∀ j i : Nat, i + j = 7 → m ≤ i → va m b i * 2 ^ (56 - 8 * i) = va m b 7 := by
  intro j
  induction j with
  | zero => intro i hi _; have : i = 7 := by omega
            subst this; show va m b 7 * 1 = _; omega
  | succ j ih =>
    intro i hi hm
    rw [← ih (i + 1) (by omega) (by omega)]
    show _ = (va m b i * 256 + b i) * _
    rw [b0 i hm, Nat.add_zero, show 56 - 8 * i = 8 + (56 - 8 * (i + 1)) by omega, Nat.pow_add, ← Nat.mul_assoc]
theorem va_zero {b : Nat → Nat} (b0 : ∀ i, 0 ≤ i → b i = 0) : ∀ i, va 0 b i = 0
  | 0 => rfl
  | i + 1 => by show va 0 b i * 256 + b i = 0; rw [va_zero b0 i, b0 i (Nat.zero_le _)]
theorem q_fetch (Q : QR h) : ∃ v h1 h2, am_D (n + 1) 0 27 [am_r (am_a 1)] (zS L, h) = pL L v h1 ∧ am_D (d + 1) 17 124 [am_r (am_a 254)] (zS L, h1) = pL L v h2 ∧ QR h2 ∧ p_fr [20] [(17, 7), (254, 107)] h h2 := by
  obtain ⟨Q1, Q2, Q3, ⟨ol, o1, ⟨o2, o3, o4⟩, o5⟩, Q5⟩ := id Q
  obtain ⟨m, hm⟩ : ∃ m : Nat, m = if 7 ≤ ol.length then 7 else ol.length := ⟨_, rfl⟩
  have m7 : m ≤ 7 ∧ m ≤ ol.length ∧ (m = 0 → ol.length = 0) := by
    rw [hm]
    by_cases z : 7 ≤ ol.length
    · rw [if_pos z]; omega
    · rw [if_neg z]; omega
  have ifm : (if (7 : Int) ≤ h 17 7 then 7 else h 17 7) = (m : Int) := by
    rw [hm, o1]
    by_cases z : 7 ≤ ol.length
    · rw [if_pos z, if_pos (by omega)]; rfl
    · rw [if_neg z, if_neg (by omega)]
  obtain ⟨b, hb⟩ : ∃ b : Nat → Nat, b = fun i => if i < m then ((ol[i]?).getD 0).toNat else 0 := ⟨_, rfl⟩
  have b0 : ∀ i, m ≤ i → b i = 0 := fun i hi => by rw [hb]; exact if_neg (by omega)
  have bv : ∀ i, i < m → ∃ c, ol[i]? = some c ∧ (b i : Int) = c := fun i hi => by
    have hl : i < ol.length := by omega
    refine ⟨_, List.getElem?_eq_getElem hl, ?_⟩
    have q := o5 i _ (List.getElem?_eq_getElem hl)
    rw [hb]
    show ((if i < m then ((ol[i]?).getD 0).toNat else 0 : Nat) : Int) = _
    rw [if_pos hi, List.getElem?_eq_getElem hl]
    show ((ol[i].toNat : Nat) : Int) = ol[i]
    omega
  have hb255 : ∀ i, b i ≤ 255 := fun i => by
    by_cases z : i < m
    · obtain ⟨c, c1, c2⟩ := bv i z
      have := o5 i c c1
      omega
    · rw [b0 i (by omega)]; omega
  have lb : ol.length ≤ 3000 := by omega
  -- the component
  obtain ⟨h1', r1, r2, r3, -⟩ := c_fetch2 (L := L) (d := n) (x3 := ((va m b m * 2 ^ (56 - 8 * m) : Nat) : Int)) m7.2.1 lb m7.2.2 (ol.length - m) m (h := h) (by omega) (Nat.le_refl _) o1
  have E1 := c_fetch1 (L := L) (d := n) (h := h) m7.1 hb255 (fun i hi => by obtain ⟨c, c1, c2⟩ := bv i hi; rw [c2]; exact (o5 i c c1).1) m 0 (by omega)
  have sh : am_Lshl (m : Int) 56 = ((va m b 0 * 2 ^ (56 - 8 * 0) : Nat) : Int) := L_shlN m 56 (by decide) (by have : (7 * 2 ^ 56 : Nat) = 504403158265495552 := by decide
                                                                                                              have := Nat.mul_le_mul_right (2 ^ 56) m7.1; omega)
  have C : am_D (n + 1) 0 27 [am_r (am_a 1)] (zS L, h) = pL L (if m = 0 then 0 else ((va m b m * 2 ^ (56 - 8 * m) : Nat) : Int)) (am_up h1' 17 7 ((ol.length - m : Nat) : Int)) := by
    rw [D_0_27, ifm, sh]
    exact E1.trans r1
  have ev : (if m = 0 then 0 else ((va m b m * 2 ^ (56 - 8 * m) : Nat) : Int)) = ((va m b 7 : Nat) : Int) := by
    by_cases z : m = 0
    · rw [if_pos z]; subst z; rw [va_zero (fun i _ => b0 i (Nat.zero_le _))]; rfl
    · rw [if_neg z, va_end b0 (7 - m) m (by omega) (Nat.le_refl _)]
  rw [ev] at C
  obtain ⟨h1, hh1⟩ : ∃ h1, h1 = am_up h1' 17 7 ((ol.length - m : Nat) : Int) := ⟨_, rfl⟩
  rw [← hh1] at C
  have c1 : ∀ c, c ≠ 17 → c ≠ 20 → h1 c = h c := fun c z1 z2 => by rw [hh1, p_up_c _ _ _ _ _ z1, r2 c z2]
  have f1 : ∀ j, j ≠ 7 → h1 17 j = h 17 j := fun j hj => by rw [hh1, p_up_n _ _ _ _ _ _ (Or.inr hj), r2 17 (by decide)]
  -- the model
  have x254 : h1 254 = h 254 := c1 254 (by decide) (by decide)
  have x320 : h1 320 = h 320 := c1 320 (by decide) (by decide)
  have E2 := m_fetch (L := L) (d := d) (h := h1) m7.1 hb255 (fun i hi => by obtain ⟨c, z1, z2⟩ := bv i hi; rw [x320, x254, z2]; exact (o5 i c z1).2.1) b0 (by rw [x254]; omega) 7 0 rfl
  rw [x254] at E2
  have D : am_D (d + 1) 17 124 [am_r (am_a 254)] (zS L, h1) = pL L ((va m b 7 : Nat) : Int) (am_up h1 254 107 (h 254 107 + (m : Int))) := by
    rw [D_17_124, x254, p_w (by omega) (by omega), o3, show h 254 107 + (ol.length : Int) - h 254 107 = (ol.length : Int) by omega]
    by_cases z : (7 : Int) < (ol.length : Int)
    · have : m = 7 := by rw [hm]; exact if_pos (by omega)
      rw [if_pos z]; rw [this] at E2 ⊢; exact E2
    · have : m = ol.length := by
        rw [hm]
        by_cases z2 : 7 ≤ ol.length
        · rw [if_pos z2]; omega
        · rw [if_neg z2]
      rw [if_neg z]; rw [this] at E2 ⊢; exact E2
  refine ⟨_, h1, _, C, D, ?_, ?_⟩
  · have c2 : ∀ c, c ≠ 17 → c ≠ 20 → c ≠ 254 → am_up h1 254 107 (h 254 107 + (m : Int)) c = h c := fun c z1 z2 z3 => by rw [p_up_c _ _ _ _ _ z3, c1 c z1 z2]
    have f2 : ∀ j, j ≠ 107 → am_up h1 254 107 (h 254 107 + (m : Int)) 254 j = h 254 j := fun j hj => by rw [p_up_n _ _ _ _ _ _ (Or.inr hj), x254]
    have g2 : ∀ j, j ≠ 7 → am_up h1 254 107 (h 254 107 + (m : Int)) 17 j = h 17 j := fun j hj => by rw [p_up_c _ _ _ _ _ (by decide), f1 j hj]
    have bke : bk (am_up h1 254 107 (h 254 107 + (m : Int))) = bk h := by unfold bk; rw [f2 81 (by decide), c2 309 (by decide) (by decide) (by decide), c2 310 (by decide) (by decide) (by decide)]
    unfold QR
    rw [bke, c2 18 (by decide) (by decide) (by decide), c2 308 (by decide) (by decide) (by decide), f2 81 (by decide), g2 8 (by decide), g2 11 (by decide), g2 13 (by decide), f2 96 (by decide), f2 89 (by decide), f2 100 (by decide), c2 1 (by decide) (by decide) (by decide), f2 4 (by decide), f2 104 (by decide), f2 71 (by decide), f2 1 (by decide), f2 106 (by decide), p_up_s, p_up_c _ _ _ _ _ (show 17 ≠ 254 by decide), p_up_c _ _ _ _ _ (show 20 ≠ 254 by decide), c2 320 (by decide) (by decide) (by decide)]
    have ld : (ol.drop m).length = ol.length - m := List.length_drop
    refine ⟨Q1, Q2, Q3, ⟨ol.drop m, by rw [hh1, p_up_s, ld], ⟨by omega, by rw [ld]; omega, o4⟩, fun j c hc => ?_⟩, Q5⟩
    have hj := (List.getElem?_eq_some_iff.1 hc).1
    rw [ld] at hj
    rw [List.getElem?_drop] at hc
    have q := o5 (m + j) c hc
    refine ⟨?_, ?_, q.2.2⟩
    · rw [hh1, p_up_c _ _ _ _ _ (by decide), r3 j (by omega) (by omega), p_s8_mod, show j + m = m + j by omega]; exact q.1
    · rw [show (h 254 107 + (m : Int)).toNat + j = (h 254 107).toNat + (m + j) by omega]; exact q.2.1
  · intro c j hc hj
    by_cases z1 : c = 254
    · subst z1
      rw [p_up_n _ _ _ _ _ _ (Or.inr (by intro z; subst z; revert hj; decide)), x254]
    · rw [p_up_c _ _ _ _ _ z1]
      by_cases z2 : c = 17
      · subst z2; exact f1 j (by intro z; subst z; revert hj; decide)
      · rw [c1 c z2 (by intro z; subst z; revert hc; decide)]
end
