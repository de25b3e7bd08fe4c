/-! RUN, 34: run() of both sides -/
section
variable {L n d : Nat} {h : am_H}
theorem c_keys {x1 : Int} {kc : Nat} (hk : kc ≤ 200) : ∀ (j i : Nat) {h : am_H}, i + j = kc → h 1 15 = (kc : Int) → ∃ h', am_E (am_D (n + 4)) m_0_24 (.inl 3) [some (am_r (am_a 1)), some (am_i x1), some (am_i (i : Int))] [] (zS L, h) = am_E (am_D (n + 4)) m_0_24 (.inl 3) [some (am_r (am_a 1)), some (am_i x1), some (am_i (kc : Int))] [] (zS L, h') ∧ (∀ c, c ≠ 19 → h' c = h c) ∧ (∀ k, i ≤ k → k < kc → h' 19 k = am_s8 (h 22 k)) ∧ (∀ k, k < i → h' 19 k = h 19 k)
  | 0, i, h, hj, e => by
    have : i = kc := by omega
    subst this
    exact ⟨h, rfl, fun _ _ => rfl, fun k h1 h2 => by omega, fun _ _ => rfl⟩
  | j + 1, i, h, hj, e => by
    obtain ⟨h', r1, r2, r3, r4⟩ := c_keys hk j (i + 1) (h := am_up h 19 i (am_s8 (h 22 i))) (by omega) (by rw [p_up_c _ _ _ _ _ (by decide)]; exact e)
    refine ⟨h', ?_, fun c hc => by rw [r2 c hc, p_up_c _ _ _ _ _ hc], fun k h1 h2 => ?_, fun k hk2 => ?_⟩
    · rw [q_0_24_3, e, if_pos (by omega), p_idx (by omega) (by omega), p_idx (by omega) (by omega), Int.toNat_natCast, p_w (by omega) (by omega)]
      exact r1
    · by_cases z : k = i
      · rw [z, r4 i (by omega), p_up_s]
      · rw [r3 k (by omega) h2, p_up_c _ _ _ _ _ (by decide)]
    · rw [r4 k (by omega), p_up_n _ _ _ _ _ _ (Or.inr (by omega))]
theorem c_zero {x1 x2 : Int} {u4 u5 u6 u7 u8 u9 u10 : Option am_V} : ∀ (j i : Nat) {h : am_H}, i + j = 32768 → ∃ h', am_E (am_D (n + 3)) m_10_7 (.inl 1) [some (am_r (am_a 17)), some (am_i x1), some (am_i x2), some (am_i (i : Int)), u4, u5, u6, u7, u8, u9, u10] [] (zS L, h) = am_E (am_D (n + 3)) m_10_7 (.inl 1) [some (am_r (am_a 17)), some (am_i x1), some (am_i x2), some (am_i ((32768 : Nat) : Int)), u4, u5, u6, u7, u8, u9, u10] [] (zS L, h') ∧ (∀ c, c ≠ 18 → h' c = h c) ∧ (∀ k, i ≤ k → k < 32768 → h' 18 k = 0) ∧ (∀ k, k < i ∨ 32768 ≤ k → h' 18 k = h 18 k)
  | 0, i, h, hj => by
    have : i = 32768 := by omega
    subst this
    exact ⟨h, rfl, fun _ _ => rfl, fun k h1 h2 => by omega, fun _ _ => rfl⟩
  | j + 1, i, h, hj => by
    obtain ⟨h', r1, r2, r3, r4⟩ := c_zero (x1 := x1) (x2 := x2) (u4 := u4) (u5 := u5) (u6 := u6) (u7 := u7) (u8 := u8) (u9 := u9) (u10 := u10) j (i + 1) (h := am_up h 18 i (am_s16 0)) (by omega)
    refine ⟨h', ?_, fun c hc => by rw [r2 c hc, p_up_c _ _ _ _ _ hc], fun k h1 h2 => ?_, fun k hk2 => ?_⟩
    · rw [q_10_7_1, if_pos (by omega), p_idx (by omega) (by omega), Int.toNat_natCast, p_w (by omega) (by omega)]
      exact r1
    · by_cases z : k = i
      · rw [z, r4 i (by omega), p_up_s]; decide
      · rw [r3 k (by omega) h2]
    · rw [r4 k (by omega), p_up_n _ _ _ _ _ _ (Or.inr (by omega))]
/-- the component's run -/
theorem c_run {fuel kc : Nat} (hl : h 1 18 ≠ 0) (hk : kc ≤ 200) (ek : h 1 15 = (kc : Int)) (hf : fuel ≤ 5000) : ∃ h3, (∀ c, c ≠ 17 → c ≠ 18 → c ≠ 19 → c ≠ 21 → h3 c = h c) ∧ (h3 17 5 = (kc : Int) ∧ h3 17 6 = 0 ∧ h3 17 7 = 0 ∧ h3 17 8 = 0 ∧ h3 17 9 = (fuel : Int) ∧ h3 17 10 = 0 ∧ h3 17 11 = 0 ∧ h3 17 13 = 0 ∧ h3 17 14 = 1) ∧ h3 21 0 = h 1 17 ∧ (∀ k, k < kc → h3 19 k = am_s8 (h 22 k)) ∧ (∀ k, k < 32768 → h3 18 k = 0) ∧ (∀ k, 32768 ≤ k → h3 18 k = h 18 k) ∧ (∀ j, j ≤ 4 ∨ 15 ≤ j → h3 17 j = h 17 j) ∧ (∀ e hf, H3 L n h3 (0, 0, 0, h3 18) (pI L e hf) → (e ≠ 0 → 0 ≤ hf 17 10 ∧ hf 17 10 < 42) → am_D (n + 5) 0 24 [am_r (am_a 1), am_i (fuel : Int)] (zS L, h) = pI L e (am_up (am_up hf 1 16 (am_w (hf 1 15 - hf 17 6))) 1 3 (if e = 0 then -1 else hf 21 (hf 17 10).toNat))) := by
  obtain ⟨h1, r1, r2, r3, -⟩ := c_keys (L := L) (n := n) (x1 := (fuel : Int)) hk kc 0 (h := h) (by omega) ek
  obtain ⟨h2, s1, s2, s3, s4⟩ := c_zero (L := L) (n := n) (x1 := (fuel : Int)) (x2 := h1 1 17) (u4 := none) (u5 := none) (u6 := none) (u7 := none) (u8 := none) (u9 := none) (u10 := none) 32768 0 (h := am_up h1 17 5 (h1 1 15)) rfl
  obtain ⟨h3, hh⟩ : ∃ h3, h3 = am_up (am_up (am_up (am_up (am_up (am_up (am_up (am_up (am_up h2 17 6 (0)) 17 7 (0)) 17 8 (0)) 17 9 ((fuel : Int))) 17 10 (0)) 17 11 (0)) 17 13 (0)) 21 0 (h1 1 17)) 17 14 (1) := ⟨_, rfl⟩
  have cc : ∀ c, c ≠ 17 → c ≠ 21 → h3 c = h2 c := fun c h1 h2 => by rw [hh, p_up_c _ _ _ _ _ h1, p_up_c _ _ _ _ _ h2, p_up_c _ _ _ _ _ h1, p_up_c _ _ _ _ _ h1, p_up_c _ _ _ _ _ h1, p_up_c _ _ _ _ _ h1, p_up_c _ _ _ _ _ h1, p_up_c _ _ _ _ _ h1, p_up_c _ _ _ _ _ h1]
  have w17 : h1 1 17 = h 1 17 := by rw [r2 1 (by decide)]
  have w15 : h1 1 15 = (kc : Int) := by rw [r2 1 (by decide)]; exact ek
  have s17 : ∀ j, h2 17 j = am_up h1 17 5 (h1 1 15) 17 j := fun j => by rw [s2 17 (by decide)]
  refine ⟨h3, fun c h1 h2 h3 h4 => ?_, ⟨?_, ?_, ?_, ?_, ?_, ?_, ?_, ?_, ?_⟩, ?_, fun k hk2 => ?_, fun k hk2 => ?_, fun k hk2 => ?_, fun j hj => ?_, fun e hf' H hb => ?_⟩
  · rw [cc c h1 h4, s2 c h2, p_up_c _ _ _ _ _ h1, r2 c h3]
  · rw [hh, p_up_n _ _ _ _ _ _ (Or.inr (by decide)), p_up_c _ _ _ _ _ (by decide), p_up_n _ _ _ _ _ _ (Or.inr (by decide)), p_up_n _ _ _ _ _ _ (Or.inr (by decide)), p_up_n _ _ _ _ _ _ (Or.inr (by decide)), p_up_n _ _ _ _ _ _ (Or.inr (by decide)), p_up_n _ _ _ _ _ _ (Or.inr (by decide)), p_up_n _ _ _ _ _ _ (Or.inr (by decide)), p_up_n _ _ _ _ _ _ (Or.inr (by decide)), s17, p_up_s]; exact w15
  · rw [hh, p_up_n _ _ _ _ _ _ (Or.inr (by decide)), p_up_c _ _ _ _ _ (by decide), p_up_n _ _ _ _ _ _ (Or.inr (by decide)), p_up_n _ _ _ _ _ _ (Or.inr (by decide)), p_up_n _ _ _ _ _ _ (Or.inr (by decide)), p_up_n _ _ _ _ _ _ (Or.inr (by decide)), p_up_n _ _ _ _ _ _ (Or.inr (by decide)), p_up_n _ _ _ _ _ _ (Or.inr (by decide)), p_up_s]
  · rw [hh, p_up_n _ _ _ _ _ _ (Or.inr (by decide)), p_up_c _ _ _ _ _ (by decide), p_up_n _ _ _ _ _ _ (Or.inr (by decide)), p_up_n _ _ _ _ _ _ (Or.inr (by decide)), p_up_n _ _ _ _ _ _ (Or.inr (by decide)), p_up_n _ _ _ _ _ _ (Or.inr (by decide)), p_up_n _ _ _ _ _ _ (Or.inr (by decide)), p_up_s]
  · rw [hh, p_up_n _ _ _ _ _ _ (Or.inr (by decide)), p_up_c _ _ _ _ _ (by decide), p_up_n _ _ _ _ _ _ (Or.inr (by decide)), p_up_n _ _ _ _ _ _ (Or.inr (by decide)), p_up_n _ _ _ _ _ _ (Or.inr (by decide)), p_up_n _ _ _ _ _ _ (Or.inr (by decide)), p_up_s]
  · rw [hh, p_up_n _ _ _ _ _ _ (Or.inr (by decide)), p_up_c _ _ _ _ _ (by decide), p_up_n _ _ _ _ _ _ (Or.inr (by decide)), p_up_n _ _ _ _ _ _ (Or.inr (by decide)), p_up_n _ _ _ _ _ _ (Or.inr (by decide)), p_up_s]
  · rw [hh, p_up_n _ _ _ _ _ _ (Or.inr (by decide)), p_up_c _ _ _ _ _ (by decide), p_up_n _ _ _ _ _ _ (Or.inr (by decide)), p_up_n _ _ _ _ _ _ (Or.inr (by decide)), p_up_s]
  · rw [hh, p_up_n _ _ _ _ _ _ (Or.inr (by decide)), p_up_c _ _ _ _ _ (by decide), p_up_n _ _ _ _ _ _ (Or.inr (by decide)), p_up_s]
  · rw [hh, p_up_n _ _ _ _ _ _ (Or.inr (by decide)), p_up_c _ _ _ _ _ (by decide), p_up_s]
  · rw [hh, p_up_s]
  · rw [hh, p_up_c _ _ _ _ _ (by decide), p_up_s, w17]
  · rw [cc 19 (by decide) (by decide), s2 19 (by decide), p_up_c _ _ _ _ _ (by decide)]; exact r3 k (Nat.zero_le _) hk2
  · rw [cc 18 (by decide) (by decide)]; exact s3 k (Nat.zero_le _) hk2
  · rw [cc 18 (by decide) (by decide), s4 k (Or.inr hk2), p_up_c _ _ _ _ _ (by decide), r2 18 (by decide)]
  · rw [hh, p_up_n _ _ _ _ _ _ (Or.inr (by omega)), p_up_c _ _ _ _ _ (by decide), p_up_n _ _ _ _ _ _ (Or.inr (by omega)), p_up_n _ _ _ _ _ _ (Or.inr (by omega)), p_up_n _ _ _ _ _ _ (Or.inr (by omega)), p_up_n _ _ _ _ _ _ (Or.inr (by omega)), p_up_n _ _ _ _ _ _ (Or.inr (by omega)), p_up_n _ _ _ _ _ _ (Or.inr (by omega)), p_up_n _ _ _ _ _ _ (Or.inr (by omega)), s17, p_up_n _ _ _ _ _ _ (Or.inr (by omega)), r2 17 (by decide)]
  · have P7 : am_D (n + 4) 10 7 [am_r (am_a 17), am_i (fuel : Int), am_i (h1 1 17)] (zS L, am_up h1 17 5 (h1 1 15)) = pI L e hf' := by
      rw [D_10_7]
      refine s1.trans ?_
      rw [q_10_7_1, if_neg (by decide), p_idx (by decide) (by decide), p_bit1, show (0 : Int).toNat = 0 from rfl, ← hh]
      have H := H (some (am_i (fuel : Int))) (some (am_i (h1 1 17))) none none none none none
      dsimp only at H
      rw [rr_id] at H
      exact H
    rw [D_0_24, if_neg hl, if_neg (by omega), if_neg (by omega)]
    refine r1.trans ?_
    rw [q_0_24_3, w15, if_neg (by omega)]
    rw [w15] at P7
    rw [P7, p_xI]
    by_cases z : e = 0
    · rw [if_pos z, if_pos z]
    · have hb := hb z
      rw [if_neg z, if_neg z, p_idx hb.1 hb.2]
end
section
variable {L d : Nat} {g : am_H}
theorem m_z308 {x1 : Int} : ∀ (j i : Nat) {g : am_H}, i + j = 16512 → ∃ g', am_E (am_D (d + 13)) m_17_121 (.inl 3) [some (am_r (am_a 254)), some (am_i x1), some (am_i (i : Int))] [] (zS L, g) = am_E (am_D (d + 13)) m_17_121 (.inl 5) [some (am_r (am_a 254)), some (am_i x1), some (am_i 0)] [] (zS L, g') ∧ (∀ c, c ≠ 308 → g' c = g c) ∧ (∀ k, i ≤ k → k < 16512 → g' 308 k = 0) ∧ (∀ k, k < i → g' 308 k = g 308 k)
  | 0, i, g, hj => by
    have : i = 16512 := by omega
    subst this
    exact ⟨g, by rw [q_17_121_3, if_neg (by decide)], fun _ _ => rfl, fun k h1 h2 => by omega, fun _ _ => rfl⟩
  | j + 1, i, g, hj => by
    obtain ⟨g', r1, r2, r3, r4⟩ := m_z308 (x1 := x1) j (i + 1) (g := am_up g 308 i 0) (by omega)
    refine ⟨g', ?_, fun c hc => by rw [r2 c hc, p_up_c _ _ _ _ _ hc], fun k h1 h2 => ?_, fun k hk2 => ?_⟩
    · rw [q_17_121_3, if_pos (by omega), p_idx (by omega) (by omega), Int.toNat_natCast, p_w (by omega) (by omega)]
      exact r1
    · by_cases z : k = i
      · rw [z, r4 i (by omega), p_up_s]
      · rw [r3 k (by omega) h2]
    · rw [r4 k (by omega), p_up_n _ _ _ _ _ _ (Or.inr (by omega))]
theorem m_z311 {x1 : Int} : ∀ (j i : Nat) {g : am_H}, i + j = 12 → ∃ g', am_E (am_D (d + 13)) m_17_121 (.inl 5) [some (am_r (am_a 254)), some (am_i x1), some (am_i (i : Int))] [] (zS L, g) = am_E (am_D (d + 13)) m_17_121 (.inl 5) [some (am_r (am_a 254)), some (am_i x1), some (am_i ((12 : Nat) : Int))] [] (zS L, g') ∧ (∀ c, c ≠ 311 → g' c = g c) ∧ (∀ k, i ≤ k → k < 12 → g' 311 k = 0) ∧ (∀ k, k < i → g' 311 k = g 311 k)
  | 0, i, g, hj => by
    have : i = 12 := by omega
    subst this
    exact ⟨g, rfl, fun _ _ => rfl, fun k h1 h2 => by omega, fun _ _ => rfl⟩
  | j + 1, i, g, hj => by
    obtain ⟨g', r1, r2, r3, r4⟩ := m_z311 (x1 := x1) j (i + 1) (g := am_up g 311 i 0) (by omega)
    refine ⟨g', ?_, fun c hc => by rw [r2 c hc, p_up_c _ _ _ _ _ hc], fun k h1 h2 => ?_, fun k hk2 => ?_⟩
    · rw [q_17_121_5, if_pos (by omega), p_idx (by omega) (by omega), Int.toNat_natCast, p_w (by omega) (by omega)]
      exact r1
    · by_cases z : k = i
      · rw [z, r4 i (by omega), p_up_s]
      · rw [r3 k (by omega) h2]
    · rw [r4 k (by omega), p_up_n _ _ _ _ _ _ (Or.inr (by omega))]
/-- fields that the model's run sets -/
def m_fs (fuel : Int) (g : am_H) : am_H := am_up (am_up (am_up (am_up (am_up (am_up (am_up (am_up (am_up (am_up (am_up (am_up (am_up (am_up g 254 81 (0)) 254 87 (0)) 254 88 (0)) 254 89 (0)) 254 95 (0)) 254 96 (0)) 254 97 (fuel)) 254 98 (0)) 254 99 ((-1))) 254 100 (0)) 254 103 (0)) 254 106 (0)) 254 107 (0)) 254 108 (1)
theorem m_fs_c {fuel : Int} {c : Nat} (h : c ≠ 254) : m_fs fuel g c = g c := by
  unfold m_fs
  rw [p_up_c _ _ _ _ _ h, p_up_c _ _ _ _ _ h, p_up_c _ _ _ _ _ h, p_up_c _ _ _ _ _ h, p_up_c _ _ _ _ _ h, p_up_c _ _ _ _ _ h, p_up_c _ _ _ _ _ h, p_up_c _ _ _ _ _ h, p_up_c _ _ _ _ _ h, p_up_c _ _ _ _ _ h, p_up_c _ _ _ _ _ h, p_up_c _ _ _ _ _ h, p_up_c _ _ _ _ _ h, p_up_c _ _ _ _ _ h]
theorem m_fs_f {fuel : Int} : m_fs fuel g 254 = p_set (p_set (p_set (p_set (p_set (p_set (p_set (p_set (p_set (p_set (p_set (p_set (p_set (p_set (g 254) 81 0) 87 0) 88 0) 89 0) 95 0) 96 0) 97 fuel) 98 0) 99 (-1)) 100 0) 103 0) 106 0) 107 0) 108 1 := by
  unfold m_fs
  rw [p_up_f, p_up_f, p_up_f, p_up_f, p_up_f, p_up_f, p_up_f, p_up_f, p_up_f, p_up_f, p_up_f, p_up_f, p_up_f, p_up_f]
/-- the model's run -/
theorem m_run {fuel : Nat} (hp : g 254 71 ≠ 0) (hf : fuel ≤ 5000) : ∃ g2, (∀ c, c ≠ 308 → c ≠ 311 → g2 c = g c) ∧ (∀ k, k < 16512 → g2 308 k = 0) ∧ (∀ k, k < 12 → g2 311 k = 0) ∧ ∀ g1 gf e, am_D (d + 13) 17 111 [am_r (am_a 254), am_i (g 254 72)] (zS L, m_fs (fuel : Int) g2) = pV L g1 → LPx L d g1 gf → gf 254 99 = e → 0 ≤ e → (0 ≤ gf 254 95 ∧ gf 254 95 ≤ 1200) → am_D (d + 14) 17 121 [am_r (am_a 254), am_i (fuel : Int)] (zS L, g) = pI L e (am_up (am_up gf 254 4 (if e = 0 then -1 else wtop gf (gf 254 95))) 254 104 (am_w (gf 254 102 - gf 254 103))) := by
  obtain ⟨g1, r1, r2, r3, -⟩ := m_z308 (L := L) (d := d) (x1 := (fuel : Int)) 16512 0 (g := g) (by decide)
  obtain ⟨g2, s1, s2, s3, -⟩ := m_z311 (L := L) (d := d) (x1 := (fuel : Int)) 12 0 (g := g1) (by decide)
  refine ⟨g2, fun c h1 h2 => by rw [s2 c h2, r2 c h1], fun k hk => by rw [s2 308 (by decide)]; exact r3 k (Nat.zero_le _) hk, fun k hk => s3 k (Nat.zero_le _) hk, fun g3 gf e D H e9 e0 b => ?_⟩
  rw [D_17_121, if_neg hp, if_neg (by omega), if_neg (by omega)]
  refine r1.trans (s1.trans ?_)
  rw [q_17_121_5, if_neg (by decide), p_bit1, s2 254 (by decide), r2 254 (by decide)]
  show am_xV (zS L) (am_D (d + 13) 17 111 [am_r (am_a 254), am_i (g 254 72)] (zS L, m_fs (fuel : Int) g2)) (am_up1 (zS L)) _ = _
  rw [D, p_xV, H, q_17_121_7, e9, if_neg (by omega)]
  by_cases z : e = 0
  · rw [if_pos z, if_pos z]
  · rw [if_neg z, if_neg z]
    unfold wtop
    by_cases z2 : 0 < gf 254 95
    · rw [if_pos z2, if_pos z2, p_w (by omega) (by omega), p_idx (by omega) (by omega)]
    · rw [if_neg z2, if_neg z2]
end
