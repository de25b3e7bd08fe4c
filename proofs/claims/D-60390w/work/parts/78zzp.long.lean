/-! QUERIES, 2: long numbers; rows of the screen; output -/
theorem Lsh_amt : ∀ k : Nat, k < 64 → ((Int32.ofInt (k : Int)).toInt64 &&& 63) = Int64.ofInt (k : Int) := by decide
theorem L_shl (x : Int) (k : Nat) (hk : k < 64) (h0 : 0 ≤ x) (h1 : x * ((2 ^ k : Nat) : Int) < 9223372036854775808) : am_Lshl x (k : Int) = x * ((2 ^ k : Nat) : Int) := by
  unfold am_Lshl
  rw [Lsh_amt k hk]
  obtain ⟨n, rfl⟩ := Int.eq_ofNat_of_zero_le h0
  have e1 : (Int64.ofInt (n : Int) <<< Int64.ofInt (k : Int)).toInt = (BitVec.ofInt 64 (n : Int) <<< ((BitVec.ofInt 64 (k : Int)).smod 64)).toInt := rfl
  rw [e1]
  have e2 : ∀ k : Nat, k < 64 → (BitVec.ofInt 64 (k : Int)).smod 64 = BitVec.ofNat 64 k := by decide
  rw [e2 k hk, BitVec.ofInt_natCast]
  have hp : 0 < 2 ^ k := Nat.pos_of_ne_zero (by simp)
  have hb : n * 2 ^ k < 9223372036854775808 := by
    have : ((n * 2 ^ k : Nat) : Int) < 9223372036854775808 := by rw [Int.natCast_mul]; exact h1
    omega
  have hn : n < 9223372036854775808 := Nat.lt_of_le_of_lt (Nat.le_mul_of_pos_right n hp) hb
  have e3 : (BitVec.ofNat 64 n <<< BitVec.ofNat 64 k).toNat = n * 2 ^ k := by
    rw [BitVec.shiftLeft_eq', BitVec.toNat_shiftLeft, BitVec.toNat_ofNat, BitVec.toNat_ofNat, Nat.mod_eq_of_lt (show n < 2 ^ 64 by omega), Nat.mod_eq_of_lt (show k < 2 ^ 64 by omega), Nat.shiftLeft_eq, Nat.mod_eq_of_lt (show n * 2 ^ k < 2 ^ 64 by omega)]
  rw [BitVec.toInt_eq_toNat_of_lt (by rw [e3]; omega), e3, Int.natCast_mul]
theorem L_or (x y : Int) (m : Nat) (hm : m < 63) (h0 : 0 ≤ x) (hx : x * ((2 ^ m : Nat) : Int) < 9223372036854775808) (y0 : 0 ≤ y) (hy : y < ((2 ^ m : Nat) : Int)) : am_Lor (x * ((2 ^ m : Nat) : Int)) y = x * ((2 ^ m : Nat) : Int) + y := by
  unfold am_Lor
  obtain ⟨a, rfl⟩ := Int.eq_ofNat_of_zero_le h0
  obtain ⟨b, rfl⟩ := Int.eq_ofNat_of_zero_le y0
  rw [← Int.natCast_mul] at hx ⊢
  have e1 : (Int64.ofInt ((a * 2 ^ m : Nat) : Int) ||| Int64.ofInt (b : Int)).toInt = (BitVec.ofInt 64 ((a * 2 ^ m : Nat) : Int) ||| BitVec.ofInt 64 (b : Int)).toInt := rfl
  have hb : b < 2 ^ m := by omega
  have hm2 : 2 ^ m ≤ 2 ^ 62 := Nat.pow_le_pow_right (by decide) (by omega)
  rw [e1, BitVec.ofInt_natCast, BitVec.ofInt_natCast]
  have e3 : (BitVec.ofNat 64 (a * 2 ^ m) ||| BitVec.ofNat 64 b).toNat = a * 2 ^ m + b := by
    rw [BitVec.toNat_or, BitVec.toNat_ofNat, BitVec.toNat_ofNat, Nat.mod_eq_of_lt (show a * 2 ^ m < 2 ^ 64 by omega), Nat.mod_eq_of_lt (show b < 2 ^ 64 by omega), Nat.mul_comm, ← Nat.two_pow_add_eq_or_of_lt hb]
  have lt : a * 2 ^ m + b < 9223372036854775808 := by
    have d : a * 2 ^ m ≤ 9223372036854775808 - 2 ^ m := by
      have hq : 9223372036854775808 = 2 ^ (63 - m) * 2 ^ m := by rw [← Nat.pow_add, show 63 - m + m = 63 by omega]
      have ha : a < 2 ^ (63 - m) := by
        have : a * 2 ^ m < 2 ^ (63 - m) * 2 ^ m := by rw [← hq]; omega
        exact Nat.lt_of_mul_lt_mul_right this
      have : (a + 1) * 2 ^ m ≤ 2 ^ (63 - m) * 2 ^ m := Nat.mul_le_mul_right _ ha
      rw [← hq, Nat.add_mul, Nat.one_mul] at this
      omega
    omega
  rw [BitVec.toInt_eq_toNat_of_lt (by rw [e3]; omega), e3, Int.natCast_add]
theorem L_and (x : Int) (k : Nat) (hk : k ≤ 31) : am_Land x (((2 ^ k - 1 : Nat)) : Int) = x % ((2 ^ k : Nat) : Int) := by
  unfold am_Land
  have hp : 0 < 2 ^ k := Nat.pos_of_ne_zero (by simp)
  have hk2 : 2 ^ k ≤ 2 ^ 31 := Nat.pow_le_pow_right (by decide) hk
  have e1 : (Int64.ofInt x &&& Int64.ofInt ((2 ^ k - 1 : Nat) : Int)).toInt = (BitVec.ofInt 64 x &&& BitVec.ofInt 64 ((2 ^ k - 1 : Nat) : Int)).toInt := rfl
  rw [e1, BitVec.ofInt_natCast]
  have e3 : ((BitVec.ofInt 64 x &&& BitVec.ofNat 64 (2 ^ k - 1)).toNat : Int) = x % ((2 ^ k : Nat) : Int) := by
    rw [BitVec.toNat_and, BitVec.toNat_ofNat, BitVec.toNat_ofInt, Nat.mod_eq_of_lt (show 2 ^ k - 1 < 2 ^ 64 by omega), Nat.and_two_pow_sub_one_eq_mod]
    have h64 : ((2 ^ 64 : Nat) : Int) = 18446744073709551616 := rfl
    have nn := Int.emod_nonneg x (show (18446744073709551616 : Int) ≠ 0 by decide)
    rw [Int.natCast_emod, h64, Int.toNat_of_nonneg nn]
    have : ((2 ^ k : Nat) : Int) ∣ 18446744073709551616 := by
      rw [← h64, Int.natCast_dvd_natCast]; exact Nat.pow_dvd_pow 2 (by omega)
    exact Int.emod_emod_of_dvd x this
  have b1 := Int.emod_lt_of_pos x (show (0 : Int) < ((2 ^ k : Nat) : Int) by omega)
  rw [BitVec.toInt_eq_toNat_of_lt (by omega), e3]

theorem L_shlN (x k : Nat) (hk : k < 64) (h1 : x * 2 ^ k < 9223372036854775808) : am_Lshl (x : Int) (k : Int) = ((x * 2 ^ k : Nat) : Int) := by
  rw [L_shl (x : Int) k hk (by omega) (by rw [← Int.natCast_mul]; omega), ← Int.natCast_mul]
theorem L_orN (a m b : Nat) (hm : m < 63) (h1 : a * 2 ^ m < 9223372036854775808) (hb : b < 2 ^ m) : am_Lor ((a * 2 ^ m : Nat) : Int) (b : Int) = ((a * 2 ^ m + b : Nat) : Int) := by
  have := L_or (a : Int) (b : Int) m hm (by omega) (by rw [← Int.natCast_mul]; omega) (by omega) (by omega)
  rw [← Int.natCast_mul] at this
  rw [this, Int.natCast_add]
theorem L_m16 (x : Int) : am_Land x 65535 = am_and x 65535 := by
  have a := L_and x 16 (by decide)
  have b := p_mask x 16 (by omega)
  exact a.trans b.symm
theorem L_m8 (x : Int) : am_Land x 255 = x % 256 := L_and x 8 (by decide)
section
variable {L d n : Nat} {h : am_H}
theorem row_go (Q : QR h) {y : Int} (y0 : 0 ≤ y) (y1 : y < 32) : ∀ (j : Nat) (v : Int), j ≤ 4 → ∃ w, am_E (am_D n) m_0_28 (.inl 1) [some (am_r (am_a 1)), some (am_i y), some (am_l v), none, some (am_i ((j : Int) - 1))] [] (zS L, h) = pL L w h ∧ am_E (am_D d) m_17_125 (.inl 3) [some (am_r (am_a 254)), some (am_i y), some (am_l v), none, some (am_i ((j : Int) - 1))] [] (zS L, h) = pL L w h := by
  intro j
  induction j with
  | zero => intro v _; exact ⟨v, by rw [q_0_28_1, if_pos (by omega)], by rw [q_17_125_3, if_pos (by omega)]⟩
  | succ j ih =>
    intro v hj
    have e := Q.1 (16384 + 4 * y.toNat + j) (Or.inr ⟨by omega, by omega⟩)
    obtain ⟨w, r1, r2⟩ := ih (am_Lor (am_Lshl v 16) (am_and (h 308 (16384 + 4 * y.toNat + j)) 65535)) (by omega)
    have ej : ((j + 1 : Nat) : Int) - 1 = (j : Int) := by omega
    refine ⟨w, ?_, ?_⟩
    · rw [ej, q_0_28_1, if_neg (by omega), if_neg (by omega), if_pos y1, p_w (x := 4 * y) (by omega) (by omega), p_w (x := 16384 + 4 * y) (by omega) (by omega), p_w (x := 16384 + 4 * y + (j : Int)) (by omega) (by omega), p_idx (by omega) (by omega), show (16384 + 4 * y + (j : Int)).toNat = 16384 + 4 * y.toNat + j by omega, L_m16, e, p_w (by omega) (by omega)]
      exact r1
    · rw [ej, q_17_125_3, if_neg (by omega), p_w (x := 4 * y) (by omega) (by omega), p_w (x := 16384 + 4 * y) (by omega) (by omega), p_w (x := 16384 + 4 * y + (j : Int)) (by omega) (by omega), p_idx (by omega) (by omega), show (16384 + 4 * y + (j : Int)).toNat = 16384 + 4 * y.toNat + j by omega, p_w (by omega) (by omega)]
      exact r2
theorem q_row (Q : QR h) (y : Int) : ∃ w, am_D (n + 1) 0 28 [am_r (am_a 1), am_i y] (zS L, h) = pL L w h ∧ am_D (d + 1) 17 125 [am_r (am_a 254), am_i y] (zS L, h) = pL L w h := by
  rw [D_0_28, D_17_125]
  by_cases c1 : y < 0
  · rw [if_pos c1]
    exact ⟨0, by rw [q_0_28_1, if_neg (by decide), if_pos c1], rfl⟩
  · rw [if_neg c1]
    by_cases c2 : 31 < y
    · rw [if_pos c2]
      exact ⟨0, by rw [q_0_28_1, if_neg (by decide), if_neg c1, if_neg (by omega)], rfl⟩
    · rw [if_neg c2]
      exact row_go Q (by omega) (by omega) 4 0 (Nat.le_refl _)
/-- bytes of output, packed -/
def va (m : Nat) (b : Nat → Nat) : Nat → Nat
  | 0 => m
  | i + 1 => va m b i * 256 + b i
theorem va_lt {m : Nat} {b : Nat → Nat} (hm : m ≤ 7) (hb : ∀ i, b i ≤ 255) : ∀ i, va m b i + 1 ≤ 8 * 2 ^ (8 * i)
  | 0 => by show m + 1 ≤ 8 * 1; omega
  | i + 1 => by
    have a := va_lt hm hb i
    have c := hb i
    show va m b i * 256 + b i + 1 ≤ 8 * 2 ^ (8 * (i + 1))
    rw [show 8 * (i + 1) = 8 * i + 8 by omega, Nat.pow_add, show 2 ^ 8 = 256 by decide]
    omega
theorem m_fetch {m : Nat} {b : Nat → Nat} (hm : m ≤ 7) (hb : ∀ i, b i ≤ 255) (b1 : ∀ i, i < m → h 320 ((h 254 107).toNat + i) = (b i : Int)) (b0 : ∀ i, m ≤ i → b i = 0) (h7 : 0 ≤ h 254 107 ∧ h 254 107 + m ≤ 3000) : ∀ j i : Nat, i + j = 7 → am_E (am_D d) m_17_124 (.inl 3) [some (am_r (am_a 254)), some (am_i (m : Int)), some (am_l ((va m b i : Nat) : Int)), none, some (am_i (i : Int))] [] (zS L, h) = pL L ((va m b 7 : Nat) : Int) (am_up h 254 107 (h 254 107 + (m : Int))) := by
  intro j
  induction j with
  | zero =>
    intro i hi
    have : i = 7 := by omega
    subst this
    rw [q_17_124_3, if_neg (by decide), p_w (by omega) (by omega)]
  | succ j ih =>
    intro i hi
    have lt := va_lt hm hb i
    have p6 : 2 ^ (8 * i) ≤ 2 ^ 48 := Nat.pow_le_pow_right (by decide) (by omega)
    have e1 : am_Lor (am_Lshl ((va m b i : Nat) : Int) 8) (b i : Int) = ((va m b (i + 1) : Nat) : Int) := by
      have s := L_shlN (va m b i) 8 (by decide) (by omega)
      have s : am_Lshl ((va m b i : Nat) : Int) 8 = ((va m b i * 2 ^ 8 : Nat) : Int) := s
      rw [s, L_orN _ 8 _ (by decide) (by omega) (by have := hb i; omega)]; rfl
    have st := ih (i + 1) (by omega)
    rw [q_17_124_3, if_pos (by omega)]
    by_cases z : i < m
    · rw [if_pos (by omega), p_w (x := h 254 107 + (i : Int)) (by omega) (by omega), p_idx (by omega) (by omega), show (h 254 107 + (i : Int)).toNat = (h 254 107).toNat + i by omega, b1 i z, e1, p_w (by omega) (by omega)]
      exact st
    · rw [b0 i (by omega)] at e1
      have e1 : am_Lor (am_Lshl ((va m b i : Nat) : Int) 8) 0 = ((va m b (i + 1) : Nat) : Int) := e1
      rw [if_neg (by omega), e1, p_w (by omega) (by omega)]
      exact st
theorem c_fetch1 {m : Nat} {b : Nat → Nat} (hm : m ≤ 7) (hb : ∀ i, b i ≤ 255) (b1 : ∀ i, i < m → h 20 i % 256 = (b i : Int)) : ∀ j i : Nat, i + j = m → am_E (am_D d) m_0_27 (.inl 1) [some (am_r (am_a 1)), some (am_i (m : Int)), some (am_r (am_a 20)), some (am_l ((va m b i * 2 ^ (56 - 8 * i) : Nat) : Int)), none, some (am_i (i : Int))] [] (zS L, h) = am_E (am_D d) m_0_27 (.inl 3) [some (am_r (am_a 1)), some (am_i (m : Int)), some (am_r (am_a 20)), some (am_l ((va m b m * 2 ^ (56 - 8 * m) : Nat) : Int)), none, some (am_i (m : Int))] [] (zS L, h) := by
  intro j
  induction j with
  | zero =>
    intro i hi
    have : i = m := by omega
    subst this
    rw [q_0_27_1, if_neg (by omega)]
  | succ j ih =>
    intro i hi
    have lt := va_lt hm hb i
    have hbi := hb i
    have eT : 2 ^ (56 - 8 * i) = 256 * 2 ^ (48 - 8 * i) := by rw [show 56 - 8 * i = 8 + (48 - 8 * i) by omega, Nat.pow_add]
    have eM : 2 ^ (8 * i) * 2 ^ (56 - 8 * i) = 2 ^ 56 := by rw [← Nat.pow_add, show 8 * i + (56 - 8 * i) = 56 by omega]
    have w1 : va m b i * 2 ^ (56 - 8 * i) < 9223372036854775808 := by
      have : va m b i * 2 ^ (56 - 8 * i) ≤ 8 * 2 ^ (8 * i) * 2 ^ (56 - 8 * i) := Nat.mul_le_mul_right _ (by omega)
      rw [Nat.mul_assoc, eM] at this
      have : (8 * 2 ^ 56 : Nat) = 576460752303423488 := by decide
      omega
    have w2 : b i * 2 ^ (48 - 8 * i) < 2 ^ (56 - 8 * i) := by
      rw [eT]; exact Nat.mul_lt_mul_of_pos_right (by omega) (Nat.pos_of_ne_zero (by simp))
    have w3 : 2 ^ (56 - 8 * i) ≤ 2 ^ 56 := Nat.pow_le_pow_right (by decide) (by omega)
    have e1 : am_Lor ((va m b i * 2 ^ (56 - 8 * i) : Nat) : Int) (am_Lshl (am_Land (h 20 i) 255) (am_w (48 - (am_w (8 * (i : Int)))))) = ((va m b (i + 1) * 2 ^ (56 - 8 * (i + 1)) : Nat) : Int) := by
      rw [L_m8, b1 i (by omega), p_w (x := 8 * (i : Int)) (by omega) (by omega), p_w (by omega) (by omega), show (48 : Int) - 8 * (i : Int) = ((48 - 8 * i : Nat) : Int) by omega, L_shlN _ _ (by omega) (by omega), L_orN _ _ _ (by omega) w1 w2]
      congr 1
      show _ = (va m b i * 256 + b i) * 2 ^ (56 - 8 * (i + 1))
      rw [eT, show 56 - 8 * (i + 1) = 48 - 8 * i by omega, Nat.add_mul, Nat.mul_assoc]
    rw [q_0_27_1, if_pos (by omega), p_arr rfl, p_idx (by omega) (by omega), Int.toNat_natCast, e1, p_w (by omega) (by omega)]
    exact ih (i + 1) (by omega)
end
