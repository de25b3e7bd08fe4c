/-! PURE LAYER, 2: numbers -/
theorem p_bv (x : Int) : (Int32.ofInt x).toBitVec = BitVec.ofInt 32 x := rfl
theorem p_bvn (x : Int) : (BitVec.ofInt 32 x).toNat = (x % 4294967296).toNat := by
  rw [BitVec.toNat_ofInt]; rfl
/-- a mask of low bits -/
theorem p_mask (x : Int) (k : Nat) (hk : k ≤ 31) : am_and x (2 ^ k - 1 : Nat) = x % (2 ^ k : Nat) := by
  have hp : 2 ^ k ≤ 2 ^ 31 := Nat.pow_le_pow_right (by omega) hk
  have hp0 : 0 < 2 ^ k := Nat.pos_of_neZero _
  have e31 : (2 : Nat) ^ 31 = 2147483648 := rfl
  have h1 : am_and x (2 ^ k - 1 : Nat) = ((BitVec.ofInt 32 x) &&& (BitVec.ofInt 32 ((2 ^ k - 1 : Nat) : Int))).toInt := rfl
  have h2 : (BitVec.ofInt 32 ((2 ^ k - 1 : Nat) : Int)).toNat = 2 ^ k - 1 := by
    rw [p_bvn]; omega
  have h3 : ((BitVec.ofInt 32 x) &&& (BitVec.ofInt 32 ((2 ^ k - 1 : Nat) : Int))).toNat = (x % 4294967296).toNat % 2 ^ k := by
    rw [BitVec.toNat_and, h2, p_bvn, Nat.and_two_pow_sub_one_eq_mod]
  have h4 : (x % 4294967296).toNat % 2 ^ k < 2 ^ k := Nat.mod_lt _ hp0
  rw [h1, BitVec.toInt_eq_toNat_cond, h3, if_pos (by omega), Int.natCast_emod]
  have h5 : (((x % 4294967296).toNat : Nat) : Int) = x % 4294967296 := Int.toNat_of_nonneg (Int.emod_nonneg _ (by omega))
  rw [h5]
  refine Int.emod_emod_of_dvd x ?_
  have h6 : ((2 ^ k : Nat) : Int) ∣ ((2 ^ 32 : Nat) : Int) := Int.natCast_dvd_natCast.mpr (Nat.pow_dvd_pow 2 (by omega))
  exact h6
theorem p_and255 (x : Int) : am_and x 255 = x % 256 := p_mask x 8 (by omega)
theorem p_and32767 (x : Int) : am_and x 32767 = x % 32768 := p_mask x 15 (by omega)
theorem p_and1 (x : Int) : am_and x 1 = x % 2 := p_mask x 1 (by omega)
theorem p_and31 (x : Int) : am_and x 31 = x % 32 := p_mask x 5 (by omega)
theorem p_and63 (x : Int) : am_and x 63 = x % 64 := p_mask x 6 (by omega)
theorem p_and7 (x : Int) : am_and x 7 = x % 8 := p_mask x 3 (by omega)
theorem p_s8_mod (x : Int) : am_s8 x % 256 = x % 256 := by unfold am_s8; exact Int.bmod_emod ..
theorem p_s8_rg (x : Int) : -128 ≤ am_s8 x ∧ am_s8 x ≤ 127 := by
  unfold am_s8
  have h1 := Int.le_bmod (x := x) (m := 256) (by omega)
  have h2 := Int.bmod_lt (x := x) (m := 256) (by omega)
  omega
theorem p_s8 {x : Int} (h1 : -128 ≤ x) (h2 : x ≤ 127) : am_s8 x = x := Int.bmod_eq_of_le (by omega) (by omega)
theorem p_s8_s8 (x : Int) : am_s8 (am_s8 x) = am_s8 x := p_s8 (p_s8_rg x).1 (p_s8_rg x).2
theorem p_not (x : Int) (h : -2147483648 ≤ x ∧ x < 2147483648) : am_xor x (-1) = -x - 1 := by
  have h1 : am_xor x (-1) = (BitVec.ofInt 32 x ^^^ BitVec.ofInt 32 (-1)).toInt := rfl
  have h2 : BitVec.ofInt 32 (-1) = BitVec.allOnes 32 := by decide
  have h3 : BitVec.ofInt 32 x ^^^ BitVec.allOnes 32 = ~~~ (BitVec.ofInt 32 x) := BitVec.xor_allOnes
  rw [h1, h2, h3, BitVec.toInt_not, BitVec.toNat_ofInt]
  have h5 : (((x % ((2 ^ 32 : Nat) : Int)).toNat : Nat) : Int) = x % 4294967296 := Int.toNat_of_nonneg (Int.emod_nonneg _ (by omega))
  rw [h5]
  have e : (2 : Int) ^ 32 - 1 - x % 4294967296 = 4294967295 - x % 4294967296 := by omega
  rw [e]
  show Int.bmod _ 4294967296 = _
  rw [Int.bmod_def]
  split <;> omega
theorem p_shr (x : Int) (h : -2147483648 ≤ x ∧ x < 2147483648) (k : Nat) (hk : k < 32) : am_shr x k = x / (2 ^ k : Nat) := by
  have e1 : Int32.ofInt (k : Int) &&& 31 = Int32.ofInt (k : Int) := by
    have : k = 0 ∨ k = 1 ∨ k = 2 ∨ k = 3 ∨ k = 4 ∨ k = 5 ∨ k = 6 ∨ k = 7 ∨ k = 8 ∨ k = 9 ∨ k = 10 ∨ k = 11 ∨ k = 12 ∨ k = 13 ∨ k = 14 ∨ k = 15 ∨ k = 16 ∨ k = 17 ∨ k = 18 ∨ k = 19 ∨ k = 20 ∨ k = 21 ∨ k = 22 ∨ k = 23 ∨ k = 24 ∨ k = 25 ∨ k = 26 ∨ k = 27 ∨ k = 28 ∨ k = 29 ∨ k = 30 ∨ k = 31 := by omega
    rcases this with rfl | rfl | rfl | rfl | rfl | rfl | rfl | rfl | rfl | rfl | rfl | rfl | rfl | rfl | rfl | rfl | rfl | rfl | rfl | rfl | rfl | rfl | rfl | rfl | rfl | rfl | rfl | rfl | rfl | rfl | rfl | rfl <;> rfl
  unfold am_shr
  rw [e1]
  have h1 : (Int32.ofInt x >>> Int32.ofInt (k : Int)).toInt = ((BitVec.ofInt 32 x).sshiftRight' ((BitVec.ofInt 32 (k : Int)).smod 32)).toInt := rfl
  rw [h1]
  have h2 : ((BitVec.ofInt 32 (k : Int)).smod 32) = BitVec.ofNat 32 k := by
    have : k = 0 ∨ k = 1 ∨ k = 2 ∨ k = 3 ∨ k = 4 ∨ k = 5 ∨ k = 6 ∨ k = 7 ∨ k = 8 ∨ k = 9 ∨ k = 10 ∨ k = 11 ∨ k = 12 ∨ k = 13 ∨ k = 14 ∨ k = 15 ∨ k = 16 ∨ k = 17 ∨ k = 18 ∨ k = 19 ∨ k = 20 ∨ k = 21 ∨ k = 22 ∨ k = 23 ∨ k = 24 ∨ k = 25 ∨ k = 26 ∨ k = 27 ∨ k = 28 ∨ k = 29 ∨ k = 30 ∨ k = 31 := by omega
    rcases this with rfl | rfl | rfl | rfl | rfl | rfl | rfl | rfl | rfl | rfl | rfl | rfl | rfl | rfl | rfl | rfl | rfl | rfl | rfl | rfl | rfl | rfl | rfl | rfl | rfl | rfl | rfl | rfl | rfl | rfl | rfl | rfl <;> decide
  rw [h2, show (BitVec.ofInt 32 x).sshiftRight' (BitVec.ofNat 32 k) = (BitVec.ofInt 32 x).sshiftRight (BitVec.ofNat 32 k).toNat from rfl, BitVec.toInt_sshiftRight, BitVec.toNat_ofNat, Nat.mod_eq_of_lt (by omega), BitVec.toInt_ofInt, Int.bmod_eq_of_le (by omega) (by omega), Int.shiftRight_eq_div_pow]
