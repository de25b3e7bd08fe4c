/-! SIMULATION, 1: numbers of AM and of the machine -/
def sm_i (x : Int) : Prop := -2147483648 ≤ x ∧ x < 2147483648
def sm_l (x : Int) : Prop := -9223372036854775808 ≤ x ∧ x < 9223372036854775808
theorem sm_i_32 (x : Int32) : sm_i x.toInt := ⟨by have := x.le_toInt; omega, by have := x.toInt_lt; omega⟩
theorem sm_l_64 (x : Int64) : sm_l x.toInt := ⟨by have := x.le_toInt; omega, by have := x.toInt_lt; omega⟩
theorem sm_toI {x : Int} (h : sm_i x) : (Int32.ofInt x).toInt = x := Int32.toInt_ofInt_of_le (by have := h.1; omega) (by have := h.2; omega)
theorem sm_toL {x : Int} (h : sm_l x) : (Int64.ofInt x).toInt = x := Int64.toInt_ofInt_of_le (by have := h.1; omega) (by have := h.2; omega)
theorem sm_w_i (x : Int) : sm_i (am_w x) := by
  unfold am_w sm_i
  constructor
  · have := Int.le_bmod (x := x) (m := 4294967296) (by decide); omega
  · have := Int.bmod_lt (x := x) (m := 4294967296) (by decide); omega
theorem sm_W_l (x : Int) : sm_l (am_W x) := by
  unfold am_W sm_l
  constructor
  · have := Int.le_bmod (x := x) (m := 18446744073709551616) (by decide); omega
  · have := Int.bmod_lt (x := x) (m := 18446744073709551616) (by decide); omega
theorem sm_w_o (x : Int) : Int32.ofInt (am_w x) = Int32.ofInt x := Int32.toInt_inj.mp (by rw [sm_toI (sm_w_i x), Int32.toInt_ofInt]; rfl)
theorem sm_W_o (x : Int) : Int64.ofInt (am_W x) = Int64.ofInt x := Int64.toInt_inj.mp (by rw [sm_toL (sm_W_l x), Int64.toInt_ofInt]; rfl)
theorem sm_oI (x : Int32) : Int32.ofInt x.toInt = x := Int32.ofInt_toInt x
theorem sm_oL (x : Int64) : Int64.ofInt x.toInt = x := Int64.ofInt_toInt x
theorem sm_eqI {x y : Int} (hx : sm_i x) (hy : sm_i y) : Int32.ofInt x = Int32.ofInt y ↔ x = y := by
  rw [← Int32.toInt_inj, sm_toI hx, sm_toI hy]
theorem sm_ltI {x y : Int} (hx : sm_i x) (hy : sm_i y) : Int32.ofInt x < Int32.ofInt y ↔ x < y := by
  rw [Int32.lt_iff_toInt_lt, sm_toI hx, sm_toI hy]
theorem sm_leI {x y : Int} (hx : sm_i x) (hy : sm_i y) : Int32.ofInt x ≤ Int32.ofInt y ↔ x ≤ y := by
  rw [Int32.le_iff_toInt_le, sm_toI hx, sm_toI hy]
theorem sm_0 : Int32.ofInt 0 = 0 := rfl
theorem sm_eq0 {x : Int} (hx : sm_i x) : Int32.ofInt x = 0 ↔ x = 0 := sm_eqI hx (y := 0) (by unfold sm_i; omega)
theorem sm_lt0 {x : Int} (hx : sm_i x) : Int32.ofInt x < 0 ↔ x < 0 := sm_ltI hx (y := 0) (by unfold sm_i; omega)
theorem sm_gt0 {x : Int} (hx : sm_i x) : 0 < Int32.ofInt x ↔ 0 < x := sm_ltI (x := 0) (by unfold sm_i; omega) hx
theorem sm_le0 {x : Int} (hx : sm_i x) : Int32.ofInt x ≤ 0 ↔ x ≤ 0 := sm_leI hx (y := 0) (by unfold sm_i; omega)
theorem sm_ge0 {x : Int} (hx : sm_i x) : 0 ≤ Int32.ofInt x ↔ 0 ≤ x := sm_leI (x := 0) (by unfold sm_i; omega) hx
theorem sm_in {x : Int} {n : Nat} (h : 0 ≤ x ∧ x < n) (hn : n < 2147483648) : vp_in (Int32.ofInt x) n ∧ (Int32.ofInt x).toNatClampNeg = x.toNat := by
  have hx : sm_i x := ⟨by omega, by omega⟩
  have h2 : (Int32.ofInt x).toNatClampNeg = x.toNat := by
    show (Int32.ofInt x).toInt.toNat = _
    rw [sm_toI hx]
  refine ⟨?_, h2⟩
  unfold vp_in
  rw [h2, sm_lt0 hx]
  omega
theorem sm_i2l {x : Int} (h : sm_i x) : (Int32.ofInt x).toInt64 = Int64.ofInt x := Int64.toInt_inj.mp (by
  rw [Int32.toInt_toInt64, sm_toI h, sm_toL ⟨by have := h.1; omega, by have := h.2; omega⟩])
theorem sm_i_l {x : Int} (h : sm_i x) : sm_l x := ⟨by have := h.1; omega, by have := h.2; omega⟩
theorem sm_s16_i (x : Int) : sm_i (am_s16 x) := by
  unfold am_s16 sm_i
  have h1 := Int.le_bmod (x := x) (m := 65536) (by decide)
  have h2 := Int.bmod_lt (x := x) (m := 65536) (by decide)
  omega
theorem sm_s8_i (x : Int) : sm_i (am_s8 x) := by
  unfold am_s8 sm_i
  have h1 := Int.le_bmod (x := x) (m := 256) (by decide)
  have h2 := Int.bmod_lt (x := x) (m := 256) (by decide)
  omega
theorem sm_s16_o {x : Int} (h : sm_i x) : (Int32.ofInt x).toInt16.toInt32 = Int32.ofInt (am_s16 x) := Int32.toInt_inj.mp (by
  rw [sm_toI (sm_s16_i x), Int16.toInt_toInt32, Int32.toInt_toInt16, sm_toI h]; rfl)
theorem sm_s8_o {x : Int} (h : sm_i x) : (Int32.ofInt x).toInt8.toInt32 = Int32.ofInt (am_s8 x) := Int32.toInt_inj.mp (by
  rw [sm_toI (sm_s8_i x), Int8.toInt_toInt32, Int32.toInt_toInt8, sm_toI h]; rfl)
theorem sm_8 {n : Int} (h : -128 ≤ n ∧ n ≤ 127) : (Int8.ofInt n).toInt32 = Int32.ofInt n := Int32.toInt_inj.mp (by
  rw [Int8.toInt_toInt32, Int8.toInt_ofInt_of_le (by omega) (by omega), sm_toI ⟨by omega, by omega⟩])
theorem sm_16 {n : Int} (h : -32768 ≤ n ∧ n ≤ 32767) : (Int16.ofInt n).toInt32 = Int32.ofInt n := Int32.toInt_inj.mp (by
  rw [Int16.toInt_toInt32, Int16.toInt_ofInt_of_le (by omega) (by omega), sm_toI ⟨by omega, by omega⟩])
theorem sm_div {x y : Int} (hx : sm_i x) (hy : sm_i y) : Int32.ofInt x / Int32.ofInt y = Int32.ofInt (am_w (x.tdiv y)) := Int32.toInt_inj.mp (by
  rw [Int32.toInt_div, sm_toI hx, sm_toI hy, sm_toI (sm_w_i _)]; rfl)
theorem sm_rem {x y : Int} (hx : sm_i x) (hy : sm_i y) (h0 : ¬ y = 0) : Int32.ofInt x - Int32.ofInt x / Int32.ofInt y * Int32.ofInt y = Int32.ofInt (x.tmod y) := by
  rw [sm_div hx hy, sm_w_o, ← Int32.ofInt_mul, ← Int32.ofInt_sub]
  rw [Int.tmod_def, Int.mul_comm]
theorem sm_rem_i {x y : Int} (hx : sm_i x) : sm_i (x.tmod y) := by
  have h1 : (x.tmod y).natAbs ≤ x.natAbs := by
    rw [Int.natAbs_tmod]; exact Nat.mod_le _ _
  unfold sm_i at *
  rcases Int.le_total 0 x with h | h
  · have := Int.tmod_nonneg y h
    omega
  · have h3 : x.tmod y ≤ 0 := by
      have := Int.tmod_nonneg y (a := -x) (by omega)
      rw [Int.neg_tmod] at this
      omega
    omega
theorem sm_and_i (x y : Int) : sm_i (am_and x y) := sm_i_32 _
theorem sm_or_i (x y : Int) : sm_i (am_or x y) := sm_i_32 _
theorem sm_xor_i (x y : Int) : sm_i (am_xor x y) := sm_i_32 _
theorem sm_shl_i (x y : Int) : sm_i (am_shl x y) := sm_i_32 _
theorem sm_shr_i (x y : Int) : sm_i (am_shr x y) := sm_i_32 _
theorem sm_cmp {x y : Int} (hx : sm_l x) (hy : sm_l y) : lg_cmp (Int64.ofInt x) (Int64.ofInt y) = Int32.ofInt (am_lcmp x y) := by
  unfold lg_cmp am_lcmp
  have h2 : Int64.ofInt x = Int64.ofInt y ↔ x = y := by rw [← Int64.toInt_inj, sm_toL hx, sm_toL hy]
  have h3 : Int64.ofInt y < Int64.ofInt x ↔ y < x := by rw [Int64.lt_iff_toInt_lt, sm_toL hx, sm_toL hy]
  simp only [gt_iff_lt, h2, h3]
  rcases Int.lt_trichotomy x y with h | h | h
  · rw [if_neg (by omega), if_neg (by omega), if_pos h]; rfl
  · rw [if_neg (by omega), if_pos h, if_neg (by omega), if_pos h]; rfl
  · rw [if_pos h, if_neg (by omega), if_neg (by omega)]; rfl
theorem sm_lcmp_i (x y : Int) : sm_i (am_lcmp x y) := by
  unfold am_lcmp sm_i
  split
  · omega
  · split <;> omega
