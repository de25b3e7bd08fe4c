/-! VM, 3: numbers; the system's own arithmetic -/
theorem s16_add (a b : Int) : am_s16 (am_s16 a + am_s16 b) = am_s16 (a + b) := by unfold am_s16; simp
theorem s16_add_l (a b : Int) : am_s16 (am_s16 a + b) = am_s16 (a + b) := by unfold am_s16; simp
theorem s16_add_r (a b : Int) : am_s16 (a + am_s16 b) = am_s16 (a + b) := by unfold am_s16; simp
theorem s16_sub_l (a b : Int) : am_s16 (am_s16 a - b) = am_s16 (a - b) := by unfold am_s16; simp
theorem s16_sub_r (a b : Int) : am_s16 (a - am_s16 b) = am_s16 (a - b) := by unfold am_s16; simp
theorem s16_neg (a : Int) : am_s16 (-am_s16 a) = am_s16 (-a) := by
  have := s16_sub_r 0 a
  rw [Int.zero_sub, Int.zero_sub] at this; exact this
theorem s16_mul_l (a b : Int) : am_s16 (am_s16 a * b) = am_s16 (a * b) := by unfold am_s16; simp
theorem s16_mul_r (a b : Int) : am_s16 (a * am_s16 b) = am_s16 (a * b) := by unfold am_s16; simp
theorem s16_w (a : Int) : am_s16 (am_w a) = am_s16 a := by
  unfold am_s16 am_w
  exact Int.bmod_bmod_of_dvd (by decide)
theorem s16_per (a k : Int) : am_s16 (a + 65536 * k) = am_s16 a := Int.add_mul_bmod_self_left a 65536 k
theorem s16_eq {a b k : Int} (h : a = b + 65536 * k) : am_s16 a = am_s16 b := by rw [h, s16_per]
/-- what a 16-bit number is -/
def rg16 (x : Int) : Prop := -32768 ≤ x ∧ x ≤ 32767
theorem rg16_s (x : Int) : rg16 (am_s16 x) := p_s16_rg x
theorem s16_id {x : Int} (h : rg16 x) : am_s16 x = x := p_s16 h.1 h.2
theorem s16_hi {x : Int} (h1 : 32768 ≤ x) (h2 : x < 98304) : am_s16 x = x - 65536 := by
  have := s16_per (x - 65536) 1
  rw [show x - 65536 + 65536 * 1 = x by omega] at this
  rw [this, s16_id ⟨by omega, by omega⟩]
theorem s16_lo {x : Int} (h1 : -98304 ≤ x) (h2 : x < -32768) : am_s16 x = x + 65536 := by
  have := s16_per (x + 65536) (-1)
  rw [show x + 65536 + 65536 * -1 = x by omega] at this
  rw [this, s16_id ⟨by omega, by omega⟩]
/-- truth values -/
def tf (p : Prop) [Decidable p] : Int := if p then -1 else 0
theorem v_if_t {p : Prop} [Decidable p] {a b : Option vO} (h : p) : v_if (if p then -1 else 0) a b = a := by rw [if_pos h]; rfl
theorem v_if_f {p : Prop} [Decidable p] {a b : Option vO} (h : ¬ p) : v_if (if p then -1 else 0) a b = b := by rw [if_neg h]; rfl
theorem v_if_n {p : Prop} [Decidable p] {a b : Option vO} (h : ¬ p) : v_if (-(if p then -1 else 0) - 1) a b = a := by rw [if_neg h]; rfl
theorem v_if_nt {p : Prop} [Decidable p] {a b : Option vO} (h : p) : v_if (-(if p then -1 else 0) - 1) a b = b := by rw [if_pos h]; rfl
theorem tf_and {p q : Prop} [Decidable p] [Decidable q] : am_and (if p then -1 else 0) (if q then -1 else 0) = if p ∧ q then -1 else 0 := by
  by_cases h : p <;> by_cases g : q <;> simp only [h, g, if_true, if_false, and_self, and_true, and_false] <;> decide
theorem tf_or {p q : Prop} [Decidable p] [Decidable q] : am_or (if p then -1 else 0) (if q then -1 else 0) = if p ∨ q then -1 else 0 := by
  by_cases h : p <;> by_cases g : q <;> simp only [h, g, if_true, if_false, or_self, or_true, or_false] <;> decide
theorem tf_not {p : Prop} [Decidable p] : -(if p then (-1 : Int) else 0) - 1 = if ¬ p then -1 else 0 := by
  by_cases h : p <;> simp [h]
/-- one bit -/
theorem and_pow (x : Int) (k : Nat) (hk : k ≤ 30) : am_and x ((2 ^ k : Nat) : Int) = ((2 ^ k : Nat) : Int) * ((x / ((2 ^ k : Nat) : Int)) % 2) := by
  unfold am_and
  have h1 : (Int32.ofInt x &&& Int32.ofInt ((2 ^ k : Nat) : Int)).toInt = ((Int32.ofInt x).toBitVec &&& (Int32.ofInt ((2 ^ k : Nat) : Int)).toBitVec).toInt := rfl
  have h2 : (Int32.ofInt ((2 ^ k : Nat) : Int)).toBitVec = BitVec.twoPow 32 k := by
    show BitVec.ofInt 32 ((2 ^ k : Nat) : Int) = _
    rw [BitVec.ofInt_natCast]
    apply BitVec.eq_of_toNat_eq
    rw [BitVec.toNat_ofNat, BitVec.toNat_twoPow]
  have hp : (2 : Nat) ^ k ≤ 2 ^ 30 := Nat.pow_le_pow_right (by decide) hk
  have hp30 : (2 : Nat) ^ 30 = 1073741824 := by decide
  have hb : ((Int32.ofInt x).toBitVec.getLsbD k) = decide ((x / ((2 ^ k : Nat) : Int)) % 2 = 1) := by
    have e : (Int32.ofInt x).toBitVec = BitVec.ofInt 32 x := rfl
    rw [e, BitVec.getLsbD, p_bvn, Nat.testBit_eq_decide_div_mod_eq]
    congr 1
    apply propext
    obtain ⟨n, hn⟩ := Int.eq_ofNat_of_zero_le (Int.emod_nonneg x (show (4294967296 : Int) ≠ 0 by decide))
    rw [hn]
    have hx : x = (n : Int) + 4294967296 * (x / 4294967296) := by have := Int.emod_add_mul_ediv x 4294967296; omega
    have hd : (4294967296 : Int) = ((2 ^ k : Nat) : Int) * (2 * ((2 ^ (31 - k) : Nat) : Int)) := by
      have : (2 : Nat) ^ k * (2 * 2 ^ (31 - k)) = 4294967296 := by
        rw [Nat.mul_comm 2, ← Nat.pow_succ, ← Nat.pow_add, show k + (31 - k + 1) = 32 by omega]
      have c := congrArg (fun n : Nat => (n : Int)) this
      simp only [Int.natCast_mul] at c
      exact c.symm
    have hpos : ((2 ^ k : Nat) : Int) ≠ 0 := by have := Nat.pow_pos (n := k) (show 0 < 2 by decide); omega
    have e2 : x / ((2 ^ k : Nat) : Int) = (n : Int) / ((2 ^ k : Nat) : Int) + 2 * (((2 ^ (31 - k) : Nat) : Int) * (x / 4294967296)) := by
      have e3 : x = (n : Int) + ((2 ^ k : Nat) : Int) * (2 * (((2 ^ (31 - k) : Nat) : Int) * (x / 4294967296))) := by
        rw [show ((2 ^ k : Nat) : Int) * (2 * (((2 ^ (31 - k) : Nat) : Int) * (x / 4294967296))) = ((2 ^ k : Nat) : Int) * (2 * ((2 ^ (31 - k) : Nat) : Int)) * (x / 4294967296) by simp only [Int.mul_assoc], ← hd]
        exact hx
      have e4 := Int.add_mul_ediv_left (n : Int) (2 * (((2 ^ (31 - k) : Nat) : Int) * (x / 4294967296))) hpos
      rw [← e3] at e4
      exact e4
    rw [e2, Int.add_mul_emod_self_left]
    have e5 : (n : Int) / ((2 ^ k : Nat) : Int) = ((n / 2 ^ k : Nat) : Int) := rfl
    rw [e5, Int.toNat_natCast]
    omega
  rw [h1, h2, BitVec.and_twoPow, hb]
  by_cases c : (x / ((2 ^ k : Nat) : Int)) % 2 = 1
  · rw [decide_eq_true c, if_pos rfl, c, BitVec.toInt_eq_toNat_cond, BitVec.toNat_twoPow, Nat.mod_eq_of_lt (by omega), if_pos (by omega)]
    omega
  · rw [decide_eq_false c]
    have : (x / ((2 ^ k : Nat) : Int)) % 2 = 0 := by omega
    rw [this]
    simp

theorem and_bit (y : Int) (hy : rg16 y) (i : Nat) (hi : i < 16) : (am_and y (am_s16 ((2 ^ i : Nat) : Int)) = 0 ↔ (y / ((2 ^ i : Nat) : Int)) % 2 = 0) := by
  by_cases h : i = 15
  · subst h
    have e : am_s16 ((2 ^ 15 : Nat) : Int) = -32768 := by decide
    rw [e]
    have key : am_and y (-32768) = 0 ↔ 0 ≤ y := by
      unfold am_and
      have e0 : (Int32.ofInt y &&& Int32.ofInt (-32768)).toInt = (BitVec.ofInt 32 y &&& BitVec.ofInt 32 (-32768)).toInt := rfl
      have ec : (BitVec.ofInt 32 (-32768)).toNat = 131071 * 2 ^ 15 := by decide
      have h1 := hy.1
      have h2 := hy.2
      rw [e0]
      constructor
      · intro z
        have z2 : (BitVec.ofInt 32 y &&& BitVec.ofInt 32 (-32768)) = 0#32 := BitVec.eq_of_toInt_eq z
        have z3 := congrArg (fun b : BitVec 32 => b.toNat.testBit 15) z2
        simp only [BitVec.toNat_and, Nat.testBit_and] at z3
        rw [ec, p_bvn, show (131071 * 2 ^ 15 : Nat).testBit 15 = true by decide, Bool.and_true, show (0#32 : BitVec 32).toNat.testBit 15 = false by decide, Nat.testBit_eq_decide_div_mod_eq, decide_eq_false_iff_not] at z3
        omega
      · intro z
        have z2 : (BitVec.ofInt 32 y &&& BitVec.ofInt 32 (-32768)) = 0#32 := by
          apply BitVec.eq_of_toNat_eq
          rw [BitVec.toNat_and, ec, p_bvn]
          apply Nat.eq_of_testBit_eq
          intro i
          rw [Nat.testBit_and, show (0#32 : BitVec 32).toNat = 0 from rfl, Nat.zero_testBit]
          by_cases c : i < 15
          · rw [Nat.testBit_mul_two_pow, decide_eq_false (by omega : ¬ i ≥ 15), Bool.false_and, Bool.and_false]
          · rw [Nat.testBit_lt_two_pow (Nat.lt_of_lt_of_le (by omega : (y % 4294967296).toNat < 2 ^ 15) (Nat.pow_le_pow_right (by decide) (by omega))), Bool.false_and]
        rw [z2]; rfl
    rw [key]
    have h1 := hy.1
    have h2 := hy.2
    have e2 : ((2 ^ 15 : Nat) : Int) = 32768 := by decide
    rw [e2]
    omega
  · have hp : (2 : Nat) ^ i ≤ 2 ^ 14 := Nat.pow_le_pow_right (by decide) (by omega)
    have hp14 : (2 : Nat) ^ 14 = 16384 := by decide
    have hpos := Nat.pow_pos (n := i) (show 0 < 2 by decide)
    rw [s16_id ⟨by omega, by omega⟩, and_pow y i (by omega)]
    constructor
    · intro z
      rcases Int.mul_eq_zero.1 z with z | z
      · omega
      · exact z
    · intro z; rw [z]; simp
section
variable (ky : List Int) (d : Nat) (G : vG)
/-- Math.multiply -/
theorem v_mul (x y : Int) (hx : rg16 x) (hy : rg16 y) : vD ky (d + 1) 10 [x, y] G = some (.inl (am_s16 (x * y)), G) := by
  have go : ∀ m i : Nat, i + m = 16 → ∀ th tm, vE ky (vD ky d) 8 c_10 (vlab c_10 28) ([am_s16 (x * ((2 ^ i : Nat) : Int)), y], [am_s16 (x * (y % ((2 ^ i : Nat) : Int))), am_s16 ((2 ^ i : Nat) : Int), (i : Int)], th, tm, [], G) = some (.inl (am_s16 (x * y)), G) := by
    intro m
    induction m with
    | zero =>
      intro i hi th tm
      have : i = 16 := by omega
      subst this
      rw [w_10_28, v_if_f (by decide)]
      have : am_s16 (x * (y % ((2 ^ 16 : Nat) : Int))) = am_s16 (x * y) := by
        have e : ((2 ^ 16 : Nat) : Int) = 65536 := by decide
        rw [e]
        have := Int.emod_add_mul_ediv y 65536
        refine s16_eq (k := -(x * (y / 65536))) ?_
        rw [show x * y = x * (y % 65536 + 65536 * (y / 65536)) by rw [this], Int.mul_add, Int.mul_neg, Int.mul_left_comm x 65536]
        omega
      rw [this]
    | succ m ih =>
      intro i hi th tm
      have hpos := Nat.pow_pos (n := i) (show 0 < 2 by decide)
      have hps : ((2 ^ (i + 1) : Nat) : Int) = 2 * ((2 ^ i : Nat) : Int) := by rw [Nat.pow_succ]; omega
      have hx : am_s16 (am_s16 (x * ((2 ^ i : Nat) : Int)) + am_s16 (x * ((2 ^ i : Nat) : Int))) = am_s16 (x * ((2 ^ (i + 1) : Nat) : Int)) := by
        rw [s16_add, hps, Int.two_mul, Int.mul_add]
      have hb : am_s16 (am_s16 ((2 ^ i : Nat) : Int) + am_s16 ((2 ^ i : Nat) : Int)) = am_s16 ((2 ^ (i + 1) : Nat) : Int) := by
        rw [s16_add, hps, Int.two_mul]
      have hi1 : am_s16 ((i : Int) + 1) = ((i + 1 : Nat) : Int) := by rw [s16_id ⟨by omega, by omega⟩]; omega
      have hm : y % ((2 ^ (i + 1) : Nat) : Int) = y % ((2 ^ i : Nat) : Int) + ((2 ^ i : Nat) : Int) * ((y / ((2 ^ i : Nat) : Int)) % 2) := by
        rw [hps]
        have f1 := Int.emod_add_mul_ediv y ((2 ^ i : Nat) : Int)
        have f2 := Int.emod_add_mul_ediv (y / ((2 ^ i : Nat) : Int)) 2
        have f3 := Int.emod_nonneg y (show ((2 ^ i : Nat) : Int) ≠ 0 by omega)
        have f4 := Int.emod_lt_of_pos y (show (0 : Int) < ((2 ^ i : Nat) : Int) by omega)
        have e5 : y = (y % ((2 ^ i : Nat) : Int) + ((2 ^ i : Nat) : Int) * ((y / ((2 ^ i : Nat) : Int)) % 2)) + 2 * ((2 ^ i : Nat) : Int) * (y / ((2 ^ i : Nat) : Int) / 2) := by
          rw [Int.add_assoc, Int.mul_comm 2, Int.mul_assoc, ← Int.mul_add, f2, f1]
        have e6 := Int.add_mul_emod_self_left (y % ((2 ^ i : Nat) : Int) + ((2 ^ i : Nat) : Int) * ((y / ((2 ^ i : Nat) : Int)) % 2)) (2 * ((2 ^ i : Nat) : Int)) (y / ((2 ^ i : Nat) : Int) / 2)
        rw [← e5] at e6
        rw [e6]
        refine Int.emod_eq_of_lt ?_ ?_
        · rcases Int.emod_two_eq (y / ((2 ^ i : Nat) : Int)) with q | q <;> rw [q] <;> omega
        · rcases Int.emod_two_eq (y / ((2 ^ i : Nat) : Int)) with q | q <;> rw [q] <;> omega
      rw [w_10_28, v_if_t (by omega)]
      by_cases c : (y / ((2 ^ i : Nat) : Int)) % 2 = 0
      · rw [show v_if (am_and y (am_s16 ((2 ^ i : Nat) : Int))) _ _ = _ from if_pos ((and_bit y hy i (by omega)).2 c), w_10_32, hx, hb, hi1]
        rw [c, Int.mul_zero, Int.add_zero] at hm
        rw [← hm]
        exact ih (i + 1) (by omega) th tm
      · rw [show v_if (am_and y (am_s16 ((2 ^ i : Nat) : Int))) _ _ = _ from if_neg (fun z => c ((and_bit y hy i (by omega)).1 z)), w_10_32, hx, hb, hi1]
        rw [show (y / ((2 ^ i : Nat) : Int)) % 2 = 1 by omega, Int.mul_one] at hm
        have : am_s16 (am_s16 (x * (y % ((2 ^ i : Nat) : Int))) + am_s16 (x * ((2 ^ i : Nat) : Int))) = am_s16 (x * (y % ((2 ^ (i + 1) : Nat) : Int))) := by
          rw [s16_add, hm, Int.mul_add]
        rw [this]
        exact ih (i + 1) (by omega) th tm
  rw [w_10]
  have := go 16 0 rfl none none
  rw [show ((2 ^ 0 : Nat) : Int) = 1 from rfl, Int.mul_one, s16_id hx, Int.emod_one, Int.mul_zero] at this
  exact this
/-- Math.abs -/
theorem v_abs (x : Int) : vD ky (d + 1) 7 [x] G = some (.inl (if x < 0 then am_s16 (-x) else x), G) := by
  rw [w_7]
  by_cases c : x < 0
  · rw [v_if_t c, if_pos c]
  · rw [v_if_f c, if_neg c]
/-- Sys.error -/
theorem v_err (x : Int) : vD ky (d + 1) 47 [x] G = some (.inr (3, x), G) := by
  rw [w_47, show am_s16 (32004 + 0) = 32004 by decide]; rfl
theorem v_div0 (x : Int) : vD ky (d + 2) 11 [x, 0] G = some (.inr (3, 3), G) := by
  rw [w_11, v_if_t rfl, v_err]; rfl
/-- Math.divide -/
theorem v_div (x y : Int) (hx : rg16 x) (hy : rg16 y) (h0 : y ≠ 0) : vD ky (d + 1) 11 [x, y] G = some (.inl (am_s16 (Int.tdiv x y)), G) := by
  -- the loop: X the whole, Y the divisor, both not below 0
  have go : ∀ (X Y : Nat), X ≤ 32768 → 1 ≤ Y → Y ≤ 32767 → ∀ (m n : Nat), n + m = 16 → ∀ (y3 y4 : Int) th tm, vE ky (vD ky d) 8 c_11 (vlab c_11 43) ([am_s16 ((X * 2 ^ n : Nat) : Int), (Y : Int)], [am_s16 ((X / 2 ^ m / Y : Nat) : Int), ((X / 2 ^ m % Y : Nat) : Int), (n : Int), y3, y4], th, tm, [], G) = if y4 = 0 then some (.inl (am_s16 ((X / Y : Nat) : Int)), G) else some (.inl (am_s16 (-((X / Y : Nat) : Int))), G) := by
    intro X Y hX hY1 hY m
    induction m with
    | zero =>
      intro n hn y3 y4 th tm
      rw [w_11_43, v_if_f (by omega), Nat.pow_zero, Nat.div_one]
      unfold v_if
      rw [s16_neg]
    | succ m ih =>
      intro n hn y3 y4 th tm
      have hn1 : am_s16 ((n : Int) + 1) = ((n + 1 : Nat) : Int) := by rw [s16_id ⟨by omega, by omega⟩]; omega
      have hx2 : am_s16 (am_s16 ((X * 2 ^ n : Nat) : Int) + am_s16 ((X * 2 ^ n : Nat) : Int)) = am_s16 ((X * 2 ^ (n + 1) : Nat) : Int) := by
        rw [s16_add, Nat.pow_succ, ← Nat.mul_assoc]
        exact congrArg am_s16 (by omega)
      -- the bit that comes
      obtain ⟨b, hb⟩ : ∃ b, b = X / 2 ^ m % 2 := ⟨_, rfl⟩
      have hXm : X / 2 ^ m = 2 * (X / 2 ^ (m + 1)) + b := by
        rw [Nat.pow_succ, ← Nat.div_div_eq_div_mul]; omega
      have hneg : am_s16 ((X * 2 ^ n : Nat) : Int) < 0 ↔ b = 1 := by
        have e16 : (2 : Nat) ^ m * 2 ^ n = 32768 := by rw [← Nat.pow_add, show m + n = 15 by omega]
        have p1 := Nat.pow_pos (n := m) (show 0 < 2 by decide)
        have p2 := Nat.pow_pos (n := n) (show 0 < 2 by decide)
        have f1 := Nat.div_add_mod X (2 ^ m)
        have f2 := Nat.mod_lt X p1
        -- X * 2^n = (X / 2^m) * 32768 + (X % 2^m) * 2^n
        have f3 : X * 2 ^ n = 32768 * (X / 2 ^ m) + X % 2 ^ m * 2 ^ n := by
          rw [← e16]
          calc X * 2 ^ n = (2 ^ m * (X / 2 ^ m) + X % 2 ^ m) * 2 ^ n := by rw [f1]
            _ = _ := by rw [Nat.add_mul, Nat.mul_right_comm]
        have f4 : X % 2 ^ m * 2 ^ n < 32768 := by
          rw [← e16]; exact Nat.mul_lt_mul_of_lt_of_le f2 (Nat.le_refl _) p2
        have f5 : ((X * 2 ^ n : Nat) : Int) = (32768 * (b : Int) + ((X % 2 ^ m * 2 ^ n : Nat) : Int)) + 65536 * ((X / 2 ^ (m + 1) : Nat) : Int) := by
          rw [f3, hXm]; omega
        rw [f5, s16_per]
        have hb2 : b = 0 ∨ b = 1 := by omega
        rcases hb2 with q | q
        · rw [q, s16_id ⟨by omega, by omega⟩]; omega
        · rw [q, s16_hi (by omega) (by omega)]; omega
      obtain ⟨r, hr⟩ : ∃ r, r = X / 2 ^ (m + 1) % Y := ⟨_, rfl⟩
      obtain ⟨q, hq⟩ : ∃ q, q = X / 2 ^ (m + 1) / Y := ⟨_, rfl⟩
      have hrY : r < Y := by rw [hr]; exact Nat.mod_lt _ (by omega)
      have hqr : X / 2 ^ (m + 1) = Y * q + r := by rw [hq, hr]; exact (Nat.div_add_mod _ _).symm
      have hb2 : b = 0 ∨ b = 1 := by omega
      have hR : X / 2 ^ m = Y * (2 * q) + (2 * r + b) := by rw [hXm, hqr, Nat.mul_left_comm]; omega
      -- behind the test
      have step : ∀ R : Nat, R = 2 * r + b → vE ky (vD ky d) 8 c_11 (vlab c_11 47) ([am_s16 ((X * 2 ^ n : Nat) : Int), (Y : Int)], [am_s16 (q : Int), am_s16 (R : Int), (n : Int), y3, y4], th, tm, [], G) = if y4 = 0 then some (.inl (am_s16 ((X / Y : Nat) : Int)), G) else some (.inl (am_s16 (-((X / Y : Nat) : Int))), G) := by
        intro R hRR
        rw [w_11_47, tf_not, tf_or, hx2]
        by_cases c : Y ≤ R
        · have c1 : am_s16 (R : Int) < 0 ∨ ¬ am_s16 (R : Int) < (Y : Int) := by
            by_cases c2 : R < 32768
            · rw [s16_id ⟨by omega, by omega⟩]; omega
            · rw [s16_hi (by omega) (by omega)]; omega
          rw [v_if_t c1, w_11_49, hn1, s16_sub_l, s16_id (x := (R : Int) - (Y : Int)) ⟨by omega, by omega⟩, s16_add, s16_add_l]
          have := ih (n + 1) (by omega) y3 y4 th tm
          have d1 : X / 2 ^ m / Y = 2 * q + 1 := by
            rw [hR, show Y * (2 * q) + (2 * r + b) = (R - Y) + Y * (2 * q + 1) by rw [Nat.mul_add]; omega, Nat.add_mul_div_left _ _ (by omega), Nat.div_eq_of_lt (by omega)]; omega
          have d2 : X / 2 ^ m % Y = R - Y := by
            rw [hR, show Y * (2 * q) + (2 * r + b) = (R - Y) + Y * (2 * q + 1) by rw [Nat.mul_add]; omega, Nat.add_mul_mod_self_left, Nat.mod_eq_of_lt (by omega)]
          rw [d1, d2] at this
          rw [show (q : Int) + (q : Int) + 1 = ((2 * q + 1 : Nat) : Int) by omega, show (R : Int) - (Y : Int) = ((R - Y : Nat) : Int) by omega]
          exact this
        · have c1 : ¬ (am_s16 (R : Int) < 0 ∨ ¬ am_s16 (R : Int) < (Y : Int)) := by
            rw [s16_id ⟨by omega, by omega⟩]; omega
          rw [v_if_f c1, w_11_49, hn1, s16_id (x := (R : Int)) ⟨by omega, by omega⟩, s16_add]
          have := ih (n + 1) (by omega) y3 y4 th tm
          have d1 : X / 2 ^ m / Y = 2 * q := by
            rw [hR, Nat.add_comm, Nat.add_mul_div_left _ _ (by omega), Nat.div_eq_of_lt (by omega)]; omega
          have d2 : X / 2 ^ m % Y = R := by
            rw [hR, Nat.add_comm, Nat.add_mul_mod_self_left, Nat.mod_eq_of_lt (by omega)]; omega
          rw [d1, d2] at this
          rw [show (q : Int) + (q : Int) = ((2 * q : Nat) : Int) by omega]
          exact this
      rw [w_11_43, v_if_t (by omega), ← hq, ← hr]
      by_cases c : b = 1
      · rw [v_if_t (hneg.2 c), s16_add_l, show (r : Int) + (r : Int) + 1 = ((2 * r + b : Nat) : Int) by omega]
        exact step _ rfl
      · rw [v_if_f (fun z => c (hneg.1 z)), show (r : Int) + (r : Int) = ((2 * r + b : Nat) : Int) by omega]
        exact step _ rfl
  obtain ⟨hx1, hx2⟩ := hx
  obtain ⟨hy1, hy2⟩ := hy
  have eL : am_s16 (am_s16 (-32767) - 1) = -32768 := by decide
  rw [w_11, v_if_f h0, w_11_34, eL]
  by_cases c : y = -32768
  · rw [v_if_t c]
    by_cases c2 : x = y
    · rw [v_if_t c2, c2, Int.tdiv_self h0]; rfl
    · rw [v_if_f c2]
      have : Int.tdiv x y = 0 := by
        by_cases c3 : 0 ≤ x
        · rw [c, show (-32768 : Int) = -((32768 : Nat) : Int) by decide, Int.tdiv_neg, show x = ((x.toNat : Nat) : Int) by omega, ← Int.ofNat_tdiv, Nat.div_eq_of_lt (by omega)]; rfl
        · rw [c, show (-32768 : Int) = -((32768 : Nat) : Int) by decide, Int.tdiv_neg, show x = -(((-x).toNat : Nat) : Int) by omega, Int.neg_tdiv, ← Int.ofNat_tdiv, Nat.div_eq_of_lt (by omega)]; rfl
      rw [this]; rfl
  · rw [v_if_f c]
    have hm : -(if (if x < 0 then (-1 : Int) else 0) = (if y < 0 then -1 else 0) then (-1 : Int) else 0) - 1 = if (x < 0 ↔ y < 0) then 0 else -1 := by
      by_cases a : x < 0 <;> by_cases b : y < 0 <;> simp [a, b]
    rw [hm]
    have fin : ∀ (X Y : Nat) (x' y' y4 : Int) th tm, X ≤ 32768 → 1 ≤ Y → Y ≤ 32767 → x' = am_s16 (X : Int) → y' = (Y : Int) → am_s16 (Int.tdiv x y) = (if y4 = 0 then am_s16 ((X / Y : Nat) : Int) else am_s16 (-((X / Y : Nat) : Int))) → vE ky (vD ky d) 8 c_11 (vlab c_11 43) ([x', y'], [0, 0, 0, -32768, y4], th, tm, [], G) = some (.inl (am_s16 (Int.tdiv x y)), G) := by
      intro X Y x' y' y4 th tm h1 h2 h3 h4 h5 h6
      have := go X Y h1 h2 h3 16 0 rfl (-32768) y4 th tm
      rw [Nat.pow_zero, Nat.mul_one, show X / 2 ^ 16 = 0 from Nat.div_eq_of_lt (Nat.lt_of_le_of_lt h1 (by decide)), Nat.zero_div, Nat.zero_mod] at this
      rw [h4, h5, h6]
      refine Eq.trans this ?_
      by_cases z : y4 = 0
      · rw [if_pos z, if_pos z]
      · rw [if_neg z, if_neg z]
    by_cases a : x < 0
    · rw [v_if_t a]
      by_cases b : y < 0
      · rw [w_11_40, v_if_t b]
        refine fin (-x).toNat (-y).toNat _ _ _ _ _ (by omega) (by omega) (by omega) (congrArg am_s16 (by omega)) (by rw [s16_id ⟨by omega, by omega⟩]; omega) ?_
        rw [if_pos (by simp [a, b])]
        rw [show Int.tdiv x y = Int.tdiv (-(((-x).toNat : Nat) : Int)) (-(((-y).toNat : Nat) : Int)) by congr 1 <;> omega, Int.neg_tdiv, Int.tdiv_neg, Int.neg_neg, ← Int.ofNat_tdiv]
      · rw [w_11_40, v_if_f b]
        refine fin (-x).toNat y.toNat _ _ _ _ _ (by omega) (by omega) (by omega) (congrArg am_s16 (by omega)) (by omega) ?_
        rw [if_neg (by simp [a, b])]
        rw [show Int.tdiv x y = Int.tdiv (-(((-x).toNat : Nat) : Int)) ((y.toNat : Nat) : Int) by congr 1 <;> omega, Int.neg_tdiv, ← Int.ofNat_tdiv]
    · rw [v_if_f a]
      by_cases b : y < 0
      · rw [w_11_40, v_if_t b]
        refine fin x.toNat (-y).toNat _ _ _ _ _ (by omega) (by omega) (by omega) (by rw [show ((x.toNat : Nat) : Int) = x by omega, s16_id ⟨by omega, by omega⟩]) (by rw [s16_id ⟨by omega, by omega⟩]; omega) ?_
        rw [if_neg (by simp [a, b])]
        rw [show Int.tdiv x y = Int.tdiv ((x.toNat : Nat) : Int) (-(((-y).toNat : Nat) : Int)) by congr 1 <;> omega, Int.tdiv_neg, ← Int.ofNat_tdiv]
      · rw [w_11_40, v_if_f b]
        refine fin x.toNat y.toNat _ _ _ _ _ (by omega) (by omega) (by omega) (by rw [show ((x.toNat : Nat) : Int) = x by omega, s16_id ⟨by omega, by omega⟩]) (by omega) ?_
        rw [if_pos (by simp [a, b])]
        rw [show Int.tdiv x y = Int.tdiv ((x.toNat : Nat) : Int) ((y.toNat : Nat) : Int) by congr 1 <;> omega, ← Int.ofNat_tdiv]
/-- the root -/
def isq (x r : Int) : Prop := 0 ≤ r ∧ r * r ≤ x ∧ x < (r + 1) * (r + 1)
theorem isq_u {x r s : Int} (h : isq x r) (g : isq x s) : r = s := by
  obtain ⟨h1, h2, h3⟩ := h
  obtain ⟨g1, g2, g3⟩ := g
  have key : ∀ a b : Int, 0 ≤ a → 0 ≤ b → a * a ≤ x → x < (b + 1) * (b + 1) → a ≤ b := by
    intro a b ha hb h1 h2
    apply Int.not_lt.1
    intro z
    have : (b + 1) * (b + 1) ≤ a * a := Int.mul_le_mul (by omega) (by omega) (by omega) ha
    omega
  have := key r s h1 g1 h2 g3
  have := key s r g1 h1 g2 h3
  omega
/-- Math.sqrt -/
theorem v_sqrtn (x : Int) (hx : x < 0) : vD ky (d + 2) 12 [x] G = some (.inr (3, 4), G) := by
  rw [w_12, v_if_t hx, v_err]; rfl
theorem v_sqrt (x : Int) (h1 : 0 ≤ x) (h2 : x ≤ 32767) : ∃ r, isq x r ∧ r ≤ 181 ∧ vD ky (d + 2) 12 [x] G = some (.inl r, G) := by
  have go : ∀ m : Nat, m ≤ 8 → ∀ (y y1 y3 : Int) th tm, 0 ≤ y → y ≤ 181 → y * y ≤ x → x < (y + ((2 ^ m : Nat) : Int)) * (y + ((2 ^ m : Nat) : Int)) → ∃ r, isq x r ∧ r ≤ 181 ∧ vE ky (vD ky (d + 1)) 8 c_12 (vlab c_12 54) ([x], [y, y1, ((2 ^ m / 2 : Nat) : Int), y3], th, tm, [], G) = some (.inl r, G) := by
    intro m
    induction m with
    | zero =>
      intro _ y y1 y3 th tm a1 a2 a3 a4
      refine ⟨y, ⟨a1, a3, a4⟩, a2, ?_⟩
      rw [w_12_54, v_if_f (by decide)]
    | succ m ih =>
      intro hm y y1 y3 th tm a1 a2 a3 a4
      have hp : (2 : Nat) ^ m ≤ 2 ^ 7 := Nat.pow_le_pow_right (by decide) (by omega)
      have hp7 : (2 : Nat) ^ 7 = 128 := by decide
      have hpos := Nat.pow_pos (n := m) (show 0 < 2 by decide)
      have hh : 2 ^ (m + 1) / 2 = 2 ^ m := by rw [Nat.pow_succ]; omega
      have hps : ((2 ^ (m + 1) : Nat) : Int) = 2 * ((2 ^ m : Nat) : Int) := by rw [Nat.pow_succ]; omega
      rw [hh]
      have e1 : am_s16 (y + ((2 ^ m : Nat) : Int)) = y + ((2 ^ m : Nat) : Int) := s16_id ⟨by omega, by omega⟩
      obtain ⟨t, ht⟩ : ∃ t, t = y + ((2 ^ m : Nat) : Int) := ⟨_, rfl⟩
      have ht1 : 0 ≤ t ∧ t ≤ 309 := by omega
      have hdiv : am_s16 (Int.tdiv ((2 ^ m : Nat) : Int) 2) = ((2 ^ m / 2 : Nat) : Int) := by
        rw [show (2 : Int) = ((2 : Nat) : Int) from rfl, ← Int.ofNat_tdiv, s16_id ⟨by omega, by omega⟩]
      rw [w_12_54, v_if_t (by omega), e1, ← ht, v_mul ky d G t t ⟨by omega, by omega⟩ ⟨by omega, by omega⟩]
      show ∃ r, isq x r ∧ r ≤ 181 ∧ v_if (am_and (if t < 182 then -1 else 0) (-(if x < am_s16 (t * t) then -1 else 0) - 1)) _ _ = _
      rw [tf_not, tf_and]
      by_cases c : t < 182
      · have tt : t * t ≤ 181 * 181 := Int.mul_le_mul (by omega) (by omega) (by omega) (by omega)
        have tt0 : 0 ≤ t * t := Int.mul_nonneg ht1.1 ht1.1
        have es : am_s16 (t * t) = t * t := s16_id ⟨by omega, by omega⟩
        rw [es]
        by_cases c2 : x < t * t
        · obtain ⟨r, r1, r2, r3⟩ := ih (by omega) y t (t * t) th none a1 a2 a3 (by rw [← ht]; exact c2)
          refine ⟨r, r1, r2, ?_⟩
          rw [v_if_f (by omega), w_12_58, v_div ky d G _ _ ⟨by omega, by omega⟩ ⟨by omega, by omega⟩ (by decide)]
          show vE ky (vD ky (d + 1)) 8 c_12 (vlab c_12 54) ([x], [y, t, am_s16 (Int.tdiv ((2 ^ m : Nat) : Int) 2), t * t], th, none, [], G) = _
          rw [hdiv]; exact r3
        · obtain ⟨r, r1, r2, r3⟩ := ih (by omega) t t (t * t) th none ht1.1 (by omega) (by omega) (by rw [ht, Int.add_assoc, ← Int.two_mul, ← hps]; exact a4)
          refine ⟨r, r1, r2, ?_⟩
          rw [v_if_t (by omega), w_12_58, v_div ky d G _ _ ⟨by omega, by omega⟩ ⟨by omega, by omega⟩ (by decide)]
          show vE ky (vD ky (d + 1)) 8 c_12 (vlab c_12 54) ([x], [t, t, am_s16 (Int.tdiv ((2 ^ m : Nat) : Int) 2), t * t], th, none, [], G) = _
          rw [hdiv]; exact r3
      · have tt : 182 * 182 ≤ t * t := Int.mul_le_mul (by omega) (by omega) (by omega) (by omega)
        obtain ⟨r, r1, r2, r3⟩ := ih (by omega) y t (am_s16 (t * t)) th none a1 a2 a3 (by rw [← ht]; omega)
        refine ⟨r, r1, r2, ?_⟩
        rw [v_if_f (by omega), w_12_58, v_div ky d G _ _ ⟨by omega, by omega⟩ ⟨by omega, by omega⟩ (by decide)]
        show vE ky (vD ky (d + 1)) 8 c_12 (vlab c_12 54) ([x], [y, t, am_s16 (Int.tdiv ((2 ^ m : Nat) : Int) 2), am_s16 (t * t)], th, none, [], G) = _
        rw [hdiv]; exact r3
  obtain ⟨r, r1, r2, r3⟩ := go 8 (Nat.le_refl _) 0 0 0 none none (by omega) (by omega) (by omega) (by rw [show ((2 ^ 8 : Nat) : Int) = 256 by decide]; omega)
  refine ⟨r, r1, r2, ?_⟩
  rw [w_12, v_if_f (by omega)]
  exact r3
end
theorem s16w (o k : Int) : am_s16 (am_w (o + k)) = am_s16 (o + k) := s16_w _
/-! VM, 4: more depth does no harm -/
theorem vins_G {ky : List Int} {Γ Γ' : vC} (hΓ : ∀ s as G x, Γ s as G = some x → Γ' s as G = some x) {m : Nat} {code : List vl} {F : vF} {l : vl} {r : List vl} {x : vL} {o : vO} (h : vins ky Γ m code F l r x = some o) : vins ky Γ' m code F l r x = some o := by
  obtain ⟨as, ls, th, tm, st, G⟩ := x
  obtain ⟨op, a, b⟩ := l
  by_cases c : op = 15
  · subst c
    have h : cond (Nat.ble b st.length) (v_cl (Γ a (st.take b).reverse G) fun v G => v_ps m (st.drop b) v fun st => F r (as, ls, th, none, st, G)) none = some o := h
    show cond (Nat.ble b st.length) (v_cl (Γ' a (st.take b).reverse G) fun v G => v_ps m (st.drop b) v fun st => F r (as, ls, th, none, st, G)) none = some o
    cases hb : Nat.ble b st.length with
    | false => rw [hb] at h; cases h
    | true =>
      rw [hb, cond_true] at h
      rw [cond_true]
      cases hg : Γ a (st.take b).reverse G with
      | none => rw [hg] at h; cases h
      | some y => rw [hg] at h; rw [hΓ _ _ _ _ hg]; exact h
  · unfold vins at h ⊢
    dsimp only at h ⊢
    split at h
    all_goals first
      | exact h
      | (exfalso; exact c rfl)
theorem vrun_G {ky : List Int} {Γ Γ' : vC} (hΓ : ∀ s as G x, Γ s as G = some x → Γ' s as G = some x) {m : Nat} {code : List vl} : ∀ (n : Nat) (r : List vl) (x : vL) (o : vO), vrun ky Γ m code n r x = some o → vrun ky Γ' m code n r x = some o
  | 0, _, _, _, h => by cases h
  | n + 1, r, x, o, h => by
    have h : vbody ky Γ m code (vrun ky Γ m code n) r x = some o := h
    show vbody ky Γ' m code (vrun ky Γ' m code n) r x = some o
    have h1 : vbody ky Γ m code (vrun ky Γ' m code n) r x = some o := by
      rcases vn_body ky Γ m code r x with ⟨c, hc⟩ | ⟨r', x', hc⟩
      · exact (hc (vrun ky Γ' m code n)).trans ((hc (vrun ky Γ m code n)).symm.trans h)
      · exact (hc (vrun ky Γ' m code n)).trans (vrun_G hΓ n _ _ _ ((hc (vrun ky Γ m code n)).symm.trans h))
    cases r with
    | nil => cases h1
    | cons l r => exact vins_G hΓ h1
theorem vD_mono {ky : List Int} : ∀ {d d' : Nat}, d ≤ d' → ∀ {s as G x}, vD ky d s as G = some x → vD ky d' s as G = some x
  | 0, _, _, s, as, G, x, h => by cases h
  | d + 1, 0, hd, s, as, G, x, h => by cases hd
  | d + 1, d' + 1, hd, s, as, G, x, h => by
    unfold vD at h ⊢
    cases hq : vtab[s]? with
    | none => rw [hq] at h; cases h
    | some q =>
      rw [hq] at h
      dsimp only at h ⊢
      cases hb : Nat.beq as.length q.1 with
      | false => rw [hb] at h; cases h
      | true =>
        rw [hb, cond_true] at h
        rw [cond_true]
        obtain ⟨n, hn⟩ := vE_some.1 h
        exact vE_some.2 ⟨n, vrun_G (fun s as G x hx => vD_mono (Nat.le_of_succ_le_succ hd) hx) n _ _ _ hn⟩
