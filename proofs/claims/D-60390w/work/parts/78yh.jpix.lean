/-! RUN, 6: bits of words, points of the screen -/
theorem s16_bv (x : Int) : am_s16 x = (BitVec.ofInt 16 x).toInt := by rw [BitVec.toInt_ofInt]; rfl
theorem bv_s16 (x : Int) : BitVec.ofInt 16 (am_s16 x) = BitVec.ofInt 16 x := by rw [s16_bv, BitVec.ofInt_toInt]
theorem bv32_16 {x : Int} (h : rg16 x) : BitVec.ofInt 32 x = (BitVec.ofInt 16 x).signExtend 32 := by
  apply BitVec.eq_of_toInt_eq
  rw [BitVec.toInt_signExtend_of_le (by decide), ← s16_bv, s16_id h, BitVec.toInt_ofInt]
  exact p_w (by have := h.1; omega) (by have := h.2; omega)
theorem bv_tr (X : BitVec 32) : BitVec.ofInt 16 X.toInt = X.setWidth 16 := by
  apply BitVec.eq_of_toInt_eq
  rw [← BitVec.signExtend_eq_setWidth_of_le X (by decide), BitVec.toInt_signExtend_eq_toInt_bmod_of_le X (by decide), BitVec.toInt_ofInt]
theorem bv_tr32 (a : Int) : (BitVec.ofInt 32 a).setWidth 16 = BitVec.ofInt 16 a := by
  rw [← bv_tr]
  apply BitVec.eq_of_toInt_eq
  rw [BitVec.toInt_ofInt, BitVec.toInt_ofInt, BitVec.toInt_ofInt]
  exact Int.bmod_bmod_of_dvd (by decide)
theorem se_or (x y : BitVec 16) : x.signExtend 32 ||| y.signExtend 32 = (x ||| y).signExtend 32 := by
  ext i hi
  simp only [BitVec.getElem_or, BitVec.getElem_signExtend, BitVec.msb_or]
  split <;> rfl
theorem se_and (x y : BitVec 16) : x.signExtend 32 &&& y.signExtend 32 = (x &&& y).signExtend 32 := by
  ext i hi
  simp only [BitVec.getElem_and, BitVec.getElem_signExtend, BitVec.msb_and]
  split <;> rfl
theorem or16 {a b : Int} (ha : rg16 a) (hb : rg16 b) : am_or a b = (BitVec.ofInt 16 a ||| BitVec.ofInt 16 b).toInt := by
  show (BitVec.ofInt 32 a ||| BitVec.ofInt 32 b).toInt = _
  rw [bv32_16 ha, bv32_16 hb, se_or, BitVec.toInt_signExtend_of_le (by decide)]
theorem and16 {a b : Int} (ha : rg16 a) (hb : rg16 b) : am_and a b = (BitVec.ofInt 16 a &&& BitVec.ofInt 16 b).toInt := by
  show (BitVec.ofInt 32 a &&& BitVec.ofInt 32 b).toInt = _
  rw [bv32_16 ha, bv32_16 hb, se_and, BitVec.toInt_signExtend_of_le (by decide)]
theorem s16_or (a b : Int) : am_s16 (am_or a b) = (BitVec.ofInt 16 a ||| BitVec.ofInt 16 b).toInt := by
  rw [s16_bv]
  show (BitVec.ofInt 16 (BitVec.ofInt 32 a ||| BitVec.ofInt 32 b).toInt).toInt = _
  rw [bv_tr, BitVec.setWidth_or, bv_tr32, bv_tr32]
theorem s16_and (a b : Int) : am_s16 (am_and a b) = (BitVec.ofInt 16 a &&& BitVec.ofInt 16 b).toInt := by
  rw [s16_bv]
  show (BitVec.ofInt 16 (BitVec.ofInt 32 a &&& BitVec.ofInt 32 b).toInt).toInt = _
  rw [bv_tr, BitVec.setWidth_and, bv_tr32, bv_tr32]
theorem bvi_rg (X : BitVec 16) : rg16 X.toInt := by
  have h1 := BitVec.toInt_lt (x := X)
  have h2 := BitVec.le_toInt (x := X)
  unfold rg16
  have e : (2 : Int) ^ (16 - 1) = 32768 := by decide
  rw [e] at h1 h2
  omega
theorem or_rg {a b : Int} (ha : rg16 a) (hb : rg16 b) : rg16 (am_or a b) := by rw [or16 ha hb]; exact bvi_rg _
theorem and_rg {a b : Int} (ha : rg16 a) (hb : rg16 b) : rg16 (am_and a b) := by rw [and16 ha hb]; exact bvi_rg _
theorem or_s16 {m : Int} (hm : rg16 m) (z : Int) : am_s16 (am_or m z) = am_or m (am_s16 z) := by rw [s16_or, or16 hm (rg16_s z), bv_s16]
theorem not_rg {z : Int} (hz : rg16 z) : rg16 (-z - 1) := ⟨by have := hz.2; omega, by have := hz.1; omega⟩
theorem and_s16 {m : Int} (hm : rg16 m) (z : Int) (hz : -2147483648 ≤ z ∧ z < 2147483648) : am_s16 (am_and m (am_xor z (-1))) = am_and m (-am_s16 z - 1) := by
  rw [p_not z hz, s16_and, and16 hm (not_rg (rg16_s z))]
  have : BitVec.ofInt 16 (-z - 1) = BitVec.ofInt 16 (-am_s16 z - 1) := by
    rw [← bv_s16 (-z - 1), ← bv_s16 (-am_s16 z - 1)]
    congr 1
    rw [← s16_sub_l (-z), ← s16_neg, s16_sub_l]
  rw [this]
theorem shl_pow (k : Nat) (hk : k < 16) : am_shl 1 (k : Int) = ((2 ^ k : Nat) : Int) := by
  have : k = 0 ∨ k = 1 ∨ k = 2 ∨ k = 3 ∨ k = 4 ∨ k = 5 ∨ k = 6 ∨ k = 7 ∨ k = 8 ∨ k = 9 ∨ k = 10 ∨ k = 11 ∨ k = 12 ∨ k = 13 ∨ k = 14 ∨ k = 15 := by omega
  rcases this with rfl | rfl | rfl | rfl | rfl | rfl | rfl | rfl | rfl | rfl | rfl | rfl | rfl | rfl | rfl | rfl <;> decide
/-- a point -/
def pxA (x y : Nat) : Nat := 16384 + 4 * y + x / 16
def pxB (x : Nat) : Int := am_s16 ((2 ^ (x % 16) : Nat) : Int)
def pxV (x y : Nat) (G : vG) : Int := if G.1 19 = 0 then am_and (G.1 (pxA x y)) (-pxB x - 1) else am_or (G.1 (pxA x y)) (pxB x)
def pxG (x y : Nat) (G : vG) : vG := (p_set G.1 (pxA x y) (pxV x y G), G.2)
def rowf (y : Nat) : Nat → Nat → vG → vG
  | 0, _, G => G
  | m + 1, x, G => rowf y m (x + 1) (pxG x y G)
/-- both sides go on alike -/
def JP (ky : List Int) (G : vG) (h : am_H) (G' : vG) (h' : am_H) : Prop := MR ky G' h' ∧ vfr G G' ∧ p_fr jC jF h h' ∧ h' 254 99 = h 254 99 ∧ h' 254 100 = h 254 100
theorem JP.refl {ky : List Int} {G : vG} {h : am_H} (R : MR ky G h) : JP ky G h G h := ⟨R, vfr_refl G, p_fr.refl h, rfl, rfl⟩
theorem JP.trans {ky : List Int} {G G1 G2 : vG} {h h1 h2 : am_H} (a : JP ky G h G1 h1) (b : JP ky G1 h1 G2 h2) : JP ky G h G2 h2 := ⟨b.1, a.2.1.trans b.2.1, a.2.2.1.trans b.2.2.1, b.2.2.2.1.trans a.2.2.2.1, b.2.2.2.2.trans a.2.2.2.2⟩
theorem JP.jo {ky : List Int} {G G1 : vG} {h h1 : am_H} (a : JP ky G h G1 h1) (e : h 254 99 = -1) {v : Int} (hv : rg16 v) : JO ky G h (.inl v, G1) h1 := ⟨a.1, a.2.1, a.2.2.1, a.2.2.2.1.trans e, a.2.2.2.2, hv⟩
section
variable (d L : Nat) {ky : List Int} {G : vG} {h : am_H}
theorem j_point (R : MR ky G h) (x y : Nat) (hx : x ≤ 63) (hy : y ≤ 31) : ∃ h', am_D (d + 2) 17 99 [am_r (am_a 254), am_i (x : Int), am_i (y : Int)] (zS L, h) = pV L h' ∧ JP ky G h (pxG x y G) h' := by
  have hAw : v_pl ((pxA x y : Nat) : Int) := Or.inr (by unfold pxA; omega)
  have ea : am_w (am_w (16384 + am_w (4 * (y : Int))) + am_w (Int.tdiv (x : Int) 16)) = ((pxA x y : Nat) : Int) := by
    rw [show (16 : Int) = ((16 : Nat) : Int) from rfl, ← Int.ofNat_tdiv, p_w (x := 4 * (y : Int)) (by omega) (by omega), p_w (x := 16384 + 4 * (y : Int)) (by omega) (by omega), p_w (x := ((x / 16 : Nat) : Int)) (by omega) (by omega), p_w (by omega) (by omega)]
    unfold pxA; omega
  have eb : am_shl 1 (Int.tmod (x : Int) 16) = ((2 ^ (x % 16) : Nat) : Int) := by
    rw [show (16 : Int) = ((16 : Nat) : Int) from rfl, ← Int.ofNat_tmod, shl_pow _ (by omega)]
  have hp : (2 : Nat) ^ (x % 16) ≤ 2 ^ 15 := Nat.pow_le_pow_right (by decide) (by omega)
  have hp15 : (2 : Nat) ^ 15 = 32768 := by decide
  have em : h 308 (pxA x y) = G.1 (pxA x y) := by have := R.rd hAw; rw [Int.toNat_natCast] at this; exact this
  have r7 := R.rg (pxA x y)
  have hA2 : pxA x y < 16512 := by unfold pxA; omega
  have wr := fun v (hv : rg16 v) => R.wr hAw hv
  rw [Int.toNat_natCast] at wr
  have fin : ∀ v, rg16 v → v = pxV x y G → JP ky G h (pxG x y G) (am_up h 308 (pxA x y) v) := by
    intro v hv e
    unfold pxG
    rw [← e]
    have vf := vfr_wr (G := G) hAw v
    rw [Int.toNat_natCast] at vf
    exact ⟨wr v hv, vf, jfr_wr _ _, up_99, by rw [p_up_c _ _ _ _ _ (by decide)]⟩
  rw [D_17_99, if_neg (by decide), if_neg (by decide), ea, eb, R.2.2.1]
  by_cases c : G.1 19 = 0
  · rw [if_pos c, if_pos rfl, p_idx (by omega) (by omega), m_s16, p_xI, p_idx (by omega) (by omega), Int.toNat_natCast, em, and_s16 r7 _ ⟨by have := Int.natCast_nonneg (2 ^ (x % 16)); omega, by omega⟩]
    exact ⟨_, rfl, fin _ (and_rg r7 (not_rg (rg16_s _))) (by unfold pxV pxB; rw [if_pos c])⟩
  · rw [if_neg c, if_neg (by decide), p_idx (by omega) (by omega), m_s16, p_xI, p_idx (by omega) (by omega), Int.toNat_natCast, em, or_s16 r7]
    exact ⟨_, rfl, fin _ (or_rg r7 (rg16_s _)) (by unfold pxV pxB; rw [if_neg c])⟩
/-- one point on -/
theorem px_next (x y : Nat) (hx : x ≤ 63) (hy : y ≤ 31) : (am_s16 (pxB x + pxB x) = 0 ↔ x % 16 = 15) ∧ (x % 16 = 15 → (pxA (x + 1) y = pxA x y + 1 ∧ pxB (x + 1) = 1)) ∧ (x % 16 ≠ 15 → pxA (x + 1) y = pxA x y ∧ am_s16 (pxB x + pxB x) = pxB (x + 1)) := by
  have e2 : am_s16 (pxB x + pxB x) = am_s16 ((2 ^ (x % 16 + 1) : Nat) : Int) := by
    unfold pxB; rw [s16_add, Nat.pow_succ]; exact congrArg am_s16 (by omega)
  have hp : (2 : Nat) ^ (x % 16 + 1) ≤ 2 ^ 16 := Nat.pow_le_pow_right (by decide) (by omega)
  have hp16 : (2 : Nat) ^ 16 = 65536 := by decide
  refine ⟨?_, fun c => ⟨by unfold pxA; omega, ?_⟩, fun c => ⟨by unfold pxA; omega, ?_⟩⟩
  · rw [e2]
    constructor
    · intro z
      apply Classical.byContradiction
      intro c
      have hp : (2 : Nat) ^ (x % 16 + 1) ≤ 2 ^ 15 := Nat.pow_le_pow_right (by decide) (by omega)
      have hp15 : (2 : Nat) ^ 15 = 32768 := by decide
      have pos := Nat.pow_pos (n := x % 16 + 1) (show 0 < 2 by decide)
      by_cases q : (2 : Nat) ^ (x % 16 + 1) = 32768
      · rw [q] at z; exact absurd z (by decide)
      · rw [s16_id ⟨by omega, by omega⟩] at z; omega
    · intro z; rw [z]; decide
  · unfold pxB; rw [show (x + 1) % 16 = 0 by omega]; decide
  · rw [e2]; unfold pxB; rw [show (x + 1) % 16 = x % 16 + 1 by omega]
theorem pxG_19 (x y : Nat) (hy : y ≤ 31) : (pxG x y G).1 19 = G.1 19 := p_set_n _ _ _ _ (by unfold pxA; omega)
/-- Screen._row -/
theorem v_row (x u y : Nat) (hx : x ≤ u) (hu : u ≤ 63) (hy : y ≤ 31) : vD ky (d + 1) 42 [(x : Int), (u : Int), (y : Int)] G = some (.inl 0, rowf y (u + 1 - x) x G) := by
  have sA : ∀ k, k ≤ 64 → am_s16 (((pxA k y : Nat) : Int) + 1) = ((pxA k y + 1 : Nat) : Int) := fun k hk => by rw [s16_id (by unfold pxA; exact ⟨by omega, by omega⟩)]; omega
  have sK : ∀ k : Nat, k ≤ 64 → am_s16 ((k : Int) + 1) = ((k + 1 : Nat) : Int) := fun k hk => by rw [s16_id ⟨by omega, by omega⟩]; omega
  have loop2 : ∀ (m k : Nat) (G : vG) (th tm : Option Int), k + m = u + 1 → vE ky (vD ky d) 8 c_42 (vlab c_42 114) ([(x : Int), (u : Int), (y : Int)], [((pxA k y : Nat) : Int), pxB k, (k : Int)], th, tm, [], G) = some (.inl 0, rowf y m k G) := by
    intro m
    induction m with
    | zero =>
      intro k G th tm hk
      rw [w_42_114, v_if_nt (by omega)]; rfl
    | succ m ih =>
      intro k G th tm hk
      have nx := px_next k y (by omega) hy
      have sA0 : am_s16 (((pxA k y : Nat) : Int) + 0) = ((pxA k y : Nat) : Int) := by rw [Int.add_zero, s16_id (by unfold pxA; exact ⟨by omega, by omega⟩)]
      have hAw : 16 ≤ ((pxA k y : Nat) : Int) ∧ ((pxA k y : Nat) : Int) < 17000 := by unfold pxA; omega
      have step : ∀ (G : vG) (tm : Option Int), vE ky (vD ky d) 8 c_42 (vlab c_42 119) ([(x : Int), (u : Int), (y : Int)], [((pxA k y : Nat) : Int), pxB k, (k : Int)], th, tm, [], G) = vE ky (vD ky d) 8 c_42 (vlab c_42 114) ([(x : Int), (u : Int), (y : Int)], [((pxA (k + 1) y : Nat) : Int), pxB (k + 1), ((k + 1 : Nat) : Int)], th, tm, [], G) := by
        intro G tm
        rw [w_42_119, sK k (by omega)]
        by_cases c : k % 16 = 15
        · rw [v_if_t (nx.1.2 c), sA k (by omega), (nx.2.1 c).1, (nx.2.1 c).2]
        · rw [v_if_f (fun z => c (nx.1.1 z)), (nx.2.2 c).1, (nx.2.2 c).2]
      rw [w_42_114, v_if_n (by omega), sA0]
      show v_if (G.1 19) _ _ = some (.inl 0, rowf y m (k + 1) (pxG k y G))
      rw [← ih (k + 1) (pxG k y G) th (some (pxV k y G)) (by omega)]
      unfold v_if
      by_cases c : G.1 19 = 0
      · have ev : pxV k y G = am_and (G.1 (pxA k y)) (-pxB k - 1) := if_pos c
        rw [if_pos c, v_rd_m hAw.1 hAw.2, v_wr_m hAw.1 hAw.2, Int.toNat_natCast, step, ← ev]
        rfl
      · have ev : pxV k y G = am_or (G.1 (pxA k y)) (pxB k) := if_neg c
        rw [if_neg c, v_rd_m hAw.1 hAw.2, v_wr_m hAw.1 hAw.2, Int.toNat_natCast, step, ← ev]
        rfl
  have loop1 : ∀ (m k : Nat) (th tm : Option Int), k + m = x → vE ky (vD ky d) 8 c_42 (vlab c_42 109) ([(x : Int), (u : Int), (y : Int)], [((pxA k y : Nat) : Int), pxB k, (k : Int)], th, tm, [], G) = some (.inl 0, rowf y (u + 1 - x) x G) := by
    intro m
    induction m with
    | zero =>
      intro k th tm hk
      have : k = x := by omega
      subst this
      rw [w_42_109, v_if_f (by omega)]
      exact loop2 _ _ _ _ _ (by omega)
    | succ m ih =>
      intro k th tm hk
      have nx := px_next k y (by omega) hy
      rw [w_42_109, v_if_t (by omega), sK k (by omega)]
      by_cases c : k % 16 = 15
      · rw [v_if_t (nx.1.2 c), sA k (by omega), ← (nx.2.1 c).1, ← (nx.2.1 c).2]
        exact ih (k + 1) th tm (by omega)
      · rw [v_if_f (fun z => c (nx.1.1 z)), (nx.2.2 c).2, ← (nx.2.2 c).1]
        exact ih (k + 1) th tm (by omega)
  have e4 : am_s16 (am_s16 (am_s16 (am_s16 (16384 + (y : Int)) + (y : Int)) + (y : Int)) + (y : Int)) = ((pxA 0 y : Nat) : Int) := by
    rw [s16_id (x := 16384 + (y : Int)) ⟨by omega, by omega⟩, s16_id (x := 16384 + (y : Int) + (y : Int)) ⟨by omega, by omega⟩, s16_id (x := 16384 + (y : Int) + (y : Int) + (y : Int)) ⟨by omega, by omega⟩, s16_id ⟨by omega, by omega⟩]; unfold pxA; omega
  rw [w_42, e4]
  exact loop1 x 0 none none (by omega)
/-- a row of points on both sides -/
theorem j_row (y : Nat) (hy : y ≤ 31) : ∀ (m x : Nat) (G : vG) (h : am_H), x + m ≤ 64 → MR ky G h → (∀ (k : Nat → am_H → Option am_O), (∀ (x' : Nat) (h' : am_H) h1, am_D (d + 2) 17 99 [am_r (am_a 254), am_i (x' : Int), am_i (y : Int)] (zS L, h') = pV L h1 → x' < x + m → x ≤ x' → k x' h' = k (x' + 1) h1) → ∃ h1, k x h = k (x + m) h1 ∧ JP ky G h (rowf y m x G) h1) := by
  intro m
  induction m with
  | zero => intro x G h hx R k hk; exact ⟨h, rfl, JP.refl R⟩
  | succ m ih =>
    intro x G h hx R k hk
    obtain ⟨h1, a1, a2⟩ := j_point d L R x y (by omega) hy
    obtain ⟨h2, b1, b2⟩ := ih (x + 1) (pxG x y G) h1 (by omega) a2.1 k (fun x' h' h1 e1 e2 e3 => hk x' h' h1 e1 (by omega) (by omega))
    refine ⟨h2, ?_, a2.trans b2⟩
    rw [hk x h h1 a1 (by omega) (Nat.le_refl _), b1, show x + 1 + m = x + (m + 1) by omega]
end
