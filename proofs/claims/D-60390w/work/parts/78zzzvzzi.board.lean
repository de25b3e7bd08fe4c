/-! CHIPS, 61: the board as it stands on both sides -/
theorem cq_orn (a b : Nat) (ha : a < 65536) (hb : b < 65536) : am_or (a : Int) (b : Int) = ((a ||| b : Nat) : Int) := by
  have h1 : am_or (a : Int) (b : Int) = (BitVec.ofInt 32 (a : Int) ||| BitVec.ofInt 32 (b : Int)).toInt := rfl
  have h2 : (BitVec.ofInt 32 (a : Int) ||| BitVec.ofInt 32 (b : Int)).toNat = a ||| b := by
    rw [BitVec.toNat_or, p_bvn, p_bvn]
    congr 1 <;> omega
  have h3 : a ||| b < 2 ^ 16 := Nat.or_lt_two_pow (by omega) (by omega)
  have e16 : (2 : Nat) ^ 16 = 65536 := rfl
  have e32 : (2 : Nat) ^ 32 = 4294967296 := rfl
  rw [h1, BitVec.toInt_eq_toNat_cond, h2, if_pos (by omega)]
theorem cq_or0 (a : Nat) (ha : a < 65536) : am_or (a : Int) 0 = (a : Int) := by
  have := cq_orn a 0 ha (by decide)
  rwa [Nat.or_zero] at this
theorem cq_orp (a i : Nat) (hi : i < 16) (ha : a < 2 ^ i) : am_or (a : Int) ((2 ^ i : Nat) : Int) = ((a + 2 ^ i : Nat) : Int) := by
  have hp : 2 ^ i ≤ 2 ^ 15 := Nat.pow_le_pow_right (by omega) (by omega)
  have e15 : (2 : Nat) ^ 15 = 32768 := rfl
  rw [cq_orn a (2 ^ i) (by omega) (by omega)]
  have := Nat.two_pow_add_eq_or_of_lt ha 1
  rw [Nat.mul_one] at this
  rw [Nat.or_comm, ← this, Nat.add_comm]
theorem cq_shl (k : Nat) (hk : k < 16) : am_shl 1 (k : Int) = ((2 ^ k : Nat) : Int) := by
  have : k = 0 ∨ k = 1 ∨ k = 2 ∨ k = 3 ∨ k = 4 ∨ k = 5 ∨ k = 6 ∨ k = 7 ∨ k = 8 ∨ k = 9 ∨ k = 10 ∨ k = 11 ∨ k = 12 ∨ k = 13 ∨ k = 14 ∨ k = 15 := by omega
  rcases this with rfl | rfl | rfl | rfl | rfl | rfl | rfl | rfl | rfl | rfl | rfl | rfl | rfl | rfl | rfl | rfl <;> decide
/-- a number of bits, from below, from above -/
def bvs (f : Nat → Int) : Nat → Int
  | 0 => 0
  | n + 1 => bvs f n + f n * ((2 ^ n : Nat) : Int)
def dvs (f : Nat → Int) : Nat → Nat → Int
  | 0, _ => 0
  | m + 1, i => 2 * dvs f m (i + 1) + f i
theorem dvs_s (f : Nat → Int) : ∀ (m i : Nat), dvs f (m + 1) i = dvs f m i + f (i + m) * ((2 ^ m : Nat) : Int)
  | 0, i => by
    show 2 * 0 + f i = 0 + f (i + 0) * ((2 ^ 0 : Nat) : Int)
    rw [Nat.add_zero, Nat.pow_zero]; omega
  | m + 1, i => by
    show 2 * dvs f (m + 1) (i + 1) + f i = (2 * dvs f m (i + 1) + f i) + f (i + (m + 1)) * ((2 ^ (m + 1) : Nat) : Int)
    rw [dvs_s f m (i + 1), show i + 1 + m = i + (m + 1) by omega, Nat.pow_succ, Int.natCast_mul, ← Int.mul_assoc]
    omega
theorem bvs_d (f : Nat → Int) : ∀ n, bvs f n = dvs f n 0
  | 0 => rfl
  | n + 1 => by
    rw [dvs_s, Nat.zero_add, ← bvs_d f n]; rfl
theorem bvs_rg {f : Nat → Int} : ∀ n, (∀ i, i < n → f i = 0 ∨ f i = 1) → 0 ≤ bvs f n ∧ bvs f n < ((2 ^ n : Nat) : Int)
  | 0, _ => by show (0 : Int) ≤ 0 ∧ (0 : Int) < ((2 ^ 0 : Nat) : Int); decide
  | n + 1, h => by
    have ih := bvs_rg n (fun i hi => h i (by omega))
    show 0 ≤ bvs f n + f n * ((2 ^ n : Nat) : Int) ∧ bvs f n + f n * ((2 ^ n : Nat) : Int) < ((2 ^ (n + 1) : Nat) : Int)
    have e : ((2 ^ (n + 1) : Nat) : Int) = ((2 ^ n : Nat) : Int) + ((2 ^ n : Nat) : Int) := by rw [Nat.pow_succ, Int.natCast_mul]; omega
    rw [e]
    rcases h n (by omega) with z | z <;> rw [z] <;> omega
section
variable (c np ni P0 G Bt ib : Nat) (ws : List Int) (o ra rb oM : Nat → Nat) (sa sb lev lev' : Nat → Int) (R : Nat → Nat → Prop) (zc zm : Nat → Prop) (ord ord' : List Nat)
/-- pins -/
def BNp (h : am_H) : Prop := (c < 16 ∧ (ws.length = np ∧ np ≤ 12 ∧ ni < np) ∧ P0 + np ≤ 192 ∧ (∀ w ∈ ws, 1 ≤ w ∧ w ≤ 16) ∧ ib = wfl ws ni ∧ wfl ws np ≤ Bt) ∧ (h 195 18 = ((84 + 7 * c : Nat) : Int) ∧ h (83 + 7 * c) 2 = (np : Int) ∧ h (83 + 7 * c) 3 = (ni : Int) ∧ ∀ k, k < np → h (83 + 7 * c + 2) k = ws.getD k 1 ∧ h 206 k = ((2 + wfl ws k : Nat) : Int)) ∧ (h 254 174 = (c : Int) ∧ h 329 c = (P0 : Int) ∧ h 329 (c + 1) = ((P0 + np : Nat) : Int) ∧ ∀ k, k < np → h 330 (P0 + k) = (if ni ≤ k then 1 else 0) ∧ h 332 (P0 + k) = ws.getD k 1)
/-- gates and bits, their orders -/
def BNg (h : am_H) : Prop := PB Bt G ib (h 201) (h 356) (h 357) o ra rb oM sa sb R zc zm ∧ (∀ i, i < G → h 198 i = (ra i : Int) ∧ h 199 i = (rb i : Int) ∧ h 200 i = (o i : Int)) ∧ (∀ j, j < G → h 361 j = sa j ∧ h 362 j = sb j ∧ h 358 j + (if h 357 j = 0 then 2 else 1) = (oM j : Int) ∧ h 359 j = lev' j) ∧ (OD G (fun i => h 201 i = 0) (fun i => pOf G (fun i => h 201 i = 0) o (ra i)) (fun i => pOf G (fun i => h 201 i = 0) o (rb i)) ord lev ∧ OD G (fun i => h 357 i = 0) (fun i => mOf (h 356) (h 357) (sa i)) (fun i => mOf (h 356) (h 357) (sb i)) ord' lev' ∧ ∀ i j, R i j → lev i = lev' j) ∧ ((h 195 15 = (ord.length : Int) ∧ ∀ (t i : Nat), ord[t]? = some i → h 203 t = (i : Int)) ∧ h 254 166 = (ord'.length : Int) ∧ ∀ (t i : Nat), ord'[t]? = some i → h 360 t = (i : Int)) ∧ (h 195 9 = (G : Int) ∧ h 254 161 = (G : Int) ∧ h 195 10 = (ord.length : Int) ∧ h 195 11 = (G : Int) - (ord.length : Int) ∧ h 36 6 = h 254 122) ∧ MXL ord lev (h 195 16) ∧ ∀ x, ib ≤ x → x < wfl ws np → ∃ N N' r s, FD (h 196) (2 + Bt) N (2 + x) r ∧ SD (h 355) (h 356) N' (x : Int) s ∧ rrx ib o oM R zc zm r s
def BNx (h : am_H) : Prop := BNp c np ni P0 Bt ib ws h ∧ BNg np G Bt ib ws o ra rb oM sa sb lev lev' R zc zm ord ord' h
/-- what changes while the board works -/
def bwC : List Nat := [197, 202, 363, 366]
def bwF : List (Nat × Nat) := [(195, 17), (254, 173)]
end
section
variable {d L : Nat} {c np ni P0 G Bt ib : Nat} {ws : List Int} {o ra rb oM : Nat → Nat} {sa sb lev lev' : Nat → Int} {R : Nat → Nat → Prop} {zc zm : Nat → Prop} {ord ord' : List Nat} {h h' : am_H}
theorem BNp.fr (B : BNp c np ni P0 Bt ib ws h) (f : p_fr bwC bwF h h') : BNp c np ni P0 Bt ib ws h' := by
  obtain ⟨b1, ⟨b2, b3, b4, b5⟩, b6, b7, b8, b9⟩ := B
  have c8 : 83 + 7 * c < 195 := by omega
  have u1 : ∀ k, h' (83 + 7 * c) k = h (83 + 7 * c) k := fun k => f _ k (by unfold bwC; simp; omega) (by unfold bwF; simp; omega)
  have u2 : ∀ k, h' (83 + 7 * c + 2) k = h (83 + 7 * c + 2) k := fun k => f _ k (by unfold bwC; simp; omega) (by unfold bwF; simp; omega)
  refine ⟨b1, ⟨by rw [f 195 18 rfl rfl]; exact b2, by rw [u1]; exact b3, by rw [u1]; exact b4, fun k hk => by rw [u2, f.cell 206 rfl rfl]; exact b5 k hk⟩, by rw [f 254 174 rfl rfl]; exact b6, by rw [f.cell 329 rfl rfl]; exact b7, by rw [f.cell 329 rfl rfl]; exact b8, fun k hk => by rw [f.cell 330 rfl rfl, f.cell 332 rfl rfl]; exact b9 k hk⟩
theorem BNx.fr (B : BNx c np ni P0 G Bt ib ws o ra rb oM sa sb lev lev' R zc zm ord ord' h) (f : p_fr bwC bwF h h') : BNx c np ni P0 G Bt ib ws o ra rb oM sa sb lev lev' R zc zm ord ord' h' := by
  refine ⟨B.1.fr f, ?_⟩
  have := B.2
  unfold BNg
  rw [f.cell 201 rfl rfl, f.cell 356 rfl rfl, f.cell 357 rfl rfl, f.cell 198 rfl rfl, f.cell 199 rfl rfl, f.cell 200 rfl rfl, f.cell 361 rfl rfl, f.cell 362 rfl rfl, f.cell 358 rfl rfl, f.cell 359 rfl rfl, f 195 15 rfl rfl, f.cell 203 rfl rfl, f 254 166 rfl rfl, f.cell 360 rfl rfl, f 195 9 rfl rfl, f 254 161 rfl rfl, f 195 10 rfl rfl, f 195 11 rfl rfl, f 36 6 rfl rfl, f 254 122 rfl rfl, f 195 16 rfl rfl, f.cell 196 rfl rfl, f.cell 355 rfl rfl]
  exact this
theorem BNx.mem (B : BNx c np ni P0 G Bt ib ws o ra rb oM sa sb lev lev' R zc zm ord ord' h) : ∀ i j, R i j → (i ∈ ord ↔ j ∈ ord') := by
  obtain ⟨-, P, -, -, ⟨O1, O2, E⟩, -⟩ := B
  exact (pb_ord P O1 O2 E).1
theorem BNx.len (B : BNx c np ni P0 G Bt ib ws o ra rb oM sa sb lev lev' R zc zm ord ord' h) : ord.length = ord'.length ∧ ord.length ≤ 1500 := by
  obtain ⟨-, P, -, -, ⟨O1, O2, E⟩, -⟩ := B
  have := O1.len
  have := P.1.1
  exact ⟨(pb_ord P O1 O2 E).2.1, by omega⟩
/-- both settle -/
theorem bn_cset (B : BNx c np ni P0 G Bt ib ws o ra rb oM sa sb lev lev' R zc zm ord ord' h) : ∃ h', am_D (d + 1) 2 12 [am_r (am_a 195)] (zS L, h) = pV L h' ∧ h' 197 = stl o (fC ra rb) ord (h 197) ∧ p_fr [197] [] h h' := by
  have l := B.len
  obtain ⟨-, P, X1, X2, ⟨O1, O2, E⟩, ⟨⟨e1, e2⟩, e3, e4⟩, -⟩ := B
  refine cs_settle (fun i hi => ?_) e1 e2 l.2
  obtain ⟨i1, i2⟩ := O1.2.1 i hi
  obtain ⟨j, r⟩ := P.2.2.1.1 i i1
  obtain ⟨-, a1, a2, -⟩ := P.2.1 i j r
  have g1 := P.1
  have b1 := (rr_s P a1).1
  have b2 := (rr_s P (a2 i2)).1
  have b3 := P.2.2.2.1 i i1
  obtain ⟨x1, x2, x3⟩ := X1 i i1
  exact ⟨by omega, ⟨x1, by omega⟩, ⟨x2, by omega⟩, x3, by omega⟩
theorem bn_mset (B : BNx c np ni P0 G Bt ib ws o ra rb oM sa sb lev lev' R zc zm ord ord' h) (h01 : ∀ x, x < Bt → h 363 x = 0 ∨ h 363 x = 1) : ∃ h', am_D (d + 2) 17 182 [am_r (am_a 254)] (zS L, h) = pV L h' ∧ h' 363 = stl oM (fN sa sb) ord' (h 363) ∧ p_fr [363] [] h h' := by
  have l := B.len
  obtain ⟨-, P, X1, X2, ⟨O1, O2, E⟩, ⟨⟨e1, e2⟩, e3, e4⟩, -⟩ := B
  have g1 := P.1
  refine ms_settle (by omega) (fun j hj => ?_) e3 e4 (by omega) h01
  obtain ⟨j1, j2⟩ := O2.2.1 j hj
  obtain ⟨i, r⟩ := P.2.2.1.2.1 j j1
  obtain ⟨⟨-, -, dq, -⟩, a1, a2, -⟩ := P.2.1 i j r
  have b1 := (rr_s P a1).2.1
  have b2 := (rr_s P (a2 (by rw [dq]; exact j2))).2.1
  have b3 := P.2.2.2.2.1 j j1
  obtain ⟨x1, x2, x3, -⟩ := X2 j j1
  rw [if_pos j2] at x3
  exact ⟨by omega, ⟨x1, b1⟩, ⟨x2, b2⟩, x3, b3.2.1⟩
theorem bn_vset (B : BNx c np ni P0 G Bt ib ws o ra rb oM sa sb lev lev' R zc zm ord ord' h) {S M : Nat → Int} (v : VRx Bt ib o oM R zc zm S M) : VRx Bt ib o oM R zc zm (stl o (fC ra rb) ord S) (stl oM (fN sa sb) ord' M) := by
  have m := B.mem
  obtain ⟨-, P, X1, X2, ⟨O1, O2, E⟩, -⟩ := B
  exact pb_set P O1 O2 m v
/-- pinPlace -/
theorem ws_rg (B : BNp c np ni P0 Bt ib ws h) (k : Nat) : 1 ≤ ws.getD k 1 ∧ ws.getD k 1 ≤ 16 := getD_rg B.1.2.2.2.1 k
theorem wfl_rg (B : BNp c np ni P0 Bt ib ws h) : ∀ k, k ≤ 12 → wfl ws k ≤ 16 * k
  | 0, _ => Nat.le_refl _
  | k + 1, hk => by
    have := wfl_rg B k (by omega)
    have := ws_rg B k
    show wfl ws k + (ws.getD k 1).toNat ≤ _
    omega
theorem bp_loop (B : BNp c np ni P0 Bt ib ws h) (u1 : Option am_V) {n : Nat} (hn : n ≤ np) : ∀ (m j : Nat), j + m = n → am_E (am_D d) m_17_171 (.inl 1) [some (am_r (am_a 254)), u1, some (am_i ((P0 + n : Nat) : Int)), some (am_i ((wfl ws j : Nat) : Int)), some (am_i ((P0 + j : Nat) : Int))] [] (zS L, h) = pI L ((wfl ws n : Nat) : Int) h
  | 0, j, hm => by rw [q_17_171_1, if_neg (by omega), show j = n by omega]
  | m + 1, j, hm => by
    have B' := B
    obtain ⟨⟨b0, ⟨b1, b2, b3⟩, b4, -⟩, -, -, -, -, b5⟩ := B
    have wr := ws_rg B' j
    have wb := wfl_rg B' j (by omega)
    have wse : wfl ws (j + 1) = wfl ws j + (ws.getD j 1).toNat := rfl
    rw [q_17_171_1, if_pos (by omega), p_idx (by omega) (by omega), Int.toNat_natCast, (b5 j (by omega)).2, p_w (by omega) (by omega), p_w (by omega) (by omega), show ((wfl ws j : Nat) : Int) + ws.getD j 1 = ((wfl ws (j + 1) : Nat) : Int) by rw [wse]; omega, show ((P0 + j : Nat) : Int) + 1 = ((P0 + (j + 1) : Nat) : Int) by omega]
    exact bp_loop B' u1 hn m (j + 1) (by omega)
theorem bp_place (B : BNp c np ni P0 Bt ib ws h) {n : Nat} (hn : n ≤ np) : am_D (d + 1) 17 171 [am_r (am_a 254), am_i (c : Int), am_i ((P0 + n : Nat) : Int)] (zS L, h) = pI L ((wfl ws n : Nat) : Int) h := by
  have c0 := B.1.1
  rw [D_17_171, p_idx (by omega) (by omega), Int.toNat_natCast, B.2.2.2.1]
  exact bp_loop B _ hn n 0 (by omega)
/-- boardPin: OUT, IN -/
theorem bp_out (B : BNp c np ni P0 Bt ib ws h) (e : h 254 152 = 1) {x1 : Int} (h0 : 0 ≤ x1) (h31 : x1 < 2147483648) : ∀ (m j : Nat) {x3 : Int}, j + m = np → x3 = (if j ≤ ni then x1 else x1 + ni - j) → 0 ≤ x3 → am_E (am_D d) m_17_184 (.inl 1) [some (am_r (am_a 254)), some (am_i x1), some (am_i 1), some (am_i x3), some (am_i ((P0 + j : Nat) : Int))] [] (zS L, h) = pI L (if x1 + ni < np then (P0 : Int) + ni + x1 else -1) h
  | 0, j, x3, hm, e3, p3 => by
    obtain ⟨⟨b0, ⟨b1, b2, b3⟩, b4, -⟩, -, b6, b7, b8, b5⟩ := B
    rw [if_neg (by omega)] at e3
    rw [q_17_184_1, e, if_neg (by decide), if_neg (by omega), b6, p_w (by omega) (by omega), p_idx (by omega) (by omega), show ((c : Int) + 1).toNat = c + 1 by omega, b8, if_neg (by omega), if_neg (by omega)]
  | m + 1, j, x3, hm, e3, p3 => by
    have B' := B
    obtain ⟨⟨b0, ⟨b1, b2, b3⟩, b4, -⟩, -, b6, b7, b8, b5⟩ := B
    rw [q_17_184_1, e, if_neg (by decide), if_neg (by omega), b6, p_w (by omega) (by omega), p_idx (by omega) (by omega), show ((c : Int) + 1).toNat = c + 1 by omega, b8, if_pos (by omega), p_idx (by omega) (by omega), Int.toNat_natCast, (b5 j (by omega)).1, p_w (x := ((P0 + j : Nat) : Int) + 1) (by omega) (by omega), show ((P0 + j : Nat) : Int) + 1 = ((P0 + (j + 1) : Nat) : Int) by omega]
    by_cases c1 : ni ≤ j
    · have e3' : x3 = x1 + ni - j := by
        rw [e3]; by_cases w : j ≤ ni
        · rw [if_pos w]; omega
        · rw [if_neg w]
      rw [if_pos c1, if_pos rfl]
      by_cases c2 : x3 = 0
      · rw [if_pos c2, if_pos (by omega), show ((P0 + j : Nat) : Int) = (P0 : Int) + ni + x1 by omega]
      · rw [if_neg c2, p_w (x := x3 - 1) (by omega) (by omega)]
        exact bp_out B' e h0 h31 m (j + 1) (by omega) (by rw [if_neg (by omega)]; omega) (by omega)
    · rw [if_neg c1, if_neg (show ¬ (0 : Int) = 1 by decide)]
      exact bp_out B' e h0 h31 m (j + 1) (by omega) (by rw [if_pos (by omega)]; rw [if_pos (by omega)] at e3; exact e3) p3
theorem bp_inn (B : BNp c np ni P0 Bt ib ws h) (e : h 254 152 = 1) {x1 : Int} (h0 : 0 ≤ x1) (h31 : x1 < 2147483648) : ∀ (m j : Nat) {x3 : Int}, j + m = np → x3 = (if j ≤ ni then x1 - j else x1 - ni) → 0 ≤ x3 → am_E (am_D d) m_17_184 (.inl 1) [some (am_r (am_a 254)), some (am_i x1), some (am_i 0), some (am_i x3), some (am_i ((P0 + j : Nat) : Int))] [] (zS L, h) = pI L (if x1 < ni then (P0 : Int) + x1 else -1) h
  | 0, j, x3, hm, e3, p3 => by
    obtain ⟨⟨b0, ⟨b1, b2, b3⟩, b4, -⟩, -, b6, b7, b8, b5⟩ := B
    rw [if_neg (by omega)] at e3
    rw [q_17_184_1, e, if_neg (by decide), if_neg (by omega), b6, p_w (by omega) (by omega), p_idx (by omega) (by omega), show ((c : Int) + 1).toNat = c + 1 by omega, b8, if_neg (by omega), if_neg (by omega)]
  | m + 1, j, x3, hm, e3, p3 => by
    have B' := B
    obtain ⟨⟨b0, ⟨b1, b2, b3⟩, b4, -⟩, -, b6, b7, b8, b5⟩ := B
    rw [q_17_184_1, e, if_neg (by decide), if_neg (by omega), b6, p_w (by omega) (by omega), p_idx (by omega) (by omega), show ((c : Int) + 1).toNat = c + 1 by omega, b8, if_pos (by omega), p_idx (by omega) (by omega), Int.toNat_natCast, (b5 j (by omega)).1, p_w (x := ((P0 + j : Nat) : Int) + 1) (by omega) (by omega), show ((P0 + j : Nat) : Int) + 1 = ((P0 + (j + 1) : Nat) : Int) by omega]
    by_cases c1 : ni ≤ j
    · have e3' : x3 = x1 - ni := by
        rw [e3]; by_cases w : j ≤ ni
        · rw [if_pos w]; omega
        · rw [if_neg w]
      rw [if_pos c1, if_neg (show ¬ (1 : Int) = 0 by decide)]
      exact bp_inn B' e h0 h31 m (j + 1) (by omega) (by rw [if_neg (by omega)]; exact e3') p3
    · rw [if_pos (by omega)] at e3
      rw [if_neg c1, if_pos rfl]
      by_cases c2 : x3 = 0
      · rw [if_pos c2, if_pos (by omega), show ((P0 + j : Nat) : Int) = (P0 : Int) + x1 by omega]
      · rw [if_neg c2, p_w (x := x3 - 1) (by omega) (by omega)]
        exact bp_inn B' e h0 h31 m (j + 1) (by omega) (by rw [if_pos (by omega)]; omega) (by omega)
theorem bp_pin (B : BNp c np ni P0 Bt ib ws h) (e : h 254 152 = 1) {x1 : Int} (h31 : x1 < 2147483648) : am_D (d + 1) 17 184 [am_r (am_a 254), am_i x1, am_i 1] (zS L, h) = pI L (if 0 ≤ x1 ∧ x1 + ni < np then (P0 : Int) + ni + x1 else -1) h ∧ am_D (d + 1) 17 184 [am_r (am_a 254), am_i x1, am_i 0] (zS L, h) = pI L (if 0 ≤ x1 ∧ x1 < ni then (P0 : Int) + x1 else -1) h := by
  have c0 := B.1.1
  have b6 := B.2.2.1
  have b7 := B.2.2.2.1
  rw [D_17_184, D_17_184, b6, p_idx (by omega) (by omega), Int.toNat_natCast, p_idx (by omega) (by omega), Int.toNat_natCast, b7]
  by_cases z : 0 ≤ x1
  · refine ⟨?_, ?_⟩
    · have := bp_out (d := d) (L := L) B e z h31 np 0 (x3 := x1) (by omega) (by rw [if_pos (Nat.zero_le _)]) z
      rw [Nat.add_zero] at this
      rw [this]
      congr 1
      by_cases w : x1 + ni < np
      · rw [if_pos w, if_pos ⟨z, w⟩]
      · rw [if_neg w, if_neg (fun q => w q.2)]
    · have := bp_inn (d := d) (L := L) B e z h31 np 0 (x3 := x1) (by omega) (by rw [if_pos (Nat.zero_le _)]; omega) z
      rw [Nat.add_zero] at this
      rw [this]
      congr 1
      by_cases w : x1 < ni
      · rw [if_pos w, if_pos ⟨z, w⟩]
      · rw [if_neg w, if_neg (fun q => w q.2)]
  · refine ⟨?_, ?_⟩
    · rw [q_17_184_1, e, if_neg (by decide), if_pos (by omega), if_neg (show ¬ (0 ≤ x1 ∧ x1 + ni < np) from fun q => z q.1)]
    · rw [q_17_184_1, e, if_neg (by decide), if_pos (by omega), if_neg (show ¬ (0 ≤ x1 ∧ x1 < ni) from fun q => z q.1)]
end
