/-! RUN, 4: numbers as letters, on both sides -/
section
variable (d L : Nat) {ky : List Int} {G : vG} {h : am_H}
theorem p_wn (n : Nat) (h : n < 2147483648) : am_w (n : Int) = (n : Int) := p_w (by omega) (by omega)
theorem ap_ex (ky : List Int) (o c : Int) (G : vG) : ∃ x : vO, x.2.2 = G.2 ∧ ∀ d, vD ky (d + 2) 20 [o, c] G = some x := by
  by_cases c1 : v_pl (am_s16 (o + 1))
  · by_cases c0 : v_pl (am_s16 (o + 0))
    · by_cases c2 : G.1 (am_s16 (o + 1)).toNat < G.1 (am_s16 (o + 0)).toNat
      · by_cases c3 : v_pl (am_s16 (o + am_s16 (2 + G.1 (am_s16 (o + 1)).toNat)))
        · exact ⟨(.inl o, (p_set (p_set G.1 (am_s16 (o + am_s16 (2 + G.1 (am_s16 (o + 1)).toNat))).toNat c) (am_s16 (o + 1)).toNat (am_s16 (G.1 (am_s16 (o + 1)).toNat + 1)), G.2)), rfl, fun d => by rw [w_20, v_rc_t c1, v_rc_t c0, v_if_nt c2, w_20_72, v_wc_t c3, v_wc_t c1]⟩
        · exact ⟨(.inr (3, 20), G), rfl, fun d => by rw [w_20, v_rc_t c1, v_rc_t c0, v_if_nt c2, w_20_72, v_wc_f c3]⟩
      · exact ⟨(.inr (3, 17), G), rfl, fun d => by rw [w_20, v_rc_t c1, v_rc_t c0, v_if_n c2, v_err, v_cl_r]⟩
    · exact ⟨(.inr (3, 20), G), rfl, fun d => by rw [w_20, v_rc_t c1, v_rc_f c0]⟩
  · exact ⟨(.inr (3, 20), G), rfl, fun d => by rw [w_20, v_rc_f c1]⟩
/-- a letter behind a string -/
noncomputable def ap (ky : List Int) (o c : Int) (G : vG) : vO := match vD ky 2 20 [o, c] G with
  | some x => x
  | none => (.inl 0, G)
theorem ap_d (o c : Int) : vD ky (d + 2) 20 [o, c] G = some (ap ky o c G) := by
  obtain ⟨x, -, hx⟩ := ap_ex ky o c G
  have : ap ky o c G = x := by unfold ap; rw [hx 0]
  rw [hx d, this]
theorem ap_2 (o c : Int) : (ap ky o c G).2.2 = G.2 := by
  obtain ⟨x, h2, hx⟩ := ap_ex ky o c G
  unfold ap; rw [hx 0]; exact h2
theorem tdiv10 (x : Int) (hx : rg16 x) : rg16 (Int.tdiv x 10) ∧ (Int.tdiv x 10).natAbs = x.natAbs / 10 ∧ (x - Int.tdiv x 10 * 10).natAbs = x.natAbs % 10 ∧ rg16 (Int.tdiv x 10 * 10) ∧ rg16 (x - Int.tdiv x 10 * 10) := by
  obtain ⟨h1, h2⟩ := hx
  unfold rg16
  by_cases c : 0 ≤ x
  · obtain ⟨n, rfl⟩ := Int.eq_ofNat_of_zero_le c
    rw [show (10 : Int) = ((10 : Nat) : Int) from rfl, ← Int.ofNat_tdiv]
    omega
  · obtain ⟨n, hn⟩ : ∃ n : Nat, x = -(n : Int) := ⟨(-x).toNat, by omega⟩
    subst hn
    rw [show (10 : Int) = ((10 : Nat) : Int) from rfl, Int.neg_tdiv, ← Int.ofNat_tdiv]
    omega
/-- one digit -/
theorem dig_s (x : Int) (hx : rg16 x) : am_s16 (48 + (if am_s16 (x - Int.tdiv x 10 * 10) < 0 then am_s16 (-am_s16 (x - Int.tdiv x 10 * 10)) else am_s16 (x - Int.tdiv x 10 * 10))) = 48 + ((x.natAbs % 10 : Nat) : Int) := by
  obtain ⟨-, -, t3, -, t5⟩ := tdiv10 x hx
  rw [s16_id t5]
  by_cases c : x - Int.tdiv x 10 * 10 < 0
  · rw [if_pos c, s16_id (x := -(x - Int.tdiv x 10 * 10)) ⟨by have := t5.1; omega, by have := t5.1; omega⟩, s16_id ⟨by omega, by omega⟩]; omega
  · rw [if_neg c, s16_id ⟨by omega, by omega⟩]; omega
/-- String._digits -/
theorem v_digS (o : Int) : ∀ (k d : Nat) (x : Int) (G : vG), rg16 x → dgn k x.natAbs → vD ky (d + k + 3) 24 [o, x] G = some (vem (ap ky o) (dlf k x.natAbs) G)
  | 0, d, x, G, hx, hd => by
    have t := tdiv10 x hx
    have hz : x.natAbs < 10 := hd.1
    have e0 : Int.tdiv x 10 = 0 := by omega
    have ds := dig_s x hx
    rw [e0, Int.zero_mul] at ds
    rw [w_24, v_div ky _ G x 10 hx ⟨by decide, by decide⟩ (by decide), v_cl_i, s16_id t.1, e0, v_if_nt rfl, w_24_90, v_mul ky _ G 0 10 ⟨by decide, by decide⟩ ⟨by decide, by decide⟩, v_cl_i, Int.zero_mul, s16_id (x := 0) ⟨by decide, by decide⟩, v_abs, v_cl_i, ds, ap_d]
    show v_cl (some (ap ky o _ G)) _ = some (match ap ky o (48 + ((x.natAbs % 10 : Nat) : Int)) G with | (.inl _, G1) => (.inl 0, G1) | (.inr e, G1) => (.inr e, G1))
    rcases ap ky o (48 + ((x.natAbs % 10 : Nat) : Int)) G with ⟨v | e, G1⟩ <;> rfl
  | k + 1, d, x, G, hx, hd => by
    have t := tdiv10 x hx
    have h2 : 10 ^ (k + 1) ≤ x.natAbs := by rcases hd.2 with z | z; · cases z
                                            · exact z
    have h3 : 10 ≤ x.natAbs := Nat.le_trans (by rw [Nat.pow_succ]; exact Nat.le_mul_of_pos_left _ (Nat.pow_pos (by decide))) h2
    have q0 : Int.tdiv x 10 ≠ 0 := by omega
    have ih := v_digS o k d (Int.tdiv x 10) G t.1 (by rw [t.2.1]; exact dgn_d hd)
    have ds := dig_s x hx
    rw [show d + (k + 1) + 3 = d + k + 3 + 1 by omega, w_24, v_div ky _ G x 10 hx ⟨by decide, by decide⟩ (by decide), v_cl_i, s16_id t.1, v_if_n q0, ih, t.2.1]
    have e1 : dlf (k + 1) x.natAbs = dlf k (x.natAbs / 10) ++ [48 + ((x.natAbs % 10 : Nat) : Int)] := by show (if _ then _ else _) = _; rw [if_neg (by omega)]
    rw [e1, vem_app]
    rcases hv : vem (ap ky o) (dlf k (x.natAbs / 10)) G with ⟨v | e, G1⟩
    · rw [v_cl_i, w_24_90, v_mul ky _ G1 _ 10 t.1 ⟨by decide, by decide⟩, v_cl_i, s16_id t.2.2.2.1, v_abs, v_cl_i, ds, show d + k + 3 = d + k + 1 + 2 by omega, ap_d]
      show v_cl (some (ap ky o _ G1)) _ = some (match ap ky o (48 + ((x.natAbs % 10 : Nat) : Int)) G1 with | (.inl _, G1) => (.inl 0, G1) | (.inr e, G1) => (.inr e, G1))
      rcases ap ky o (48 + ((x.natAbs % 10 : Nat) : Int)) G1 with ⟨v | e, G2⟩ <;> rfl
    · rfl
/-- Output._digits -/
def pc1 (c : Int) (G : vG) : vO := (.inl 0, pr1 c G)
theorem v_digO : ∀ (k d : Nat) (x : Int) (G : vG), rg16 x → dgn k x.natAbs → vD ky (d + k + 3) 32 [x] G = some (vem pc1 (dlf k x.natAbs) G)
  | 0, d, x, G, hx, hd => by
    have t := tdiv10 x hx
    have hz : x.natAbs < 10 := hd.1
    have e0 : Int.tdiv x 10 = 0 := by omega
    have ds := dig_s x hx
    rw [e0, Int.zero_mul] at ds
    rw [w_32, v_div ky _ G x 10 hx ⟨by decide, by decide⟩ (by decide), v_cl_i, s16_id t.1, e0, v_if_nt rfl, w_32_97, v_mul ky _ G 0 10 ⟨by decide, by decide⟩ ⟨by decide, by decide⟩, v_cl_i, Int.zero_mul, s16_id (x := 0) ⟨by decide, by decide⟩, v_abs, v_cl_i, ds, v_putc]
    rfl
  | k + 1, d, x, G, hx, hd => by
    have t := tdiv10 x hx
    have h2 : 10 ^ (k + 1) ≤ x.natAbs := by rcases hd.2 with z | z; · cases z
                                            · exact z
    have h3 : 10 ≤ x.natAbs := Nat.le_trans (by rw [Nat.pow_succ]; exact Nat.le_mul_of_pos_left _ (Nat.pow_pos (by decide))) h2
    have q0 : Int.tdiv x 10 ≠ 0 := by omega
    have ih := v_digO k d (Int.tdiv x 10) G t.1 (by rw [t.2.1]; exact dgn_d hd)
    have ds := dig_s x hx
    rw [show d + (k + 1) + 3 = d + k + 3 + 1 by omega, w_32, v_div ky _ G x 10 hx ⟨by decide, by decide⟩ (by decide), v_cl_i, s16_id t.1, v_if_n q0, ih, t.2.1]
    have e1 : dlf (k + 1) x.natAbs = dlf k (x.natAbs / 10) ++ [48 + ((x.natAbs % 10 : Nat) : Int)] := by show (if _ then _ else _) = _; rw [if_neg (by omega)]
    rw [e1, vem_app]
    rcases hv : vem pc1 (dlf k (x.natAbs / 10)) G with ⟨v | e, G1⟩
    · rw [v_cl_i, w_32_97, v_mul ky _ G1 _ 10 t.1 ⟨by decide, by decide⟩, v_cl_i, s16_id t.2.2.2.1, v_abs, v_cl_i, ds, v_putc]
      rfl
    · rfl
/-- the model's powers of ten -/
theorem m_fp (v : Nat) (hv : v < 100000) (k : Nat) (hk : k ≤ 4) (hd : dgn k v) : am_D (d + 1) 17 93 [am_i (v : Int)] (zS L, h) = pI L ((10 ^ k : Nat) : Int) h := by
  have go : ∀ m j : Nat, j + m = k → am_E (am_D d) m_17_93 (.inl 1) [some (am_i (v : Int)), some (am_i ((10 ^ j : Nat) : Int))] [] (zS L, h) = pI L ((10 ^ k : Nat) : Int) h := by
    intro m
    induction m with
    | zero =>
      intro j hj
      have : j = k := by omega
      subst this
      have p1 : 0 < 10 ^ j := Nat.pow_pos (by decide)
      rw [q_17_93_1, if_neg (by omega), ← Int.ofNat_tdiv, p_wn (v / 10 ^ j) (Nat.lt_of_le_of_lt (Nat.div_le_self v (10 ^ j)) (Nat.lt_of_lt_of_le hv (by decide)))]
      have : v / 10 ^ j < 10 := by rw [Nat.div_lt_iff_lt_mul p1, Nat.mul_comm, ← Nat.pow_succ]; exact hd.1
      rw [if_pos (by omega)]
    | succ m ih =>
      intro j hj
      have p1 : 0 < 10 ^ j := Nat.pow_pos (by decide)
      have p2 : 10 ^ j ≤ 10 ^ 4 := Nat.pow_le_pow_right (by decide) (by omega)
      have p4 : (10 : Nat) ^ 4 = 10000 := by decide
      have h2 : 10 ^ k ≤ v := by rcases hd.2 with z | z; · omega
                                 · exact z
      have : 10 ≤ v / 10 ^ j := by
        rw [Nat.le_div_iff_mul_le p1, Nat.mul_comm, ← Nat.pow_succ]
        exact Nat.le_trans (Nat.pow_le_pow_right (by decide) (by omega)) h2
      rw [q_17_93_1, if_neg (by omega), ← Int.ofNat_tdiv, p_wn (v / 10 ^ j) (Nat.lt_of_le_of_lt (Nat.div_le_self v (10 ^ j)) (Nat.lt_of_lt_of_le hv (by decide))), if_neg (by omega), p_w (by omega) (by omega)]
      have := ih (j + 1) (by omega)
      rw [Nat.pow_succ, Int.natCast_mul] at this
      exact this
  rw [D_17_93]
  exact go k 0 (by omega)
theorem m_dig (v : Nat) (hv : v < 100000) (j : Nat) (hj : j ≤ 4) : am_D (d + 1) 17 92 [am_i (v : Int), am_i ((10 ^ j : Nat) : Int)] (zS L, h) = pI L (48 + ((v / 10 ^ j % 10 : Nat) : Int)) h := by
  have p1 : 0 < 10 ^ j := Nat.pow_pos (by decide)
  have := Nat.div_le_self v (10 ^ j)
  rw [D_17_92, if_neg (by omega), if_neg (by decide), ← Int.ofNat_tdiv, p_wn (v / 10 ^ j) (Nat.lt_of_le_of_lt (Nat.div_le_self v (10 ^ j)) (Nat.lt_of_lt_of_le hv (by decide))), show (10 : Int) = ((10 : Nat) : Int) from rfl, ← Int.ofNat_tmod, p_w (by omega) (by omega)]
/-- the letters of a number go behind a string -/
theorem j_digS (o : Int) (ho : rg16 o) (v : Nat) (hv : v < 100000) (u2 : Option am_V) : ∀ (k : Nat) (G : vG) (h : am_H), k ≤ 4 → MR ky G h → h 254 99 = -1 → ∃ h', am_E (am_D (d + 3)) m_17_94 (.inl 4) [some (am_r (am_a 254)), some (am_i o), u2, some (am_i (v : Int)), some (am_i ((10 ^ k : Nat) : Int))] [] (zS L, h) = pV L h' ∧ JO ky G h (vem (ap ky o) (mlf k v) G) h' := by
  have one : ∀ (k : Nat) (G : vG) (h : am_H), k ≤ 4 → MR ky G h → h 254 99 = -1 → ∃ h1, am_E (am_D (d + 3)) m_17_94 (.inl 4) [some (am_r (am_a 254)), some (am_i o), u2, some (am_i (v : Int)), some (am_i ((10 ^ k : Nat) : Int))] [] (zS L, h) = am_E (am_D (d + 3)) m_17_94 (.inl 4) [some (am_r (am_a 254)), some (am_i o), u2, some (am_i (v : Int)), some (am_i ((10 ^ k / 10 : Nat) : Int))] [] (zS L, h1) ∧ JO ky G h (ap ky o (48 + ((v / 10 ^ k % 10 : Nat) : Int)) G) h1 := by
    intro k G h hk R e
    have p1 : 0 < 10 ^ k := Nat.pow_pos (by decide)
    have p2 : 10 ^ k ≤ 10 ^ 4 := Nat.pow_le_pow_right (by decide) hk
    have p4 : (10 : Nat) ^ 4 = 10000 := by decide
    obtain ⟨x, h1, a1, a2, a3, -⟩ := j_append d L R e o (48 + ((v / 10 ^ k % 10 : Nat) : Int)) ho ⟨by omega, by omega⟩
    rw [ap_d] at a1
    have := Option.some.inj a1
    subst this
    refine ⟨h1, ?_, a3⟩
    rw [q_17_94_4, if_pos (by omega), if_pos e, m_dig (d + 2) L v hv k hk, p_xI, a2, p_xV, if_neg (by decide), show (10 : Int) = ((10 : Nat) : Int) from rfl, ← Int.ofNat_tdiv, p_w (by have := Nat.div_le_self (10 ^ k) 10; omega) (by have := Nat.div_le_self (10 ^ k) 10; omega)]
  have stop : ∀ (p : Int) (h : am_H), h 254 99 ≠ -1 → am_E (am_D (d + 3)) m_17_94 (.inl 4) [some (am_r (am_a 254)), some (am_i o), u2, some (am_i (v : Int)), some (am_i p)] [] (zS L, h) = pV L h := fun p h e => by
    rw [q_17_94_4]
    by_cases c : 0 < p
    · rw [if_pos c, if_neg e]
    · rw [if_neg c]
  intro k
  induction k with
  | zero =>
    intro G h hk R e
    obtain ⟨h1, a1, a2⟩ := one 0 G h hk R e
    rw [a1]
    have e0 : v / 10 ^ 0 % 10 = v % 10 := by rw [Nat.pow_zero, Nat.div_one]
    rw [e0] at a2
    refine ⟨h1, by rw [q_17_94_4, if_neg (by decide)], ?_⟩
    show JO ky G h (match ap ky o (48 + ((v % 10 : Nat) : Int)) G with | (.inl _, G1) => (.inl 0, G1) | (.inr e, G1) => (.inr e, G1)) h1
    rcases hq : ap ky o (48 + ((v % 10 : Nat) : Int)) G with ⟨w | q, G1⟩
    · rw [hq] at a2; exact ⟨a2.1, a2.2.1, a2.2.2.1, a2.2.2.2.1, a2.2.2.2.2.1, by decide, by decide⟩
    · rw [hq] at a2; exact a2
  | succ k ih =>
    intro G h hk R e
    obtain ⟨h1, a1, a2⟩ := one (k + 1) G h hk R e
    rw [a1, show 10 ^ (k + 1) / 10 = 10 ^ k by rw [Nat.pow_succ, Nat.mul_div_cancel _ (by decide)]]
    show ∃ h', _ ∧ JO ky G h (match ap ky o (48 + ((v / 10 ^ (k + 1) % 10 : Nat) : Int)) G with | (.inl _, G1) => vem (ap ky o) (mlf k v) G1 | (.inr e, G1) => (.inr e, G1)) h'
    rcases hq : ap ky o (48 + ((v / 10 ^ (k + 1) % 10 : Nat) : Int)) G with ⟨w | q, G1⟩
    · rw [hq] at a2
      obtain ⟨h2, i1, i2⟩ := ih G1 h1 (by omega) a2.1 a2.2.2.2.1
      exact ⟨h2, i1, i2.pre a2.2.1 a2.2.2.1 a2.2.2.2.2.1⟩
    · rw [hq] at a2
      exact ⟨h1, stop _ _ (by rw [a2.2.2.2.1]; have := a2.2.2.2.2.1; omega), a2⟩
/-- String.setInt -/
theorem j_setInt (R : MR ky G h) (e : h 254 99 = -1) (o x : Int) (ho : rg16 o) (hx : rg16 x) : ∃ y h', vD ky (d + 8) 23 [o, x] G = some y ∧ am_D (d + 4) 17 94 [am_r (am_a 254), am_i o, am_i x] (zS L, h) = pV L h' ∧ JO ky G h y h' ∧ (∀ v, y.1 = .inl v → v = 0) := by
  obtain ⟨hx1, hx2⟩ := id hx
  obtain ⟨k, hk, hd⟩ := dgn_ex x.natAbs (by omega)
  have eabs : (if x < 0 then am_w (-x) else x) = ((x.natAbs : Nat) : Int) := by
    by_cases c : x < 0
    · rw [if_pos c, p_w (by omega) (by omega)]; omega
    · rw [if_neg c]; omega
  have stop : ∀ (u2 : Option am_V) (p : Int) (h : am_H), h 254 99 ≠ -1 → am_E (am_D (d + 3)) m_17_94 (.inl 4) [some (am_r (am_a 254)), some (am_i o), u2, some (am_i ((x.natAbs : Nat) : Int)), some (am_i p)] [] (zS L, h) = pV L h := fun u2 p h e => by
    rw [q_17_94_4]
    by_cases c : 0 < p
    · rw [if_pos c, if_neg e]
    · rw [if_neg c]
  -- the end
  have fin : ∀ (G : vG) (h : am_H) (tm : Option Int), MR ky G h → h 254 99 = -1 → ∃ y h', vE ky (vD ky (d + 7)) 8 c_23 (vlab c_23 88) ([o, x], [o], some o, tm, [], G) = some y ∧ (am_xI (zS L) (am_D (d + 3) 17 93 [am_i ((x.natAbs : Nat) : Int)] (zS L, h)) (am_up1 (zS L)) fun v2 h1 => am_E (am_D (d + 3)) m_17_94 (.inl 4) [some (am_r (am_a 254)), some (am_i o), some (am_i x), some (am_i ((x.natAbs : Nat) : Int)), some (am_i v2)] [] (zS L, h1)) = pV L h' ∧ JO ky G h y h' ∧ (∀ v, y.1 = .inl v → v = 0) := by
    intro G h tm R e
    rw [w_23_88, show d + 7 = (d + (4 - k)) + k + 3 by omega, v_digS o k (d + (4 - k)) x G hx hd, dlf_mlf k _ hd, m_fp (d + 2) L _ (by omega) k hk hd, p_xI]
    obtain ⟨h', a1, a2⟩ := j_digS d L o ho x.natAbs (by omega) (some (am_i x)) k G h hk R e
    rw [a1]
    rcases hv : vem (ap ky o) (mlf k x.natAbs) G with ⟨v | q, G1⟩
    · rw [hv] at a2
      exact ⟨_, _, rfl, rfl, ⟨a2.1, a2.2.1, a2.2.2.1, a2.2.2.2.1, a2.2.2.2.2.1, by decide, by decide⟩, fun v hv => by injection hv with hv; exact hv.symm⟩
    · rw [hv] at a2
      exact ⟨_, _, rfl, rfl, a2, fun v hv => (by cases hv)⟩
  rw [w_23, D_17_94]
  have e2 : ∀ h1 : am_H, (if x < 0 then am_E (am_D (d + 3)) m_17_94 (.inl 2) [some (am_r (am_a 254)), some (am_i o), some (am_i x), none, none] [am_i (am_w (-x))] (zS L, h1) else am_E (am_D (d + 3)) m_17_94 (.inl 2) [some (am_r (am_a 254)), some (am_i o), some (am_i x), none, none] [am_i x] (zS L, h1)) = am_E (am_D (d + 3)) m_17_94 (.inl 2) [some (am_r (am_a 254)), some (am_i o), some (am_i x), none, none] [am_i ((x.natAbs : Nat) : Int)] (zS L, h1) := fun h1 => by
    rw [← eabs]
    by_cases c : x < 0
    · rw [if_pos c, if_pos c]
    · rw [if_neg c, if_neg c]
  by_cases c1 : v_pl (am_s16 (o + 1))
  · rw [v_wc_t c1, m_write_t (d + 1) L e (by rw [s16_w]; exact c1), p_xV, s16_w, s16_id (x := 0) ⟨by decide, by decide⟩, e2, q_17_94_2]
    have R1 := R.wr c1 (v := 0) ⟨by decide, by decide⟩
    have e1 : am_up h 308 (am_s16 (o + 1)).toNat 0 254 99 = -1 := by rw [up_99]; exact e
    by_cases c : x < 0
    · rw [v_if_t c, if_pos c, if_pos e1]
      obtain ⟨y, h2, a1, a2, a3, a4⟩ := j_append d L R1 e1 o 45 ho ⟨by decide, by decide⟩
      rw [show d + 7 = d + 5 + 2 by omega, ap_d] 
      rw [ap_d] at a1
      have := Option.some.inj a1
      subst this
      rw [a2, p_xV]
      rcases hq : ap ky o 45 (p_set G.1 (am_s16 (o + 1)).toNat 0, G.2) with ⟨w | q, G1⟩
      · rw [hq] at a3
        rw [v_cl_i]
        obtain ⟨y, h3, b1, b2, b3, b4⟩ := fin G1 h2 (some w) a3.1 a3.2.2.2.1
        exact ⟨y, h3, b1, b2, (b3.pre a3.2.1 a3.2.2.1 a3.2.2.2.2.1).pre (vfr_wr c1 0) (jfr_wr _ _) (by rw [p_up_c _ _ _ _ _ (by decide)]), b4⟩
      · rw [hq] at a3
        have ne : h2 254 99 ≠ -1 := by rw [a3.2.2.2.1]; have := a3.2.2.2.2.1; omega
        rw [v_cl_r, m_fp (d + 2) L _ (by omega) k hk hd, p_xI, stop _ _ _ ne]
        exact ⟨_, _, rfl, rfl, JO.pre (vfr_wr c1 0) (jfr_wr _ _) (by rw [p_up_c _ _ _ _ _ (by decide)]) a3, fun v hv => (by cases hv)⟩
    · rw [v_if_f c, if_neg c]
      obtain ⟨y, h3, b1, b2, b3, b4⟩ := fin _ _ (some 0) R1 e1
      exact ⟨y, h3, b1, b2, b3.pre (vfr_wr c1 0) (jfr_wr _ _) (by rw [p_up_c _ _ _ _ _ (by decide)]), b4⟩
  · rw [v_wc_f c1, m_write_f (d + 1) L e (by rw [s16_w]; exact c1), p_xV, e2, q_17_94_2]
    refine ⟨_, erh 20 h, rfl, ?_, JO_err R e 20, fun v hv => (by cases hv)⟩
    by_cases c : x < 0
    · rw [if_pos c, if_neg (e3 20 e), m_fp (d + 2) L _ (by omega) k hk hd, p_xI, stop _ _ _ (e3 20 e)]
    · rw [if_neg c, m_fp (d + 2) L _ (by omega) k hk hd, p_xI, stop _ _ _ (e3 20 e)]
end
