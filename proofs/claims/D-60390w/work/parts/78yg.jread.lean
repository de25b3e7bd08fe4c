/-! RUN, 5: printInt, intValue, readLine, on both sides -/
section
variable (d L : Nat) {ky : List Int} {G : vG} {h : am_H}
theorem vem_pc : ∀ (cs : List Int) (G : vG), ∃ G1, vem pc1 cs G = (.inl 0, G1)
  | [], G => ⟨G, rfl⟩
  | c :: cs, G => vem_pc cs (pr1 c G)
theorem j_digO (v : Nat) (hv : v < 100000) (u1 : Option am_V) : ∀ (k : Nat) (G : vG) (h : am_H), k ≤ 4 → MR ky G h → h 254 99 = -1 → ∃ h', am_E (am_D (d + 1)) m_17_96 (.inl 4) [some (am_r (am_a 254)), u1, some (am_i (v : Int)), some (am_i ((10 ^ k : Nat) : Int))] [] (zS L, h) = pV L h' ∧ JO ky G h (vem pc1 (mlf k v) G) h' := by
  have one : ∀ (k : Nat) (G : vG) (h : am_H), k ≤ 4 → MR ky G h → h 254 99 = -1 → ∃ h1, am_E (am_D (d + 1)) m_17_96 (.inl 4) [some (am_r (am_a 254)), u1, some (am_i (v : Int)), some (am_i ((10 ^ k : Nat) : Int))] [] (zS L, h) = am_E (am_D (d + 1)) m_17_96 (.inl 4) [some (am_r (am_a 254)), u1, some (am_i (v : Int)), some (am_i ((10 ^ k / 10 : Nat) : Int))] [] (zS L, h1) ∧ JO ky G h (pc1 (48 + ((v / 10 ^ k % 10 : Nat) : Int)) G) h1 := by
    intro k G h hk R e
    have p1 : 0 < 10 ^ k := Nat.pow_pos (by decide)
    have p2 : 10 ^ k ≤ 10 ^ 4 := Nat.pow_le_pow_right (by decide) hk
    have p4 : (10 : Nat) ^ 4 = 10000 := by decide
    obtain ⟨h1, a2, a3⟩ := j_print d L R e (48 + ((v / 10 ^ k % 10 : Nat) : Int))
    refine ⟨h1, ?_, a3⟩
    rw [q_17_96_4, if_pos (by omega), m_dig d L v hv k hk, p_xI, a2, p_xV, if_neg (by decide), show (10 : Int) = ((10 : Nat) : Int) from rfl, ← Int.ofNat_tdiv, p_wn _ (Nat.lt_of_le_of_lt (Nat.div_le_self _ _) (Nat.lt_of_le_of_lt p2 (by decide)))]
  intro k
  induction k with
  | zero =>
    intro G h hk R e
    obtain ⟨h1, a1, a2⟩ := one 0 G h hk R e
    have e0 : v / 10 ^ 0 % 10 = v % 10 := by rw [Nat.pow_zero, Nat.div_one]
    rw [e0] at a2
    exact ⟨h1, by rw [a1, q_17_96_4, if_neg (by decide)], a2⟩
  | succ k ih =>
    intro G h hk R e
    obtain ⟨h1, a1, a2⟩ := one (k + 1) G h hk R e
    rw [a1, show 10 ^ (k + 1) / 10 = 10 ^ k by rw [Nat.pow_succ, Nat.mul_div_cancel _ (by decide)]]
    obtain ⟨h2, i1, i2⟩ := ih _ h1 (by omega) a2.1 a2.2.2.2.1
    exact ⟨h2, i1, i2.pre a2.2.1 a2.2.2.1 a2.2.2.2.2.1⟩
/-- Output.printInt -/
theorem j_printI (R : MR ky G h) (e : h 254 99 = -1) (x : Int) (hx : rg16 x) : ∃ y h', vD ky (d + 8) 31 [x] G = some y ∧ am_D (d + 2) 17 96 [am_r (am_a 254), am_i x] (zS L, h) = pV L h' ∧ JO ky G h y h' ∧ (∀ v, y.1 = .inl v → v = 0) := by
  obtain ⟨hx1, hx2⟩ := id hx
  obtain ⟨k, hk, hd⟩ := dgn_ex x.natAbs (by omega)
  have eabs : (if x < 0 then am_w (-x) else x) = ((x.natAbs : Nat) : Int) := by
    by_cases c : x < 0
    · rw [if_pos c, p_w (by omega) (by omega)]; omega
    · rw [if_neg c]; omega
  have fin : ∀ (G : vG) (h : am_H) (tm : Option Int), MR ky G h → h 254 99 = -1 → ∃ y h', vE ky (vD ky (d + 7)) 8 c_31 (vlab c_31 95) ([x], [], none, tm, [], G) = some y ∧ (am_xI (zS L) (am_D (d + 1) 17 93 [am_i ((x.natAbs : Nat) : Int)] (zS L, h)) (am_up1 (zS L)) fun v2 h1 => am_E (am_D (d + 1)) m_17_96 (.inl 4) [some (am_r (am_a 254)), some (am_i x), some (am_i ((x.natAbs : Nat) : Int)), some (am_i v2)] [] (zS L, h1)) = pV L h' ∧ JO ky G h y h' ∧ (∀ v, y.1 = .inl v → v = 0) := by
    intro G h tm R e
    rw [w_31_95, show d + 7 = (d + (4 - k)) + k + 3 by omega, v_digO k (d + (4 - k)) x G hx hd, dlf_mlf k _ hd, m_fp d L _ (by omega) k hk hd, p_xI]
    obtain ⟨h', a1, a2⟩ := j_digO d L x.natAbs (by omega) (some (am_i x)) k G h hk R e
    obtain ⟨G1, hG⟩ := vem_pc (mlf k x.natAbs) G
    rw [a1, hG]
    rw [hG] at a2
    exact ⟨_, _, rfl, rfl, a2, fun v hv => by injection hv with hv; exact hv.symm⟩
  rw [w_31, D_17_96]
  have e2 : (if x < 0 then am_E (am_D (d + 1)) m_17_96 (.inl 2) [some (am_r (am_a 254)), some (am_i x), none, none] [am_i (am_w (-x))] (zS L, h) else am_E (am_D (d + 1)) m_17_96 (.inl 2) [some (am_r (am_a 254)), some (am_i x), none, none] [am_i x] (zS L, h)) = am_E (am_D (d + 1)) m_17_96 (.inl 2) [some (am_r (am_a 254)), some (am_i x), none, none] [am_i ((x.natAbs : Nat) : Int)] (zS L, h) := by
    rw [← eabs]
    by_cases c : x < 0
    · rw [if_pos c, if_pos c]
    · rw [if_neg c, if_neg c]
  rw [e2, q_17_96_2]
  by_cases c : x < 0
  · rw [v_if_t c, if_pos c, v_putc, v_cl_i]
    obtain ⟨h1, a1, a2⟩ := j_print d L R e 45
    rw [a1, p_xV]
    obtain ⟨y, h3, b1, b2, b3, b4⟩ := fin _ h1 (some 0) a2.1 a2.2.2.2.1
    exact ⟨y, h3, b1, b2, b3.pre a2.2.1 a2.2.2.1 a2.2.2.2.2.1, b4⟩
  · rw [v_if_f c, if_neg c]
    exact fin G h none R e
/-- String.intValue -/
theorem j_intV (R : MR ky G h) (e : h 254 99 = -1) (o : Int) (ho : rg16 o) : ∃ x h' r, vD ky (d + 2) 22 [o] G = some x ∧ am_D (d + 3) 17 91 [am_r (am_a 254), am_i o] (zS L, h) = pI L r h' ∧ JO ky G h x h' ∧ (∀ v, x.1 = .inl v → am_s16 r = v) := by
  obtain ⟨ho1, ho2⟩ := id ho
  -- how it ends
  have fin : ∀ (v : Int) (less y5 : Int), rg16 v → (less = 0 ↔ y5 = 0) → v_if y5 (some ((.inl (am_s16 (-v)), G) : vO)) (some (.inl v, G)) = some (.inl (if less = 0 then v else am_s16 (-v)), G) ∧ (if less = 0 then pI L v h else pI L (am_w (-v)) h) = pI L (if less = 0 then v else am_w (-v)) h ∧ am_s16 (if less = 0 then v else am_w (-v)) = (if less = 0 then v else am_s16 (-v)) ∧ rg16 (if less = 0 then v else am_s16 (-v)) := by
    intro v less y5 hv hl
    unfold v_if
    by_cases c : less = 0
    · simp only [if_pos c, if_pos (hl.1 c)]
      exact ⟨trivial, trivial, s16_id hv, hv⟩
    · have : y5 ≠ 0 := fun z => c (hl.2 z)
      simp only [if_neg this, if_neg c]
      exact ⟨trivial, trivial, s16_w _, rg16_s _⟩
  have stop : ∀ (x2 x3 less v more : Int) (u7 : Option am_V) (h1 : am_H), h1 254 99 ≠ -1 → ∃ r, am_E (am_D (d + 2)) m_17_91 (.inl 2) [some (am_r (am_a 254)), some (am_i o), some (am_i x2), some (am_i x3), some (am_i less), some (am_i v), some (am_i more), u7] [] (zS L, h1) = pI L r h1 := by
    intro x2 x3 less v more u7 h1 e1
    rw [q_17_91_2, if_neg e1]
    by_cases c : more = 0
    · rw [if_pos c]
      by_cases c2 : less = 0
      · rw [if_pos c2]; exact ⟨_, rfl⟩
      · rw [if_neg c2]; exact ⟨_, rfl⟩
    · rw [if_neg c]
      by_cases c2 : less = 0
      · rw [if_pos c2]; exact ⟨_, rfl⟩
      · rw [if_neg c2]; exact ⟨_, rfl⟩
  have go : ∀ (n : Int), rg16 n → ∀ (less y5 : Int), (less = 0 ↔ y5 = 0) → ∀ (m : Nat) (i : Nat) (v y4 : Int) (tm : Option Int) (u7 : Option am_V), n - (i : Int) ≤ m → (i : Int) ≤ 32767 → rg16 v → ∃ x h' r, vE ky (vD ky (d + 1)) 8 c_22 (vlab c_22 79) ([o], [o, (i : Int), n, v, y4, y5], some o, tm, [], G) = some x ∧ am_E (am_D (d + 2)) m_17_91 (.inl 2) [some (am_r (am_a 254)), some (am_i o), some (am_i n), some (am_i (i : Int)), some (am_i less), some (am_i v), some (am_i 1), u7] [] (zS L, h) = pI L r h' ∧ JO ky G h x h' ∧ (∀ v, x.1 = .inl v → am_s16 r = v) := by
    intro n hn less y5 hl m
    obtain ⟨hn1, hn2⟩ := id hn
    -- the whole is through
    have thru : ∀ (i v y4 : Int) (tm : Option Int) (u7 : Option am_V), ¬ i < n → rg16 v → ∃ x h' r, vE ky (vD ky (d + 1)) 8 c_22 (vlab c_22 79) ([o], [o, i, n, v, y4, y5], some o, tm, [], G) = some x ∧ am_E (am_D (d + 2)) m_17_91 (.inl 2) [some (am_r (am_a 254)), some (am_i o), some (am_i n), some (am_i i), some (am_i less), some (am_i v), some (am_i 1), u7] [] (zS L, h) = pI L r h' ∧ JO ky G h x h' ∧ (∀ v, x.1 = .inl v → am_s16 r = v) := by
      intro i v y4 tm u7 hi hv
      obtain ⟨f1, f2, f3, f4⟩ := fin v less y5 hv hl
      rw [w_22_79, v_if_f hi, f1, q_17_91_2, if_neg (show ¬ (1 : Int) = 0 by decide), if_pos e, if_neg hi]
      exact ⟨_, _, _, rfl, f2, JO_ret R e f4, fun w hw => by injection hw with hw; rw [← hw]; exact f3⟩
    induction m with
    | zero => intro i v y4 tm u7 hm hi hv; exact thru i v y4 tm u7 (by omega) hv
    | succ m ih =>
      intro i v y4 tm u7 hm hi hv
      by_cases c : (i : Int) < n
      · have ea : am_s16 (am_w (am_w (o + 2) + (i : Int))) = am_s16 (o + am_s16 (2 + (i : Int))) := by
          rw [s16_w, s16_add_r, p_w (by omega) (by omega)]; exact congrArg am_s16 (by omega)
        rw [w_22_79, v_if_t c, q_17_91_2, if_neg (by decide), if_pos e, if_pos c]
        by_cases c1 : v_pl (am_s16 (o + am_s16 (2 + (i : Int))))
        · rw [v_rc_t c1, m_read_t d L (by rw [ea]; exact c1), p_xI, ea, R.rd c1, if_pos e]
          obtain ⟨k, hk⟩ : ∃ k, k = G.1 (am_s16 (o + am_s16 (2 + (i : Int)))).toNat := ⟨_, rfl⟩
          have hk2 := R.rg (am_s16 (o + am_s16 (2 + (i : Int)))).toNat
          rw [← hk] at hk2 ⊢
          obtain ⟨hk3, hk4⟩ := id hk2
          rw [tf_or]
          by_cases c2 : 48 ≤ k ∧ k ≤ 57
          · have es : am_s16 (k - 48) = k - 48 := s16_id ⟨by omega, by omega⟩
            rw [es, v_if_f (by omega), if_neg (by omega), if_neg (by omega), q_17_91_4, if_neg (by decide), m_s16, p_xI, v_mul ky _ G v 10 hv ⟨by decide, by decide⟩, v_cl_i, s16_id (x := (i : Int) + 1) ⟨by omega, by omega⟩, p_w (x := (i : Int) + 1) (by omega) (by omega), show (i : Int) + 1 = ((i + 1 : Nat) : Int) by omega]
            have ev : am_s16 (am_w (am_w (am_w (10 * v) + k) - 48)) = am_s16 (am_s16 (v * 10) + (k - 48)) := by
              obtain ⟨v1, v2⟩ := id hv
              rw [s16_w, p_w (x := 10 * v) (by omega) (by omega), p_w (by omega) (by omega), s16_add_l]; exact congrArg am_s16 (by omega)
            rw [ev]
            exact ih (i + 1) _ _ none _ (by omega) (by omega) (rg16_s _)
          · have cv : am_s16 (k - 48) < 0 ∨ 9 < am_s16 (k - 48) := by
              by_cases z : k - 48 < -32768
              · rw [s16_lo (by omega) (by omega)]; omega
              · rw [s16_id ⟨by omega, by omega⟩]; omega
            obtain ⟨f1, f2, f3, f4⟩ := fin v less y5 hv hl
            rw [v_if_t cv, w_22_79, v_if_f (by omega), f1]
            have em : (if k < 48 then am_E (am_D (d + 2)) m_17_91 (.inl 4) [some (am_r (am_a 254)), some (am_i o), some (am_i n), some (am_i (i : Int)), some (am_i less), some (am_i v), some (am_i 1), some (am_i k)] [am_i 0] (zS L, h) else if 57 < k then am_E (am_D (d + 2)) m_17_91 (.inl 4) [some (am_r (am_a 254)), some (am_i o), some (am_i n), some (am_i (i : Int)), some (am_i less), some (am_i v), some (am_i 1), some (am_i k)] [am_i 0] (zS L, h) else am_E (am_D (d + 2)) m_17_91 (.inl 4) [some (am_r (am_a 254)), some (am_i o), some (am_i n), some (am_i (i : Int)), some (am_i less), some (am_i v), some (am_i 1), some (am_i k)] [am_i 1] (zS L, h)) = pI L (if less = 0 then v else am_w (-v)) h := by
              have e4 : am_E (am_D (d + 2)) m_17_91 (.inl 4) [some (am_r (am_a 254)), some (am_i o), some (am_i n), some (am_i (i : Int)), some (am_i less), some (am_i v), some (am_i 1), some (am_i k)] [am_i 0] (zS L, h) = pI L (if less = 0 then v else am_w (-v)) h := by
                rw [q_17_91_4, if_pos rfl, q_17_91_2, if_pos rfl]; exact f2
              by_cases z : k < 48
              · rw [if_pos z, e4]
              · rw [if_neg z, if_pos (by omega), e4]
            rw [em]
            exact ⟨_, _, _, rfl, rfl, JO_ret R e f4, fun w hw => by injection hw with hw; rw [← hw]; exact f3⟩
        · rw [v_rc_f c1, m_read_f d L (by rw [ea]; exact c1), p_xI, if_neg (e3 20 e), q_17_91_4, if_pos rfl]
          obtain ⟨r, hr⟩ := stop n (am_w ((i : Int) + 1)) less v 0 (some (am_i 0)) (erh 20 h) (e3 20 e)
          exact ⟨_, _, r, rfl, hr, JO_err R e 20, fun v hv => (by cases hv)⟩
      · exact thru i v y4 tm u7 c hv
  rw [w_22, D_17_91]
  by_cases c1 : v_pl (am_s16 (o + 1))
  · have hn := R.rg (am_s16 (o + 1)).toNat
    rw [v_rc_t c1, m_read_t d L (a := am_w (o + 1)) (by rw [s16_w]; exact c1), p_xI, s16_w, R.rd c1, if_pos e]
    obtain ⟨n, hne⟩ : ∃ n, n = G.1 (am_s16 (o + 1)).toNat := ⟨_, rfl⟩
    rw [← hne] at hn ⊢
    obtain ⟨hn1, hn2⟩ := id hn
    by_cases c2 : 0 < n
    · rw [v_if_t c2, if_pos c2]
      by_cases c3 : v_pl (am_s16 (o + 2))
      · rw [v_rc_t c3, m_read_t d L (a := am_w (o + 2)) (by rw [s16_w]; exact c3), p_xI, s16_w, R.rd c3]
        by_cases c4 : G.1 (am_s16 (o + 2)).toNat = 45
        · rw [v_if_t c4, if_pos c4]
          exact go n hn 1 (-0 - 1) (by decide) n.toNat 1 0 0 none _ (by omega) (by decide) ⟨by decide, by decide⟩
        · rw [v_if_f c4, if_neg c4]
          exact go n hn 0 0 (by decide) n.toNat 0 0 0 none _ (by omega) (by decide) ⟨by decide, by decide⟩
      · rw [v_rc_f c3, m_read_f d L (a := am_w (o + 2)) (by rw [s16_w]; exact c3), p_xI, if_neg (by decide)]
        obtain ⟨r, hr⟩ := stop n 0 0 0 1 none (erh 20 h) (e3 20 e)
        exact ⟨_, _, r, rfl, hr, JO_err R e 20, fun v hv => (by cases hv)⟩
    · rw [v_if_f c2, if_neg c2]
      exact go n hn 0 0 (by decide) 0 0 0 0 none _ (by omega) (by decide) ⟨by decide, by decide⟩
  · rw [v_rc_f c1, m_read_f d L (a := am_w (o + 1)) (by rw [s16_w]; exact c1), p_xI, if_neg (e3 20 e)]
    obtain ⟨r, hr⟩ := stop 0 0 0 0 1 none (erh 20 h) (e3 20 e)
    exact ⟨_, _, r, rfl, hr, JO_err R e 20, fun v hv => (by cases hv)⟩
/-- keys -/
theorem v_left (ky : List Int) (G : vG) : vD ky (d + 1) 35 [] G = some (.inl (if (0 : Int) < (ky.length : Int) - (G.2.1 : Int) then -1 else 0), G) := by
  rw [w_35, show am_s16 (32005 + 0) = 32005 by decide]; rfl
theorem v_take (ky : List Int) (G : vG) : vD ky (d + 1) 34 [] G = (match ky[G.2.1]? with
    | some c => some (.inl c, (G.1, G.2.1 + 1, G.2.2))
    | none => some (.inl 0, G)) := by
  rw [w_34, show am_s16 (32002 + 0) = 32002 by decide]
  unfold v_rd
  rw [if_neg (by decide), if_pos rfl]
  cases ky[G.2.1]? <;> rfl
theorem MR.key (R : MR ky G h) (hk : G.2.1 < ky.length) : MR ky (G.1, G.2.1 + 1, G.2.2) (am_up h 254 103 (h 254 103 + 1)) := by
  obtain ⟨r1, r2, r3, ⟨r4, r5, r6⟩, r7, r8⟩ := R
  have cf : ∀ k, k ≠ 103 → am_up h 254 103 (h 254 103 + 1) 254 k = h 254 k := fun k hk => p_up_n _ _ _ _ _ _ (Or.inr hk)
  have cc : ∀ a, a ≠ 254 → am_up h 254 103 (h 254 103 + 1) a = h a := fun a ha => p_up_c _ _ _ _ _ ha
  refine ⟨?_, ?_, ?_, ⟨?_, hk, ?_⟩, ?_, r8⟩
  · rw [cc 308 (by decide)]; exact r1
  · unfold bk; rw [cf 81 (by decide), cc 309 (by decide), cc 310 (by decide)]; exact r2
  · rw [cf 108 (by decide)]; exact r3
  · rw [p_up_s, r4]; show (G.2.1 : Int) + 1 = ((G.2.1 + 1 : Nat) : Int); omega
  · unfold kyR; rw [cf 102 (by decide), cc 319 (by decide)]; exact r6
  · rw [cf 106 (by decide), cc 320 (by decide)]; exact r7
/-- Keyboard.readLine -/
theorem j_readL (R : MR ky G h) (e : h 254 99 = -1) (s : Int) (hs : rg16 s) : ∃ x h' r, vD ky (d + 6) 36 [s] G = some x ∧ am_D (d + 6) 17 97 [am_r (am_a 254), am_i s] (zS L, h) = pI L r h' ∧ JO ky G h x h' ∧ (∀ v, x.1 = .inl v → r = v) := by
  have stop : ∀ (u1 : Option am_V) (o : Int) (x3 : Int) (u4 : Option am_V) (h1 : am_H), h1 254 99 ≠ -1 → am_E (am_D (d + 5)) m_17_97 (.inl 3) [some (am_r (am_a 254)), u1, some (am_i o), some (am_i x3), u4] [] (zS L, h1) = pI L o h1 := by
    intro u1 o x3 u4 h1 e1
    rw [q_17_97_3, if_neg e1]
    by_cases c : x3 = 0
    · rw [if_pos c]
    · rw [if_neg c]
  have go : ∀ (o : Int), rg16 o → ∀ (m : Nat) (y1 : Int) (G : vG) (h : am_H) (tm : Option Int) (u1 u4 : Option am_V), ky.length - G.2.1 ≤ m → MR ky G h → h 254 99 = -1 → ∃ x h' r, vE ky (vD ky (d + 5)) 8 c_36 (vlab c_36 98) ([s], [o, y1, if (0 : Int) < (ky.length : Int) - (G.2.1 : Int) then -1 else 0], none, tm, [], G) = some x ∧ am_E (am_D (d + 5)) m_17_97 (.inl 3) [some (am_r (am_a 254)), u1, some (am_i o), some (am_i 1), u4] [] (zS L, h) = pI L r h' ∧ JO ky G h x h' ∧ (∀ v, x.1 = .inl v → r = v) := by
    intro o ho m
    induction m with
    | zero =>
      intro y1 G h tm u1 u4 hm R e
      have k := R.2.2.2.1
      have k2 := k.2.2.1
      rw [w_36_98, v_if_f (by omega), q_17_97_3, if_neg (by decide), if_pos e, if_neg (by omega)]
      exact ⟨_, _, _, rfl, rfl, JO_ret R e ho, fun v hv => (by injection hv)⟩
    | succ m ih =>
      intro y1 G h tm u1 u4 hm R e
      have k := R.2.2.2.1
      have k2 := k.2.2.1
      have k3 := k.2.2.2.1
      by_cases c : G.2.1 < ky.length
      · have hg := List.getElem?_eq_getElem c
        obtain ⟨g1, g2, g3⟩ := k.2.2.2.2 _ _ hg
        rw [w_36_98, v_if_t (by omega), v_take, hg]
        dsimp only
        rw [v_cl_i, q_17_97_3, if_neg (show ¬ (1 : Int) = 0 by decide), if_pos e, if_pos (show h 254 103 < h 254 102 by omega), p_idx (by omega) (by omega), show (h 254 103).toNat = G.2.1 by omega, g1, p_w (by omega) (by omega)]
        have R1 := R.key c
        have e1 : am_up h 254 103 (h 254 103 + 1) 254 99 = -1 := by rw [p_up_n _ _ _ _ _ _ (Or.inr (by decide))]; exact e
        have fr : p_fr jC jF h (am_up h 254 103 (h 254 103 + 1)) := (p_fr.refl h).upf _ _ _ rfl
        have e100 : am_up h 254 103 (h 254 103 + 1) 254 100 = h 254 100 := p_up_n _ _ _ _ _ _ (Or.inr (by decide))
        by_cases c2 : ky[G.2.1] = 10
        · rw [v_if_t c2, if_pos c2, w_36_98, show v_if 0 _ _ = _ from if_pos rfl, q_17_97_3, if_pos rfl]
          exact ⟨_, _, _, rfl, rfl, ⟨R1, vfr_refl _, fr, e1, e100, ho⟩, fun v hv => (by injection hv)⟩
        · rw [v_if_f c2, if_neg c2]
          obtain ⟨⟨x, G1⟩, h2, a1, a2, J, a4⟩ := j_append (d + 2) L R1 e1 o ky[G.2.1] ho ⟨by omega, by omega⟩
          rw [vD_mono (Nat.le_succ _) a1, a2, p_xV]
          rcases x with v | q
          · rw [v_cl_i, v_left, v_cl_i]
            have t1 : G1.2.1 = G.2.1 + 1 := by
              rw [ap_d] at a1
              have i2 := ap_2 (ky := ky) (G := (G.1, G.2.1 + 1, G.2.2)) o ky[G.2.1]
              rw [Option.some.inj a1] at i2
              exact congrArg Prod.fst i2
            obtain ⟨x, h3, r, i1, i2, i3, i4⟩ := ih ky[G.2.1] G1 h2 none u1 _ (by omega) J.1 J.2.2.2.1
            exact ⟨x, h3, r, i1, i2, (i3.pre J.2.1 J.2.2.1 J.2.2.2.2.1).pre (vfr_refl _) fr e100, i4⟩
          · have ne : h2 254 99 ≠ -1 := by rw [J.2.2.2.1]; have := J.2.2.2.2.1; omega
            rw [v_cl_r, stop _ _ _ _ _ ne]
            exact ⟨_, _, _, rfl, rfl, JO.pre (vfr_refl _) fr e100 J, fun v hv => (by cases hv)⟩
      · rw [w_36_98, v_if_f (by omega), q_17_97_3, if_neg (by decide), if_pos e, if_neg (by omega)]
        exact ⟨_, _, _, rfl, rfl, JO_ret R e ho, fun v hv => (by injection hv)⟩
  rw [w_36, D_17_97]
  obtain ⟨⟨x, G1⟩, h1, a1, a2, J, a4⟩ := j_printS d L s hs R e
  rw [vD_mono (Nat.le_succ _) a1, a2, p_xV]
  rcases x with v | q
  · rw [v_cl_i, if_pos J.2.2.2.1]
    obtain ⟨⟨y, G2⟩, h2, r, b1, b2, J', b4⟩ := j_new (d + 2) L J.1 J.2.2.2.1 80 ⟨by decide, by decide⟩
    rw [b1, b2, p_xI]
    have J2 := JO.pre J.2.1 J.2.2.1 J.2.2.2.2.1 J'
    rcases y with w | q
    · have := b4 w rfl
      subst this
      rw [v_cl_i, v_left, v_cl_i]
      obtain ⟨x, h3, r3, i1, i2, i3, i4⟩ := go r J'.2.2.2.2.2 (ky.length - G2.2.1) 0 G2 h2 none (some (am_i s)) none (Nat.le_refl _) J'.1 J'.2.2.2.1
      exact ⟨x, h3, r3, i1, i2, i3.pre J2.2.1 J2.2.2.1 J2.2.2.2.2.1, i4⟩
    · have ne : h2 254 99 ≠ -1 := by rw [J'.2.2.2.1]; have := J'.2.2.2.2.1; omega
      rw [v_cl_r, stop _ _ _ _ _ ne]
      exact ⟨_, _, _, rfl, rfl, J2, fun v hv => (by cases hv)⟩
  · have ne : h1 254 99 ≠ -1 := by rw [J.2.2.2.1]; have := J.2.2.2.2.1; omega
    rw [v_cl_r, if_neg ne, stop _ _ _ _ _ ne]
    exact ⟨_, _, _, rfl, rfl, J, fun v hv => (by cases hv)⟩
end
