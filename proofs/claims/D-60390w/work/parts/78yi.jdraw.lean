/-! RUN, 7: drawing, on both sides -/
section
variable (d L : Nat) {ky : List Int} {G : vG} {h : am_H}
abbrev isPt (x y : Int) : Prop := 0 ≤ x ∧ x < 64 ∧ 0 ≤ y ∧ y < 32
theorem m_isPt (x y : Int) : am_D (d + 1) 17 98 [am_i x, am_i y] (zS L, h) = pI L (pB (isPt x y)) h := by
  rw [D_17_98]
  by_cases c1 : x < 0
  · rw [if_pos c1, p_bit0, pB_f (by unfold isPt; omega)]
  · rw [if_neg c1]
    by_cases c2 : x < 64
    · rw [if_pos c2]
      by_cases c3 : y < 0
      · rw [if_pos c3, p_bit0, pB_f (by unfold isPt; omega)]
      · rw [if_neg c3]
        by_cases c4 : y < 32
        · rw [if_pos c4, p_bit1, pB_t (by unfold isPt; omega)]
        · rw [if_neg c4, p_bit0, pB_f (by unfold isPt; omega)]
    · rw [if_neg c2, p_bit0, pB_f (by unfold isPt; omega)]
/-- Screen._out -/
theorem v_out (ky : List Int) (G : vG) (x y : Int) : vD ky (d + 1) 40 [x, y] G = some (.inl (if ¬ isPt x y then -1 else 0), G) := by
  rw [w_40, tf_or, tf_or, tf_or]
  have : (if ((x < 0 ∨ 63 < x) ∨ y < 0) ∨ 31 < y then (-1 : Int) else 0) = if ¬ isPt x y then -1 else 0 := by
    by_cases c : isPt x y
    · rw [if_neg (by unfold isPt at c; omega), if_neg (by simp [c])]
    · rw [if_pos (by unfold isPt at c; omega), if_pos c]
  rw [this]
theorem v_if_i {p : Prop} [Decidable p] {a b : Option vO} (h : p) : v_if (if ¬ p then -1 else 0) a b = b := by rw [if_neg (fun z => z h)]; rfl
theorem v_if_o {p : Prop} [Decidable p] {a b : Option vO} (h : ¬ p) : v_if (if ¬ p then -1 else 0) a b = a := by rw [if_pos h]; rfl
/-- Screen.drawPixel -/
theorem j_pixel (R : MR ky G h) (e : h 254 99 = -1) (x y : Int) (h0 : h 321 0 = x) (h1 : h 321 1 = y) : ∃ o h', vD ky (d + 2) 41 [x, y] G = some o ∧ am_D (d + 3) 17 108 [am_r (am_a 254), am_i 2] (zS L, h) = pV L h' ∧ JO ky G h o h' ∧ (∀ v, o.1 = .inl v → v = 0) := by
  rw [w_41, v_out, v_cl_i, D_17_108, if_neg (show ¬ (2 : Int) = 0 by decide), if_neg (show ¬ (2 : Int) = 1 by decide), if_pos (show (2 : Int) = 2 from rfl), p_idx (by decide) (by decide), p_idx (by decide) (by decide), show (0 : Int).toNat = 0 from rfl, show (1 : Int).toNat = 1 from rfl, h0, h1, m_isPt, p_xI]
  by_cases c : isPt x y
  · obtain ⟨a, ha⟩ : ∃ a : Nat, x = a := ⟨x.toNat, by unfold isPt at c; omega⟩
    obtain ⟨b, hb⟩ : ∃ b : Nat, y = b := ⟨y.toNat, by unfold isPt at c; omega⟩
    have cb : a ≤ 63 ∧ b ≤ 31 := by unfold isPt at c; omega
    rw [pB_t c, if_neg (show ¬ (1 : Int) = 0 by decide), v_if_i c, w_41_108, p_idx (by decide) (by decide), p_idx (by decide) (by decide), show (0 : Int).toNat = 0 from rfl, show (1 : Int).toNat = 1 from rfl, h0, h1, ha, hb, v_row d a a b (Nat.le_refl _) cb.1 cb.2, v_cl_i]
    obtain ⟨h2, a1, a2⟩ := j_point d L R a b cb.1 cb.2
    rw [a1, p_xV, show a + 1 - a = 1 by omega]
    exact ⟨_, _, rfl, rfl, a2.jo e ⟨by decide, by decide⟩, fun v hv => by injection hv with hv; exact hv.symm⟩
  · rw [pB_f c, if_pos rfl, v_if_o c, v_err, v_cl_r, m_err, p_xV]
    exact ⟨_, _, rfl, rfl, JO_err R e 7, fun v hv => (by cases hv)⟩
/-- Screen.drawLine -/
theorem j_line (R : MR ky G h) (e : h 254 99 = -1) (x y u v : Int) : ∃ o h', vD ky (d + 2) 43 [x, y, u, v] G = some o ∧ am_D (d + 3) 17 100 [am_r (am_a 254), am_i x, am_i y, am_i u, am_i v] (zS L, h) = pV L h' ∧ JO ky G h o h' ∧ (∀ v, o.1 = .inl v → v = 0) := by
  have go : ∀ (X Y U V DX DY SX SY : Int), isPt X Y → isPt U V → DX = (if U < X then X - U else U - X) → DY = (if V < Y then Y - V else V - Y) → SX = (if U < X then -1 else 1) → SY = (if V < Y then -1 else 1) → ∀ (m : Nat) (a b D : Int) (G : vG) (h : am_H) (tm : Option Int), 0 ≤ a → 0 ≤ b → a ≤ DX + 1 → b ≤ DY + 1 → (DX + 1 - a) + (DY + 1 - b) ≤ m → -64 ≤ D → D ≤ 64 → MR ky G h → ∃ G' h', vE ky (vD ky (d + 1)) 8 c_43 (vlab c_43 130) ([X + SX * a, Y + SY * b, U, V], [a, b, D, DX, DY, SX, SY], none, tm, [], G) = some (.inl 0, G') ∧ am_E (am_D (d + 2)) m_17_100 (.inl 9) [some (am_r (am_a 254)), some (am_i X), some (am_i Y), some (am_i U), some (am_i V), some (am_i DX), some (am_i DY), some (am_i a), some (am_i b), some (am_i D)] [] (zS L, h) = pV L h' ∧ JP ky G h G' h' := by
    intro X Y U V DX DY SX SY p1 p2 eDX eDY eSX eSY m
    have bX : 0 ≤ DX ∧ DX ≤ 63 ∧ 0 ≤ DY ∧ DY ≤ 31 := by unfold isPt at p1 p2; rw [eDX, eDY]; split <;> split <;> omega
    induction m with
    | zero =>
      intro a b D G h tm a0 b0 a1 b1 hm d1 d2 R
      rw [w_43_130, tf_not, tf_not, tf_and, v_if_f (by omega), q_17_100_9, if_pos (by omega)]
      exact ⟨_, _, rfl, rfl, JP.refl R⟩
    | succ m ih =>
      intro a b D G h tm a0 b0 a1 b1 hm d1 d2 R
      rw [w_43_130, tf_not, tf_not, tf_and, q_17_100_9]
      by_cases ca : DX < a
      · rw [v_if_f (by omega), if_pos ca]; exact ⟨_, _, rfl, rfl, JP.refl R⟩
      · rw [if_neg ca]
        by_cases cb : DY < b
        · rw [v_if_f (by omega), if_pos cb]; exact ⟨_, _, rfl, rfl, JP.refl R⟩
        · rw [if_neg cb, v_if_t ⟨ca, cb⟩]
          -- the point
          obtain ⟨px, hpx⟩ : ∃ px : Nat, X + SX * a = px := ⟨(X + SX * a).toNat, by unfold isPt at p1 p2; rw [eSX]; rw [eDX] at ca; split <;> rename_i z <;> simp only [z, if_true, if_false] at ca <;> omega⟩
          obtain ⟨py, hpy⟩ : ∃ py : Nat, Y + SY * b = py := ⟨(Y + SY * b).toNat, by unfold isPt at p1 p2; rw [eSY]; rw [eDY] at cb; split <;> rename_i z <;> simp only [z, if_true, if_false] at cb <;> omega⟩
          have hpx2 : px ≤ 63 := by unfold isPt at p1 p2; rw [eSX] at hpx; rw [eDX] at ca; split at hpx <;> rename_i z <;> simp only [z, if_true, if_false] at ca <;> omega
          have hpy2 : py ≤ 31 := by unfold isPt at p1 p2; rw [eSY] at hpy; rw [eDY] at cb; split at hpy <;> rename_i z <;> simp only [z, if_true, if_false] at cb <;> omega
          have emx : (if U < X then am_w (X - a) else am_w (X + a)) = (px : Int) := by
            unfold isPt at p1 p2
            rw [← hpx, eSX]; split
            · rw [p_w (by omega) (by omega)]; omega
            · rw [p_w (by omega) (by omega)]; omega
          have emy : (if V < Y then am_w (Y - b) else am_w (Y + b)) = (py : Int) := by
            unfold isPt at p1 p2
            rw [← hpy, eSY]; split
            · rw [p_w (by omega) (by omega)]; omega
            · rw [p_w (by omega) (by omega)]; omega
          obtain ⟨h2, q1, q2⟩ := j_point d L R px py hpx2 hpy2
          -- the model's way to it
          have em : (if U < X then if V < Y then am_E (am_D (d + 2)) m_17_100 (.inl 13) [some (am_r (am_a 254)), some (am_i X), some (am_i Y), some (am_i U), some (am_i V), some (am_i DX), some (am_i DY), some (am_i a), some (am_i b), some (am_i D)] [am_i (am_w (Y - b)), am_i (am_w (X - a)), am_r (am_a 254)] (zS L, h) else am_E (am_D (d + 2)) m_17_100 (.inl 13) [some (am_r (am_a 254)), some (am_i X), some (am_i Y), some (am_i U), some (am_i V), some (am_i DX), some (am_i DY), some (am_i a), some (am_i b), some (am_i D)] [am_i (am_w (Y + b)), am_i (am_w (X - a)), am_r (am_a 254)] (zS L, h) else if V < Y then am_E (am_D (d + 2)) m_17_100 (.inl 13) [some (am_r (am_a 254)), some (am_i X), some (am_i Y), some (am_i U), some (am_i V), some (am_i DX), some (am_i DY), some (am_i a), some (am_i b), some (am_i D)] [am_i (am_w (Y - b)), am_i (am_w (X + a)), am_r (am_a 254)] (zS L, h) else am_E (am_D (d + 2)) m_17_100 (.inl 13) [some (am_r (am_a 254)), some (am_i X), some (am_i Y), some (am_i U), some (am_i V), some (am_i DX), some (am_i DY), some (am_i a), some (am_i b), some (am_i D)] [am_i (am_w (Y + b)), am_i (am_w (X + a)), am_r (am_a 254)] (zS L, h)) = am_E (am_D (d + 2)) m_17_100 (.inl 13) [some (am_r (am_a 254)), some (am_i X), some (am_i Y), some (am_i U), some (am_i V), some (am_i DX), some (am_i DY), some (am_i a), some (am_i b), some (am_i D)] [am_i (py : Int), am_i (px : Int), am_r (am_a 254)] (zS L, h) := by
            rw [← emx, ← emy]
            by_cases z1 : U < X <;> by_cases z2 : V < Y <;> simp only [z1, z2, if_true, if_false]
          rw [em, q_17_100_13, q1, p_xV, hpx, hpy, v_row d px px py (Nat.le_refl _) hpx2 hpy2, v_cl_i, show px + 1 - px = 1 by omega]
          show ∃ G' h', v_if (if D < 0 then -1 else 0) _ _ = _ ∧ _
          have px' : am_s16 ((px : Int) + SX) = X + SX * (a + 1) := by
            rw [← hpx, s16_id]
            · rw [Int.mul_add, Int.mul_one]; omega
            · rw [hpx]; unfold rg16; rw [eSX]; split <;> omega
          have py' : am_s16 ((py : Int) + SY) = Y + SY * (b + 1) := by
            rw [← hpy, s16_id]
            · rw [Int.mul_add, Int.mul_one]; omega
            · rw [hpy]; unfold rg16; rw [eSY]; split <;> omega
          by_cases cd : D < 0
          · rw [v_if_t cd, if_pos cd, px', ← hpy, s16_id (x := a + 1) ⟨by omega, by omega⟩, s16_id (x := D + DY) ⟨by omega, by omega⟩, p_w (x := a + 1) (by omega) (by omega), p_w (x := D + DY) (by omega) (by omega)]
            obtain ⟨G', h', i1, i2, i3⟩ := ih (a + 1) b (D + DY) (pxG px py G) h2 (some 0) (by omega) b0 (by omega) b1 (by omega) (by omega) (by omega) q2.1
            exact ⟨G', h', i1, i2, q2.trans i3⟩
          · rw [v_if_f cd, if_neg cd, py', ← hpx, s16_id (x := b + 1) ⟨by omega, by omega⟩, s16_id (x := D - DX) ⟨by omega, by omega⟩, p_w (x := b + 1) (by omega) (by omega), p_w (x := D - DX) (by omega) (by omega)]
            obtain ⟨G', h', i1, i2, i3⟩ := ih a (b + 1) (D - DX) (pxG px py G) h2 (some 0) a0 (by omega) a1 (by omega) (by omega) (by omega) (by omega) q2.1
            exact ⟨G', h', i1, i2, q2.trans i3⟩
  rw [w_43, v_out, v_cl_i, v_out, v_cl_i, tf_or, D_17_100, m_isPt, p_xI]
  by_cases c1 : isPt x y
  · rw [pB_t c1, if_neg (show ¬ (1 : Int) = 0 by decide), m_isPt, p_xI]
    by_cases c2 : isPt u v
    · rw [pB_t c2, if_neg (show ¬ (1 : Int) = 0 by decide), v_if_f (by simp [c1, c2]), w_43_123]
      have b1 := c1
      have b2 := c2
      unfold isPt at b1 b2
      obtain ⟨DX, hDX⟩ : ∃ DX, DX = (if u < x then x - u else u - x) := ⟨_, rfl⟩
      obtain ⟨DY, hDY⟩ : ∃ DY, DY = (if v < y then y - v else v - y) := ⟨_, rfl⟩
      have ex : am_s16 (u - x) = u - x := s16_id ⟨by omega, by omega⟩
      have ey : am_s16 (v - y) = v - y := s16_id ⟨by omega, by omega⟩
      -- the machine's way to its loop
      have ev : ∀ tm, v_if (if am_s16 (u - x) < 0 then -1 else 0) (vE ky (vD ky (d + 1)) 8 c_43 (vlab c_43 125) ([x, y, u, v], [0, 0, 0, am_s16 (-am_s16 (u - x)), am_s16 (v - y), am_s16 (-1), 1], none, tm, [], G)) (vE ky (vD ky (d + 1)) 8 c_43 (vlab c_43 125) ([x, y, u, v], [0, 0, 0, am_s16 (u - x), am_s16 (v - y), 1, 1], none, tm, [], G)) = vE ky (vD ky (d + 1)) 8 c_43 (vlab c_43 130) ([x, y, u, v], [0, 0, if DY = 0 then -1 else 0, DX, DY, if u < x then -1 else 1, if v < y then -1 else 1], none, tm, [], G) := by
        intro tm
        have s1 : am_s16 (-1) = -1 := by decide
        have yy : ∀ DX' SX', vE ky (vD ky (d + 1)) 8 c_43 (vlab c_43 125) ([x, y, u, v], [0, 0, 0, DX', v - y, SX', 1], none, tm, [], G) = vE ky (vD ky (d + 1)) 8 c_43 (vlab c_43 130) ([x, y, u, v], [0, 0, if DY = 0 then -1 else 0, DX', DY, SX', if v < y then -1 else 1], none, tm, [], G) := by
          intro DX' SX'
          rw [w_43_125]
          by_cases z : v < y
          · have : DY = -(v - y) := by rw [hDY, if_pos z]; omega
            rw [v_if_t (by omega), s1, s16_id (x := -(v - y)) ⟨by omega, by omega⟩, ← this, w_43_127, if_pos z, s1]
            by_cases z2 : DY = 0
            · rw [v_if_t z2, if_pos z2]
            · rw [v_if_f z2, if_neg z2]
          · have : DY = v - y := by rw [hDY, if_neg z]
            rw [v_if_f (by omega), ← this, w_43_127, if_neg z, s1]
            by_cases z2 : DY = 0
            · rw [v_if_t z2, if_pos z2]
            · rw [v_if_f z2, if_neg z2]
        rw [ex, ey, s1]
        by_cases z : u < x
        · rw [v_if_t (by omega), s16_id (x := -(u - x)) ⟨by omega, by omega⟩, yy, hDX, if_pos z, if_pos z, show -(u - x) = x - u by omega]
        · rw [v_if_f (by omega), yy, hDX, if_neg z, if_neg z]
      rw [ev]
      have em : (if u < x then if v < y then am_E (am_D (d + 2)) m_17_100 (.inl 6) [some (am_r (am_a 254)), some (am_i x), some (am_i y), some (am_i u), some (am_i v), some (am_i (am_w (x - u))), none, none, none, none] [am_i (am_w (y - v))] (zS L, h) else am_E (am_D (d + 2)) m_17_100 (.inl 6) [some (am_r (am_a 254)), some (am_i x), some (am_i y), some (am_i u), some (am_i v), some (am_i (am_w (x - u))), none, none, none, none] [am_i (am_w (v - y))] (zS L, h) else if v < y then am_E (am_D (d + 2)) m_17_100 (.inl 6) [some (am_r (am_a 254)), some (am_i x), some (am_i y), some (am_i u), some (am_i v), some (am_i (am_w (u - x))), none, none, none, none] [am_i (am_w (y - v))] (zS L, h) else am_E (am_D (d + 2)) m_17_100 (.inl 6) [some (am_r (am_a 254)), some (am_i x), some (am_i y), some (am_i u), some (am_i v), some (am_i (am_w (u - x))), none, none, none, none] [am_i (am_w (v - y))] (zS L, h)) = am_E (am_D (d + 2)) m_17_100 (.inl 9) [some (am_r (am_a 254)), some (am_i x), some (am_i y), some (am_i u), some (am_i v), some (am_i DX), some (am_i DY), some (am_i 0), some (am_i 0), some (am_i (if DY = 0 then -1 else 0))] [] (zS L, h) := by
        have e6 : am_E (am_D (d + 2)) m_17_100 (.inl 6) [some (am_r (am_a 254)), some (am_i x), some (am_i y), some (am_i u), some (am_i v), some (am_i DX), none, none, none, none] [am_i DY] (zS L, h) = am_E (am_D (d + 2)) m_17_100 (.inl 9) [some (am_r (am_a 254)), some (am_i x), some (am_i y), some (am_i u), some (am_i v), some (am_i DX), some (am_i DY), some (am_i 0), some (am_i 0), some (am_i (if DY = 0 then -1 else 0))] [] (zS L, h) := by
          rw [q_17_100_6]
          by_cases z : DY = 0
          · rw [if_pos z, if_pos z]
          · rw [if_neg z, if_neg z]
        rw [← e6, hDX, hDY, p_w (x := x - u) (by omega) (by omega), p_w (x := y - v) (by omega) (by omega), p_w (x := u - x) (by omega) (by omega), p_w (x := v - y) (by omega) (by omega)]
        by_cases z1 : u < x <;> by_cases z2 : v < y <;> simp only [z1, z2, if_true, if_false]
      rw [em]
      have bDX : 0 ≤ DX ∧ 0 ≤ DY := by rw [hDX, hDY]; split <;> split <;> omega
      obtain ⟨G', h', i1, i2, i3⟩ := go x y u v DX DY _ _ c1 c2 hDX hDY rfl rfl ((DX + 1) + (DY + 1)).toNat 0 0 (if DY = 0 then -1 else 0) G h none (by omega) (by omega) (by omega) (by omega) (by omega) (by split <;> omega) (by split <;> omega) R
      rw [Int.mul_zero, Int.mul_zero, Int.add_zero, Int.add_zero] at i1
      rw [i1, i2]
      exact ⟨_, _, rfl, rfl, i3.jo e ⟨by decide, by decide⟩, fun v hv => by injection hv with hv; exact hv.symm⟩
    · rw [pB_f c2, if_pos rfl, v_if_t (by simp [c2]), v_err, v_cl_r, m_err, p_xV]
      exact ⟨_, _, rfl, rfl, JO_err R e 8, fun v hv => (by cases hv)⟩
  · rw [pB_f c1, if_pos rfl, v_if_t (by simp [c1]), v_err, v_cl_r, m_err, p_xV]
    exact ⟨_, _, rfl, rfl, JO_err R e 8, fun v hv => (by cases hv)⟩
/-- Screen.drawRectangle -/
theorem j_rect (R : MR ky G h) (e : h 254 99 = -1) (x y u v : Int) : ∃ o h', vD ky (d + 2) 44 [x, y, u, v] G = some o ∧ am_D (d + 3) 17 101 [am_r (am_a 254), am_i x, am_i y, am_i u, am_i v] (zS L, h) = pV L h' ∧ JO ky G h o h' ∧ (∀ v, o.1 = .inl v → v = 0) := by
  have row : ∀ (x u y : Nat), x ≤ u → u ≤ 63 → y ≤ 31 → ∀ (G : vG) (h : am_H) (u2 : Option am_V) (x4 : Int), MR ky G h → ∃ h1, am_E (am_D (d + 2)) m_17_101 (.inl 4) [some (am_r (am_a 254)), some (am_i (x : Int)), u2, some (am_i (u : Int)), some (am_i x4), some (am_i (y : Int)), some (am_i (x : Int))] [] (zS L, h) = am_E (am_D (d + 2)) m_17_101 (.inl 3) [some (am_r (am_a 254)), some (am_i (x : Int)), u2, some (am_i (u : Int)), some (am_i x4), some (am_i ((y + 1 : Nat) : Int)), some (am_i ((u + 1 : Nat) : Int))] [] (zS L, h1) ∧ JP ky G h (rowf y (u + 1 - x) x G) h1 := by
    intro x u y hx hu hy G h u2 x4 R
    obtain ⟨h1, a1, a2⟩ := j_row d L (ky := ky) y hy (u + 1 - x) x G h (by omega) R (fun c g => am_E (am_D (d + 2)) m_17_101 (.inl 4) [some (am_r (am_a 254)), some (am_i (x : Int)), u2, some (am_i (u : Int)), some (am_i x4), some (am_i (y : Int)), some (am_i (c : Int))] [] (zS L, g)) (fun c g g1 hg c1 c2 => by
      try dsimp only
      rw [q_17_101_4, if_neg (by omega), hg, p_xV, p_w (by omega) (by omega), show (c : Int) + 1 = ((c + 1 : Nat) : Int) by omega])
    refine ⟨h1, ?_, a2⟩
    try dsimp only at a1
    rw [a1, q_17_101_4, if_pos (by omega), p_w (by omega) (by omega), show (y : Int) + 1 = ((y + 1 : Nat) : Int) by omega, show x + (u + 1 - x) = u + 1 by omega]
  have go : ∀ (x u v : Nat), x ≤ u → u ≤ 63 → v ≤ 31 → ∀ (m y : Nat) (G : vG) (h : am_H) (tm : Option Int) (u2 u6 : Option am_V), y + m = v + 1 → MR ky G h → ∃ G' h', vE ky (vD ky (d + 1)) 8 c_44 (vlab c_44 138) ([(x : Int), (y : Int), (u : Int), (v : Int)], [], none, tm, [], G) = some (.inl 0, G') ∧ am_E (am_D (d + 2)) m_17_101 (.inl 3) [some (am_r (am_a 254)), some (am_i (x : Int)), u2, some (am_i (u : Int)), some (am_i (v : Int)), some (am_i (y : Int)), u6] [] (zS L, h) = pV L h' ∧ JP ky G h G' h' := by
    intro x u v hx hu hv m
    induction m with
    | zero =>
      intro y G h tm u2 u6 hm R
      rw [w_44_138, v_if_nt (by omega), q_17_101_3, if_pos (by omega)]
      exact ⟨_, _, rfl, rfl, JP.refl R⟩
    | succ m ih =>
      intro y G h tm u2 u6 hm R
      obtain ⟨h1, a1, a2⟩ := row x u y hx hu (by omega) G h u2 v R
      rw [w_44_138, v_if_n (by omega), v_row d x u y hx hu (by omega), v_cl_i, q_17_101_3, if_neg (by omega), a1, s16_id ⟨by omega, by omega⟩, show (y : Int) + 1 = ((y + 1 : Nat) : Int) by omega]
      obtain ⟨G', h', i1, i2, i3⟩ := ih (y + 1) _ h1 (some 0) u2 _ (by omega) a2.1
      exact ⟨G', h', i1, i2, a2.trans i3⟩
  rw [w_44, v_out, v_cl_i, v_out, v_cl_i, tf_or, tf_or, tf_or, D_17_101]
  have bad : ∀ (q : Prop) [Decidable q], q → ∀ k, ∃ o h', v_if (if q then -1 else 0) (v_cl (vD ky (d + 1) 47 [9] G) k) (vE ky (vD ky (d + 1)) 8 c_44 (vlab c_44 138) ([x, y, u, v], [], none, none, [], G)) = some o ∧ (am_xV (zS L) (am_D (d + 2) 17 77 [am_r (am_a 254), am_i 9] (zS L, h)) (am_up1 (zS L)) fun h1 => pV L h1) = pV L h' ∧ JO ky G h o h' ∧ (∀ v, o.1 = .inl v → v = 0) := by
    intro q _ hq k
    rw [v_if_t hq, v_err, v_cl_r, m_err, p_xV]
    exact ⟨_, _, rfl, rfl, JO_err R e 9, fun v hv => (by cases hv)⟩
  by_cases c1 : u < x
  · rw [if_pos c1]; exact bad _ (Or.inl (Or.inl (Or.inl c1))) _
  · rw [if_neg c1]
    by_cases c2 : v < y
    · rw [if_pos c2]; exact bad _ (Or.inl (Or.inl (Or.inr c2))) _
    · rw [if_neg c2, m_isPt, p_xI]
      by_cases c3 : isPt x y
      · rw [pB_t c3, if_neg (show ¬ (1 : Int) = 0 by decide), m_isPt, p_xI]
        by_cases c4 : isPt u v
        · rw [pB_t c4, if_neg (show ¬ (1 : Int) = 0 by decide), v_if_f (by simp [c1, c2, c3, c4])]
          unfold isPt at c3 c4
          obtain ⟨X, hX⟩ : ∃ X : Nat, x = X := ⟨x.toNat, by omega⟩
          obtain ⟨Y, hY⟩ : ∃ Y : Nat, y = Y := ⟨y.toNat, by omega⟩
          obtain ⟨U, hU⟩ : ∃ U : Nat, u = U := ⟨u.toNat, by omega⟩
          obtain ⟨V, hV⟩ : ∃ V : Nat, v = V := ⟨v.toNat, by omega⟩
          subst hX; subst hY; subst hU; subst hV
          obtain ⟨G', h', i1, i2, i3⟩ := go X U V (by omega) (by omega) (by omega) (V + 1 - Y) Y G h none (some (am_i (Y : Int))) none (by omega) R
          rw [i1, i2]
          exact ⟨_, _, rfl, rfl, i3.jo e ⟨by decide, by decide⟩, fun v hv => by injection hv with hv; exact hv.symm⟩
        · rw [pB_f c4, if_pos rfl]; exact bad _ (Or.inr c4) _
      · rw [pB_f c3, if_pos rfl]; exact bad _ (Or.inl (Or.inr c3)) _
/-- root() -/
theorem m_root (v : Int) (h1 : 0 ≤ v) (h2 : v ≤ 40000) : ∃ r, isq v r ∧ am_D (d + 1) 17 86 [am_i v] (zS L, h) = pI L r h := by
  have go : ∀ (m : Nat) (r : Int), 0 ≤ r → 200 - r ≤ m → r ≤ 200 → r * r ≤ v → ∃ s, isq v s ∧ am_E (am_D d) m_17_86 (.inl 1) [some (am_i v), some (am_i r)] [] (zS L, h) = pI L s h := by
    intro m
    induction m with
    | zero =>
      intro r r0 hm hr hv
      have : r = 200 := by omega
      subst this
      rw [q_17_86_1, p_w (x := 200 + 1) (by decide) (by decide), p_w (by decide) (by decide), if_pos (by omega)]
      exact ⟨_, ⟨by decide, hv, by omega⟩, rfl⟩
    | succ m ih =>
      intro r r0 hm hr hv
      have b1 : (r + 1) * (r + 1) ≤ 201 * 201 := Int.mul_le_mul (by omega) (by omega) (by omega) (by omega)
      have b0 : 0 ≤ (r + 1) * (r + 1) := Int.mul_nonneg (by omega) (by omega)
      rw [q_17_86_1, p_w (x := r + 1) (by omega) (by omega), p_w (by omega) (by omega)]
      by_cases c : v < (r + 1) * (r + 1)
      · rw [if_pos c]; exact ⟨_, ⟨r0, hv, c⟩, rfl⟩
      · rw [if_neg c]
        have : r + 1 ≤ 200 := by
          apply Classical.byContradiction; intro z
          have : r = 200 := by omega
          subst this; omega
        exact ih (r + 1) (by omega) (by omega) this (by omega)
  rw [D_17_86]
  exact go 200 0 (by omega) (by omega) (by omega) (by omega)
/-- Screen.drawCircle -/
theorem j_circle (R : MR ky G h) (e : h 254 99 = -1) (x y r : Int) (hx : rg16 x) (hy : rg16 y) : ∃ o h', vD ky (d + 4) 45 [x, y, r] G = some o ∧ am_D (d + 3) 17 102 [am_r (am_a 254), am_i x, am_i y, am_i r] (zS L, h) = pV L h' ∧ JO ky G h o h' ∧ (∀ v, o.1 = .inl v → v = 0) := by
  obtain ⟨hx1, hx2⟩ := hx
  obtain ⟨hy1, hy2⟩ := hy
  have row : ∀ (x y : Int) (ei w : Int) (x0 w2 yy : Nat), x - w = x0 → x + w = w2 → y + ei = yy → x0 ≤ w2 → w2 ≤ 63 → yy ≤ 31 → 0 ≤ ei + 32 → ei ≤ 32 → ∀ (G : vG) (h : am_H) (x3 : Int), MR ky G h → ∃ h1, am_E (am_D (d + 2)) m_17_102 (.inl 4) [some (am_r (am_a 254)), some (am_i x), some (am_i y), some (am_i x3), some (am_i ei), some (am_i w), some (am_i (x0 : Int))] [] (zS L, h) = am_E (am_D (d + 2)) m_17_102 (.inl 3) [some (am_r (am_a 254)), some (am_i x), some (am_i y), some (am_i x3), some (am_i (ei + 1)), some (am_i w), some (am_i ((w2 + 1 : Nat) : Int))] [] (zS L, h1) ∧ JP ky G h (rowf yy (w2 + 1 - x0) x0 G) h1 := by
    intro x y ei w x0 w2 yy e1 e2 e3 g1 g2 g3 g4 g5 G h x3 R
    obtain ⟨h1, a1, a2⟩ := j_row d L (ky := ky) yy g3 (w2 + 1 - x0) x0 G h (by omega) R (fun c g => am_E (am_D (d + 2)) m_17_102 (.inl 4) [some (am_r (am_a 254)), some (am_i x), some (am_i y), some (am_i x3), some (am_i ei), some (am_i w), some (am_i (c : Int))] [] (zS L, g)) (fun c g g1 hg c1 c2 => by
      try dsimp only
      rw [q_17_102_4, p_w (x := x + w) (by omega) (by omega), if_neg (by omega), p_w (x := y + ei) (by omega) (by omega), e3, hg, p_xV, p_w (by omega) (by omega), show (c : Int) + 1 = ((c + 1 : Nat) : Int) by omega])
    refine ⟨h1, ?_, a2⟩
    try dsimp only at a1
    rw [a1, q_17_102_4, p_w (x := x + w) (by omega) (by omega), if_pos (by omega), p_w (by omega) (by omega), show x0 + (w2 + 1 - x0) = w2 + 1 by omega]
  have go : ∀ (X Y : Int) (rr : Int), 0 ≤ rr → rr ≤ 31 → isPt (X - rr) (Y - rr) → isPt (X + rr) (Y + rr) → ∀ (m : Nat) (ei y1 : Int) (G : vG) (h : am_H) (tm : Option Int) (u5 u6 : Option am_V), rr + 1 - ei ≤ m → -rr ≤ ei → ei ≤ rr + 1 → MR ky G h → ∃ G' h', vE ky (vD ky (d + 3)) 8 c_45 (vlab c_45 147) ([X, Y, rr], [ei, y1], none, tm, [], G) = some (.inl 0, G') ∧ am_E (am_D (d + 2)) m_17_102 (.inl 3) [some (am_r (am_a 254)), some (am_i X), some (am_i Y), some (am_i rr), some (am_i ei), u5, u6] [] (zS L, h) = pV L h' ∧ JP ky G h G' h' := by
    intro X Y rr r0 r1 p1 p2 m
    unfold isPt at p1 p2
    induction m with
    | zero =>
      intro ei y1 G h tm u5 u6 hm i1 i2 R
      rw [w_45_147, v_if_nt (by omega), q_17_102_3, if_pos (by omega)]
      exact ⟨_, _, rfl, rfl, JP.refl R⟩
    | succ m ih =>
      intro ei y1 G h tm u5 u6 hm i1 i2 R
      rw [w_45_147, q_17_102_3]
      by_cases c : rr < ei
      · rw [v_if_nt c, if_pos c]; exact ⟨_, _, rfl, rfl, JP.refl R⟩
      · rw [v_if_n c, if_neg c]
        have q1 : 0 ≤ rr * rr ∧ rr * rr ≤ 31 * 31 := ⟨Int.mul_nonneg r0 r0, Int.mul_le_mul r1 r1 r0 (by decide)⟩
        have q2 : 0 ≤ ei * ei ∧ ei * ei ≤ rr * rr := by
          by_cases z : 0 ≤ ei
          · exact ⟨Int.mul_nonneg z z, Int.mul_le_mul (by omega) (by omega) z r0⟩
          · have e2 : ei * ei = (-ei) * (-ei) := by rw [Int.neg_mul_neg]
            rw [e2]; exact ⟨Int.mul_nonneg (by omega) (by omega), Int.mul_le_mul (by omega) (by omega) (by omega) r0⟩
        obtain ⟨w, w1, w2, w3⟩ := v_sqrt ky (d + 1) G (rr * rr - ei * ei) (by omega) (by omega)
        obtain ⟨w', w1', w3'⟩ := m_root (d + 1) L (h := h) (rr * rr - ei * ei) (by omega) (by omega)
        have := isq_u w1' w1
        subst this
        have wr : w' ≤ rr := by
          apply Int.not_lt.1; intro z
          have : (rr + 1) * (rr + 1) ≤ w' * w' := Int.mul_le_mul (by omega) (by omega) (by omega) w1.1
          have e3 : (rr + 1) * (rr + 1) = rr * rr + 2 * rr + 1 := by rw [Int.add_mul, Int.mul_add]; omega
          have := w1.2.1
          omega
        have w0 := w1.1
        obtain ⟨a, ha⟩ : ∃ a : Nat, X - w' = a := ⟨(X - w').toNat, by omega⟩
        obtain ⟨b, hb⟩ : ∃ b : Nat, X + w' = b := ⟨(X + w').toNat, by omega⟩
        obtain ⟨yy, hyy⟩ : ∃ yy : Nat, Y + ei = yy := ⟨(Y + ei).toNat, by omega⟩
        rw [v_mul ky _ G rr rr ⟨by omega, by omega⟩ ⟨by omega, by omega⟩, v_cl_i, v_mul ky _ G ei ei ⟨by omega, by omega⟩ ⟨by omega, by omega⟩, v_cl_i, s16_id (x := rr * rr) ⟨by omega, by omega⟩, s16_id (x := ei * ei) ⟨by omega, by omega⟩, s16_id (x := rr * rr - ei * ei) ⟨by omega, by omega⟩, w3, v_cl_i, s16_id (x := X - w') ⟨by omega, by omega⟩, s16_id (x := X + w') ⟨by omega, by omega⟩, s16_id (x := Y + ei) ⟨by omega, by omega⟩, ha, hb, hyy, v_row (d + 2) a b yy (by omega) (by omega) (by omega), v_cl_i, s16_id (x := ei + 1) ⟨by omega, by omega⟩]
        rw [p_w (x := rr * rr) (by omega) (by omega), p_w (x := ei * ei) (by omega) (by omega), p_w (x := rr * rr - ei * ei) (by omega) (by omega), w3', p_xI, p_w (x := X - w') (by omega) (by omega), ha]
        obtain ⟨h1, a1, a2⟩ := row X Y ei w' a b yy ha hb hyy (by omega) (by omega) (by omega) (by omega) (by omega) G h rr R
        rw [a1]
        obtain ⟨G', h', j1, j2, j3⟩ := ih (ei + 1) w' _ h1 (some 0) _ _ (by omega) (by omega) (by omega) a2.1
        exact ⟨G', h', j1, j2, a2.trans j3⟩
  have err : ∃ o h', some ((.inr (3, 13), G) : vO) = some o ∧ (am_xV (zS L) (am_D (d + 2) 17 77 [am_r (am_a 254), am_i 13] (zS L, h)) (am_up1 (zS L)) fun h1 => pV L h1) = pV L h' ∧ JO ky G h o h' ∧ (∀ v, o.1 = .inl v → v = 0) := by
    rw [m_err, p_xV]
    exact ⟨_, _, rfl, rfl, JO_err R e 13, fun v hv => (by cases hv)⟩
  rw [w_45, tf_or, D_17_102]
  by_cases c1 : r < 0
  · rw [v_if_t (Or.inl c1), v_err, v_cl_r, if_pos c1]; exact err
  · rw [if_neg c1]
    by_cases c2 : 31 < r
    · rw [v_if_t (Or.inr c2), v_err, v_cl_r, if_pos c2]; exact err
    · rw [v_if_f (by omega), if_neg c2, w_45_142, v_out, v_cl_i, p_w (x := x - r) (by omega) (by omega), p_w (x := y - r) (by omega) (by omega), m_isPt, p_xI]
      by_cases c3 : isPt x y
      · have b3 := c3
        unfold isPt at b3
        rw [v_if_i c3, w_45_144, s16_id (x := x - r) ⟨by omega, by omega⟩, s16_id (x := y - r) ⟨by omega, by omega⟩, s16_id (x := x + r) ⟨by omega, by omega⟩, s16_id (x := y + r) ⟨by omega, by omega⟩, v_out, v_cl_i, v_out, v_cl_i, tf_or]
        by_cases c4 : isPt (x - r) (y - r)
        · rw [pB_t c4, if_neg (show ¬ (1 : Int) = 0 by decide), p_w (x := x + r) (by omega) (by omega), p_w (x := y + r) (by omega) (by omega), m_isPt, p_xI]
          by_cases c5 : isPt (x + r) (y + r)
          · rw [pB_t c5, if_neg (show ¬ (1 : Int) = 0 by decide), v_if_f (fun z => z.elim (fun z => z c4) (fun z => z c5)), s16_id (x := -r) ⟨by omega, by omega⟩, p_w (x := -r) (by omega) (by omega)]
            obtain ⟨G', h', i1, i2, i3⟩ := go x y r (by omega) (by omega) c4 c5 (r + 1 + r).toNat (-r) 0 G h none none none (by omega) (by omega) (by omega) R
            rw [i1, i2]
            exact ⟨_, _, rfl, rfl, i3.jo e ⟨by decide, by decide⟩, fun v hv => by injection hv with hv; exact hv.symm⟩
          · rw [pB_f c5, if_pos rfl, v_if_t (Or.inr c5), v_err, v_cl_r]; exact err
        · rw [pB_f c4, if_pos rfl, v_if_t (Or.inl c4), v_err, v_cl_r]; exact err
      · rw [v_if_o c3, v_err, v_cl_r]
        by_cases c4 : isPt (x - r) (y - r)
        · rw [pB_t c4, if_neg (show ¬ (1 : Int) = 0 by decide), p_w (x := x + r) (by omega) (by omega), p_w (x := y + r) (by omega) (by omega), m_isPt, p_xI, pB_f (by unfold isPt at *; omega), if_pos rfl]; exact err
        · rw [pB_f c4, if_pos rfl]; exact err
/-- Screen.clearScreen -/
theorem j_clear (R : MR ky G h) (e : h 254 99 = -1) : ∃ o h', vD ky (d + 2) 39 [] G = some o ∧ am_D (d + 3) 17 108 [am_r (am_a 254), am_i 0] (zS L, h) = pV L h' ∧ JO ky G h o h' ∧ (∀ v, o.1 = .inl v → v = 0) := by
  have go : ∀ (m i : Nat) (G : vG) (h : am_H) (tm : Option Int) (u1 : Option am_V), i + m = 128 → MR ky G h → ∃ G' h', vE ky (vD ky (d + 1)) 8 c_39 (vlab c_39 104) ([], [16384, (i : Int)], none, tm, [], G) = some (.inl 0, G') ∧ am_E (am_D (d + 2)) m_17_108 (.inl 2) [some (am_r (am_a 254)), u1, some (am_i ((16384 + i : Nat) : Int))] [] (zS L, h) = pV L h' ∧ JP ky G h G' h' := by
    intro m
    induction m with
    | zero =>
      intro i G h tm u1 hm R
      rw [w_39_104, v_if_f (by omega), q_17_108_2, if_neg (by omega)]
      exact ⟨_, _, rfl, rfl, JP.refl R⟩
    | succ m ih =>
      intro i G h tm u1 hm R
      have hAw : v_pl ((16384 + i : Nat) : Int) := Or.inr (by omega)
      have wr := R.wr hAw (v := 0) ⟨by decide, by decide⟩
      have vf := vfr_wr (G := G) hAw 0
      rw [Int.toNat_natCast] at wr vf
      rw [w_39_104, v_if_t (by omega), s16_id (x := 16384 + (i : Int)) ⟨by omega, by omega⟩, v_wr_m (by omega) (by omega), s16_id (x := (i : Int) + 1) ⟨by omega, by omega⟩, q_17_108_2, if_pos (by omega), p_idx (by omega) (by omega), Int.toNat_natCast, p_w (by omega) (by omega), show ((16384 + i : Nat) : Int) + 1 = ((16384 + (i + 1) : Nat) : Int) by omega, show (i : Int) + 1 = ((i + 1 : Nat) : Int) by omega, show (16384 + (i : Int)).toNat = 16384 + i by omega]
      obtain ⟨G', h', i1, i2, i3⟩ := ih (i + 1) _ _ (some 0) u1 (by omega) wr
      exact ⟨G', h', i1, i2, JP.trans ⟨wr, vf, jfr_wr _ _, up_99, by rw [p_up_c _ _ _ _ _ (by decide)]⟩ i3⟩
  rw [w_39, D_17_108, if_pos rfl]
  obtain ⟨G', h', i1, i2, i3⟩ := go 128 0 G h none (some (am_i 0)) rfl R
  rw [show ((0 : Nat) : Int) = 0 from rfl] at i1
  rw [i1]
  exact ⟨_, _, rfl, i2, i3.jo e ⟨by decide, by decide⟩, fun v hv => by injection hv with hv; exact hv.symm⟩
/-- Screen.setColor -/
theorem j_color (R : MR ky G h) (e : h 254 99 = -1) (x : Int) (hx : rg16 x) (h0 : h 321 0 = x) : ∃ o h', vD ky (d + 2) 38 [x] G = some o ∧ am_D (d + 3) 17 108 [am_r (am_a 254), am_i 1] (zS L, h) = pV L h' ∧ JO ky G h o h' ∧ (∀ v, o.1 = .inl v → v = 0) := by
  have fin : ∀ b, b = (if x = 0 then 0 else 1) → JO ky G h (.inl 0, (p_set G.1 19 x, G.2)) (am_up h 254 108 b) := by
    intro b hb
    obtain ⟨r1, ⟨bl, ⟨⟨b1, b2, b3, b4⟩, b5, b6⟩, r2, r3⟩, r4, r5, r6, r7⟩ := R
    have cf : ∀ k, k ≠ 108 → am_up h 254 108 b 254 k = h 254 k := fun k hk => p_up_n _ _ _ _ _ _ (Or.inr hk)
    have cc : ∀ a, a ≠ 254 → am_up h 254 108 b a = h a := fun a ha => p_up_c _ _ _ _ _ ha
    have st : ∀ a, a ≠ 19 → p_set G.1 19 x a = G.1 a := fun a ha => p_set_n _ _ _ _ ha
    refine ⟨⟨fun a ha => ?_, ⟨bl, ⟨⟨?_, ?_, ?_, b4⟩, fun j q hq => ?_, b6⟩, ?_, ?_⟩, ?_, ?_, ?_, fun a => ?_⟩, fun a a1 a2 => st a (by omega), (p_fr.refl h).upf _ _ _ rfl, (cf 99 (by decide)).trans e, cf 100 (by decide), by decide, by decide⟩
    · rw [cc 308 (by decide)]; exact (st a (by unfold v_pl at ha; omega)).trans (r1 a ha)
    · exact (st 16 (by decide)).trans b1
    · exact (st 17 (by decide)).trans b2
    · exact (st 18 (by decide)).trans b3
    · dsimp only; rw [st _ (by omega), st _ (by omega)]; exact b5 j q hq
    · rw [cf 81 (by decide)]; exact r2
    · unfold bk; rw [cf 81 (by decide), cc 309 (by decide), cc 310 (by decide)]; exact r3
    · rw [p_up_s, hb]; simp only [p_set_s]
    · unfold kyR; rw [cf 103 (by decide), cf 102 (by decide), cc 319 (by decide)]; exact r5
    · rw [cf 106 (by decide), cc 320 (by decide)]; exact r6
    · show rg16 (p_set G.1 19 x a)
      by_cases z : a = 19
      · rw [z, p_set_s]; exact hx
      · rw [st a z]; exact r7 a
  rw [w_38, D_17_108, if_neg (show ¬ (1 : Int) = 0 by decide), if_pos (show (1 : Int) = 1 from rfl), p_idx (by decide) (by decide), show (0 : Int).toNat = 0 from rfl, h0]
  by_cases c : x = 0
  · rw [if_pos c, p_bit0]
    exact ⟨_, _, rfl, rfl, fin 0 (by rw [if_pos c]), fun v hv => by injection hv with hv; exact hv.symm⟩
  · rw [if_neg c, p_bit1]
    exact ⟨_, _, rfl, rfl, fin 1 (by rw [if_neg c]), fun v hv => by injection hv with hv; exact hv.symm⟩
end
