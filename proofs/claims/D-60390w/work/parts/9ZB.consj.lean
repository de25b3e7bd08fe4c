/-! CONSTRUCTORS, 20: the component's constructor -/
def koB4 : List am_A := ((m_0_1.getD 4 (false, [])).2).drop 8
theorem q_c4a (Γ : am_G) (L : Nat) (h : am_H) (n : Int) (u1 u2 u4 u5 : Option am_V) : am_E Γ m_0_1 (.inl 4) [some (am_r (am_a 1)), u1, u2, some (am_i n), u4, u5] [] (koZ L koT3, h) = am_xI (koZ L koT3) (Γ 7 26 [am_r (am_a 212), am_i n, am_i 1] (koZ L koT3, h)) (am_up1 (koZ L koT3)) fun _ h1 => am_cV (Γ 0 2 [am_r (am_a 1)] (koZ L koT3, h1)) am_up0 fun σ => am_E Γ m_0_1 (.inr koB4) [some (am_r (am_a 1)), u1, u2, some (am_i n), u4, u5] [] σ := by
  rw [am_cut Γ m_0_1 8 4]
  rfl
theorem q_c4b (Γ : am_G) (L : Nat) (h : am_H) (u1 u2 u3 u4 u5 : Option am_V) : am_E Γ m_0_1 (.inr koB4) [some (am_r (am_a 1)), u1, u2, u3, u4, u5] [] (koZ L koT4, h) = am_xV (koZ L koT4) (Γ 14 16 [am_r (am_a 12)] (koZ L koT4, h)) (am_up1 (koZ L koT4)) fun h1 => am_xV (koZ L koT4) (Γ 14 29 [am_r (am_a 12), am_r (am_a 8), am_i 0, am_r (am_a 217), am_i 0] (koZ L koT4, h1)) (am_up1 (koZ L koT4)) fun h2 => some (.inl none, (koZ L koT4, am_up (am_up (am_up (am_up h2 1 4 (h2 8 3)) 1 7 (h2 8 4)) 1 5 (h2 12 3)) 1 6 (h2 4 3))) := by
  rw [← am_unr_E Γ m_0_1 60]
  rfl
