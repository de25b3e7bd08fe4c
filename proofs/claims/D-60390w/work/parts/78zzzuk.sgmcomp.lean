/-! SIGNS, 11: the model works out -/
section
variable {d L : Nat} {t : Nat → Int} {n : Nat} {h : am_H}
theorem sd_c44 {u1 : Option am_V} {m a b c x x7 : Int} : am_E (am_D d) m_17_135 (.inl 44) [some (am_r (am_a 254)), u1, some (am_i m), some (am_i a), some (am_i b), some (am_i c), some (am_i x), some (am_i x7)] [] (zS L, h) = pI L (if m = 3 ∧ a = 65 ∧ c = 68 then (if b = 45 then am_w (7 + x) else -1) else if x7 = -1 then -1 else am_w (x7 + x)) h := by
  rw [q_17_135_44]
  by_cases c1 : m = 3
  · rw [if_pos c1]
    by_cases c2 : a = 65
    · rw [if_pos c2]
      by_cases c3 : c = 68
      · rw [if_pos c3, if_pos (show m = 3 ∧ a = 65 ∧ c = 68 from ⟨c1, c2, c3⟩)]
        by_cases c4 : b = 45
        · rw [if_pos c4, if_pos c4, q_17_135_46, if_neg (by decide)]
        · rw [if_neg c4, if_neg c4, q_17_135_46, if_pos rfl]
      · rw [if_neg c3, if_neg (c := m = 3 ∧ a = 65 ∧ c = 68) (fun z => c3 z.2.2)]
        by_cases c4 : x7 = -1
        · rw [if_pos c4, if_pos c4]
        · rw [if_neg c4, if_neg c4]
    · rw [if_neg c2, if_neg (c := m = 3 ∧ a = 65 ∧ c = 68) (fun z => c2 z.2.1)]
      by_cases c4 : x7 = -1
      · rw [if_pos c4, if_pos c4]
      · rw [if_neg c4, if_neg c4]
  · rw [if_neg c1, if_neg (c := m = 3 ∧ a = 65 ∧ c = 68) (fun z => c1 z.1)]
    by_cases c4 : x7 = -1
    · rw [if_pos c4, if_pos c4]
    · rw [if_neg c4, if_neg c4]
/-- what the blocks find -/
def mf1 (m a : Int) : Int := if m = 1 then (if a = 48 then 42 else if a = 49 then 63 else if a = 68 then 12 else if a = 65 then 48 else -1) else -1
def mf2 (m a b x : Int) : Int := if m = 2 ∧ a = 45 then (if b = 49 then 58 else if b = 68 then 15 else if b = 65 then 51 else -1) else x
def mf3 (m a b x : Int) : Int := if m = 2 ∧ a = 33 then (if b = 68 then 13 else if b = 65 then 49 else -1) else x
def mf4 (m a b c x : Int) : Int := if m = 3 ∧ a = 68 ∧ c = 49 then (if b = 43 then 31 else if b = 45 then 14 else -1) else x
def mf5 (m a b c x : Int) : Int := if m = 3 ∧ a = 65 ∧ c = 49 then (if b = 43 then 55 else if b = 45 then 50 else -1) else x
def mf6 (m a b c x : Int) : Int := if m = 3 ∧ a = 68 ∧ c = 65 then (if b = 43 then 2 else if b = 45 then 19 else if b = 38 then 0 else if b = 124 then 21 else -1) else x
theorem sd_c15 {u1 u5 u7 : Option am_V} {m a b c x : Int} : am_E (am_D d) m_17_135 (.inl 15) [some (am_r (am_a 254)), u1, some (am_i m), some (am_i a), some (am_i b), u5, some (am_i x), u7] [am_i c] (zS L, h) = am_E (am_D d) m_17_135 (.inl 44) [some (am_r (am_a 254)), u1, some (am_i m), some (am_i a), some (am_i b), some (am_i c), some (am_i x), some (am_i (mf6 m a b c (mf5 m a b c (mf4 m a b c (mf3 m a b (mf2 m a b (mf1 m a)))))))] [] (zS L, h) := by
  have E38 : ∀ {x7 : Int}, am_E (am_D d) m_17_135 (.inl 38) [some (am_r (am_a 254)), u1, some (am_i m), some (am_i a), some (am_i b), some (am_i c), some (am_i x), some (am_i x7)] [] (zS L, h) = am_E (am_D d) m_17_135 (.inl 44) [some (am_r (am_a 254)), u1, some (am_i m), some (am_i a), some (am_i b), some (am_i c), some (am_i x), some (am_i (mf6 m a b c x7))] [] (zS L, h) := fun {x7} => by
    rw [q_17_135_38]; unfold mf6
    by_cases c1 : m = 3 <;> by_cases c2 : a = 68 <;> by_cases c3 : c = 65 <;> by_cases c4 : b = 43 <;> by_cases c5 : b = 45 <;> by_cases c6 : b = 38 <;> by_cases c7 : b = 124 <;> simp [c1, c2, c3, c4, c5, c6, c7]
  have E34 : ∀ {x7 : Int}, am_E (am_D d) m_17_135 (.inl 34) [some (am_r (am_a 254)), u1, some (am_i m), some (am_i a), some (am_i b), some (am_i c), some (am_i x), some (am_i x7)] [] (zS L, h) = am_E (am_D d) m_17_135 (.inl 38) [some (am_r (am_a 254)), u1, some (am_i m), some (am_i a), some (am_i b), some (am_i c), some (am_i x), some (am_i (mf5 m a b c x7))] [] (zS L, h) := fun {x7} => by
    rw [q_17_135_34]; unfold mf5
    by_cases c1 : m = 3 <;> by_cases c2 : a = 65 <;> by_cases c3 : c = 49 <;> by_cases c4 : b = 43 <;> by_cases c5 : b = 45 <;> simp [c1, c2, c3, c4, c5]
  have E30 : ∀ {x7 : Int}, am_E (am_D d) m_17_135 (.inl 30) [some (am_r (am_a 254)), u1, some (am_i m), some (am_i a), some (am_i b), some (am_i c), some (am_i x), some (am_i x7)] [] (zS L, h) = am_E (am_D d) m_17_135 (.inl 34) [some (am_r (am_a 254)), u1, some (am_i m), some (am_i a), some (am_i b), some (am_i c), some (am_i x), some (am_i (mf4 m a b c x7))] [] (zS L, h) := fun {x7} => by
    rw [q_17_135_30]; unfold mf4
    by_cases c1 : m = 3 <;> by_cases c2 : a = 68 <;> by_cases c3 : c = 49 <;> by_cases c4 : b = 43 <;> by_cases c5 : b = 45 <;> simp [c1, c2, c3, c4, c5]
  have E26 : ∀ {x7 : Int}, am_E (am_D d) m_17_135 (.inl 26) [some (am_r (am_a 254)), u1, some (am_i m), some (am_i a), some (am_i b), some (am_i c), some (am_i x), some (am_i x7)] [] (zS L, h) = am_E (am_D d) m_17_135 (.inl 30) [some (am_r (am_a 254)), u1, some (am_i m), some (am_i a), some (am_i b), some (am_i c), some (am_i x), some (am_i (mf3 m a b x7))] [] (zS L, h) := fun {x7} => by
    rw [q_17_135_26]; unfold mf3
    by_cases c1 : m = 2 <;> by_cases c2 : a = 33 <;> by_cases c3 : b = 68 <;> by_cases c4 : b = 65 <;> simp [c1, c2, c3, c4]
  have E21 : ∀ {x7 : Int}, am_E (am_D d) m_17_135 (.inl 21) [some (am_r (am_a 254)), u1, some (am_i m), some (am_i a), some (am_i b), some (am_i c), some (am_i x), some (am_i x7)] [] (zS L, h) = am_E (am_D d) m_17_135 (.inl 26) [some (am_r (am_a 254)), u1, some (am_i m), some (am_i a), some (am_i b), some (am_i c), some (am_i x), some (am_i (mf2 m a b x7))] [] (zS L, h) := fun {x7} => by
    rw [q_17_135_21]; unfold mf2
    by_cases c1 : m = 2 <;> by_cases c2 : a = 45 <;> by_cases c3 : b = 49 <;> by_cases c4 : b = 68 <;> by_cases c5 : b = 65 <;> simp [c1, c2, c3, c4, c5]
  have E15 : am_E (am_D d) m_17_135 (.inl 15) [some (am_r (am_a 254)), u1, some (am_i m), some (am_i a), some (am_i b), u5, some (am_i x), u7] [am_i c] (zS L, h) = am_E (am_D d) m_17_135 (.inl 21) [some (am_r (am_a 254)), u1, some (am_i m), some (am_i a), some (am_i b), some (am_i c), some (am_i x), some (am_i (mf1 m a))] [] (zS L, h) := by
    rw [q_17_135_15]; unfold mf1
    by_cases c1 : m = 1 <;> by_cases c2 : a = 48 <;> by_cases c3 : a = 49 <;> by_cases c4 : a = 68 <;> by_cases c5 : a = 65 <;> simp [c1, c2, c3, c4, c5]
  rw [E15, E21, E26, E30, E34, E38]
def mA65 (a : Int) : Int := if a = 77 then 65 else a
def mM64 (a b c : Int) : Int := if a = 77 ∨ b = 77 ∨ c = 77 then 64 else 0
theorem sd_c6 {u1 u5 u6 u7 : Option am_V} {m a b c : Int} : ∃ u5', am_E (am_D d) m_17_135 (.inl 6) [some (am_r (am_a 254)), u1, some (am_i m), some (am_i a), some (am_i b), u5, u6, u7] [am_i c] (zS L, h) = am_E (am_D d) m_17_135 (.inl 15) [some (am_r (am_a 254)), u1, some (am_i m), some (am_i (mA65 a)), some (am_i (mA65 b)), u5', some (am_i (mM64 a b c)), u7] [am_i (mA65 c)] (zS L, h) := by
  refine ⟨some (am_i c), ?_⟩
  have E11 : ∀ {u3 : Option am_V} {x s0 : Int}, am_E (am_D d) m_17_135 (.inl 11) [some (am_r (am_a 254)), u1, some (am_i m), u3, some (am_i b), some (am_i c), some (am_i x), u7] [am_i s0] (zS L, h) = am_E (am_D d) m_17_135 (.inl 15) [some (am_r (am_a 254)), u1, some (am_i m), some (am_i s0), some (am_i (mA65 b)), some (am_i c), some (am_i x), u7] [am_i (mA65 c)] (zS L, h) := fun {u3 x s0} => by
    rw [q_17_135_11]; unfold mA65
    by_cases c1 : b = 77 <;> by_cases c2 : c = 77 <;> simp [c1, c2]
  rw [q_17_135_6]
  simp only [E11]
  unfold mM64
  by_cases c1 : a = 77
  · rw [if_pos c1, if_pos c1, if_pos (Or.inl c1), c1]; rfl
  · have ea : mA65 a = a := if_neg c1
    rw [if_neg c1, ea]
    by_cases c2 : b = 77
    · rw [if_pos c2, if_neg c1, if_pos (Or.inr (Or.inl c2))]
    · rw [if_neg c2]
      by_cases c3 : c = 77
      · rw [if_pos c3, if_neg c1, if_pos (Or.inr (Or.inr c3))]
      · rw [if_neg c3, if_neg c1, if_neg (c := a = 77 ∨ b = 77 ∨ c = 77) (by rintro (z | z | z); exact c1 z; exact c2 z; exact c3 z)]
/-- what the model finds -/
def mfin (m a b c x : Int) : Int := if m = 3 ∧ a = 65 ∧ c = 68 then (if b = 45 then am_w (7 + x) else -1) else if mf6 m a b c (mf5 m a b c (mf4 m a b c (mf3 m a b (mf2 m a b (mf1 m a))))) = -1 then -1 else am_w (mf6 m a b c (mf5 m a b c (mf4 m a b c (mf3 m a b (mf2 m a b (mf1 m a))))) + x)
theorem mfin_1 (a : Int) : mfin 1 (mA65 a) (mA65 0) (mA65 0) (mM64 a 0 0) = cmB [a] := by
  by_cases h1 : a = 48
  · subst h1; rfl
  by_cases h2 : a = 49
  · subst h2; rfl
  by_cases h3 : a = 68
  · subst h3; rfl
  by_cases h4 : a = 65
  · subst h4; rfl
  by_cases h5 : a = 77
  · subst h5; rfl
  have ea : mA65 a = a := if_neg h5
  rw [ea]
  simp [mfin, mf6, mf5, mf4, mf3, mf2, mf1, cmB, h1, h2, h3, h4, h5]
theorem mfin_2 (a b : Int) : mfin 2 (mA65 a) (mA65 b) (mA65 0) (mM64 a b 0) = cmB [a, b] := by
  have key : ∀ a b : Int, (a = 45 ∨ a = 33) → (b = 49 ∨ b = 68 ∨ b = 65 ∨ b = 77) → mfin 2 (mA65 a) (mA65 b) (mA65 0) (mM64 a b 0) = cmB [a, b] := by
    rintro a b (rfl | rfl) (rfl | rfl | rfl | rfl) <;> rfl
  by_cases h1 : a = 45 ∨ a = 33
  · by_cases h2 : b = 49 ∨ b = 68 ∨ b = 65 ∨ b = 77
    · exact key a b h1 h2
    · have h2' : b ≠ 49 ∧ b ≠ 68 ∧ b ≠ 65 ∧ b ≠ 77 := by omega
      obtain ⟨x1, x2, x3, x4⟩ := h2'
      have eb : mA65 b = b := if_neg x4
      have ea : mA65 a = a := if_neg (by omega)
      rw [ea, eb]
      rcases h1 with rfl | rfl <;> simp [mfin, mf6, mf5, mf4, mf3, mf2, mf1, cmB, x1, x2, x3, x4]
  · have h1' : a ≠ 45 ∧ a ≠ 33 := by omega
    have m1 : mA65 a ≠ 45 ∧ mA65 a ≠ 33 := by unfold mA65; split <;> omega
    simp [mfin, mf6, mf5, mf4, mf3, mf2, mf1, cmB, h1'.1, h1'.2, m1.1, m1.2]
theorem mfin_3 (a b c : Int) : mfin 3 (mA65 a) (mA65 b) (mA65 c) (mM64 a b c) = cmB [a, b, c] := by
  have key : ∀ a b c : Int, (a = 68 ∨ a = 65 ∨ a = 77) → (b = 43 ∨ b = 45 ∨ b = 38 ∨ b = 124) → (c = 49 ∨ c = 65 ∨ c = 77 ∨ c = 68) → mfin 3 (mA65 a) (mA65 b) (mA65 c) (mM64 a b c) = cmB [a, b, c] := by
    rintro a b c (rfl | rfl | rfl) (rfl | rfl | rfl | rfl) (rfl | rfl | rfl | rfl) <;> rfl
  by_cases h1 : a = 68 ∨ a = 65 ∨ a = 77
  · by_cases h2 : b = 43 ∨ b = 45 ∨ b = 38 ∨ b = 124
    · by_cases h3 : c = 49 ∨ c = 65 ∨ c = 77 ∨ c = 68
      · exact key a b c h1 h2 h3
      · have h3' : c ≠ 49 ∧ c ≠ 65 ∧ c ≠ 77 ∧ c ≠ 68 := by omega
        obtain ⟨x1, x2, x3, x4⟩ := h3'
        have ec : mA65 c = c := if_neg x3
        rw [ec]
        simp [mfin, mf6, mf5, mf4, mf3, mf2, mf1, cmB, x1, x2, x3, x4]
    · have h2' : b ≠ 43 ∧ b ≠ 45 ∧ b ≠ 38 ∧ b ≠ 124 := by omega
      obtain ⟨x1, x2, x3, x4⟩ := h2'
      have m1 : mA65 b ≠ 43 ∧ mA65 b ≠ 45 ∧ mA65 b ≠ 38 ∧ mA65 b ≠ 124 := by unfold mA65; split <;> omega
      obtain ⟨y1, y2, y3, y4⟩ := m1
      simp [mfin, mf6, mf5, mf4, mf3, mf2, mf1, cmB, x1, x2, x3, x4, y1, y2, y3, y4]
  · have h1' : a ≠ 68 ∧ a ≠ 65 ∧ a ≠ 77 := by omega
    have ea : mA65 a = a := if_neg h1'.2.2
    rw [ea]
    simp [mfin, mf6, mf5, mf4, mf3, mf2, mf1, cmB, h1'.1, h1'.2.1, h1'.2.2]
theorem mfin_n (m a b c x : Int) (h : m = 0 ∨ 4 ≤ m) : mfin m a b c x = -1 := by
  have h1 : m ≠ 1 ∧ m ≠ 2 ∧ m ≠ 3 := by omega
  simp [mfin, mf6, mf5, mf4, mf3, mf2, mf1, h1.1, h1.2.1, h1.2.2]
theorem sd_comp (H : lm_T t n h) {a m : Nat} (he : a + m ≤ n) : am_D (d + 1) 17 135 [am_r (am_a 254), am_i (a : Int), am_i (m : Int)] (zS L, h) = pI L (cmB (lx_span t a (a + m))) h := by
  have hn := H.2.1
  have E6 : ∀ {u1 u5 u6 u7 : Option am_V} {x y z : Int}, am_E (am_D d) m_17_135 (.inl 6) [some (am_r (am_a 254)), u1, some (am_i (m : Int)), some (am_i x), some (am_i y), u5, u6, u7] [am_i z] (zS L, h) = pI L (mfin m (mA65 x) (mA65 y) (mA65 z) (mM64 x y z)) h := fun {u1 u5 u6 u7 x y z} => by
    obtain ⟨u5', r⟩ := sd_c6 (d := d) (L := L) (h := h) (u1 := u1) (u5 := u5) (u6 := u6) (u7 := u7) (m := (m : Int)) (a := x) (b := y) (c := z)
    rw [r, sd_c15, sd_c44]; rfl
  have g0 := fun (k : Nat) (hk : k < m) => (H.2.2 (a + k) (by omega)).1
  rw [D_17_135]
  by_cases c0 : m = 0
  · subst c0
    rw [if_neg (by decide), q_17_135_2, if_neg (by decide), q_17_135_4, if_neg (by decide), E6, mfin_n ((0 : Nat) : Int) _ _ _ _ (Or.inl rfl), sspan_0 (by omega)]; rfl
  have e0 : h 256 a = t a := g0 0 (by omega)
  have s0 : lx_span t a (a + m) = t a :: lx_span t (a + 1) (a + m) := sspan_c (by omega)
  rw [if_pos (by omega), p_idx (by omega) (by omega), Int.toNat_natCast, e0, q_17_135_2, s0]
  by_cases c1 : m = 1
  · subst c1
    rw [if_neg (by decide), q_17_135_4, if_neg (by decide), E6, sspan_0 (by omega)]
    exact congrArg (fun x => pI L x h) (mfin_1 (t a))
  have e1 : h 256 (a + 1) = t (a + 1) := g0 1 (by omega)
  have s1 : lx_span t (a + 1) (a + m) = t (a + 1) :: lx_span t (a + 2) (a + m) := sspan_c (by omega)
  rw [if_pos (by omega), p_w (x := (a : Int) + 1) (by omega) (by omega), p_idx (by omega) (by omega), show ((a : Int) + 1).toNat = a + 1 by omega, e1, q_17_135_4, s1]
  by_cases c2 : m = 2
  · subst c2
    rw [if_neg (by decide), E6, sspan_0 (by omega)]
    exact congrArg (fun x => pI L x h) (mfin_2 (t a) (t (a + 1)))
  have e2 : h 256 (a + 2) = t (a + 2) := g0 2 (by omega)
  have s2 : lx_span t (a + 2) (a + m) = t (a + 2) :: lx_span t (a + 3) (a + m) := sspan_c (by omega)
  rw [if_pos (by omega), p_w (x := (a : Int) + 2) (by omega) (by omega), p_idx (by omega) (by omega), show ((a : Int) + 2).toNat = a + 2 by omega, e2, s2, E6]
  by_cases c3 : m = 3
  · subst c3
    rw [sspan_0 (by omega)]
    exact congrArg (fun x => pI L x h) (mfin_3 (t a) (t (a + 1)) (t (a + 2)))
  · have s3 : lx_span t (a + 3) (a + m) = t (a + 3) :: lx_span t (a + 4) (a + m) := sspan_c (by omega)
    rw [s3, mfin_n _ _ _ _ _ (Or.inr (by omega))]; rfl
end
