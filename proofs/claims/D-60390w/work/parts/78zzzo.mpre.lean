/-! LOAD, 14: the model's load(), up to the grammar -/
def mpC : List Nat := [256, 257, 258, 259, 260]
def mpF : List (Nat × Nat) := [(254, 1), (254, 3), (254, 9), (254, 10), (254, 71), (254, 76)]
section
variable {L : Nat} {h : am_H} {t : Nat → Int} {n : Nat} {ws : List (List Int)}
theorem m_pre (e : Nat) (hn : n ≤ 4000) (hn2 : (n : Int) ≤ h 254 1) (ht : ∀ k, k < n → h 255 k = t k ∧ 0 ≤ t k ∧ t k ≤ 255) (W : wo_row 170 ws) : ∃ hm, am_D (e + 16) 17 68 [am_r (am_a 254), am_i (n : Int)] (zS L, h) = mLd e L (n : Int) hm ∧ lm_S t n (lx_mods t n ws 1000 (n + 1) 0 0) hm ∧ (hm 254 10 = 0 ∧ hm 254 1 = 0 ∧ hm 254 71 = 0) ∧ p_fr mpC mpF h hm := by
  obtain ⟨h1, r1, a1, a2, a3⟩ := pt_take_m (d := e + 14) (L := L) (n := n) n (am_up h 254 3 (n : Int)) 0 (by omega) hn
  have r1 : am_E (am_D (e + 14)) m_17_3 (.inl 3) [some (am_r (am_a 254)), some (am_i (n : Int)), some (am_i 0)] [] (zS L, am_up h 254 3 (n : Int)) = pI L 1 h1 := r1
  obtain ⟨h2, eh2⟩ : ∃ h2, h2 = am_up (am_up h1 254 71 0) 254 76 0 := ⟨_, rfl⟩
  obtain ⟨h3, eh3⟩ : ∃ h3, h3 = am_up (am_up h2 254 9 0) 254 10 0 := ⟨_, rfl⟩
  have c3 : ∀ c, c ≠ 254 → h3 c = h1 c := fun c hc => by rw [eh3, p_up_c _ _ _ _ _ hc, p_up_c _ _ _ _ _ hc, eh2, p_up_c _ _ _ _ _ hc, p_up_c _ _ _ _ _ hc]
  have f3 : ∀ j, j ≠ 9 → j ≠ 10 → j ≠ 71 → j ≠ 76 → h3 254 j = h1 254 j := fun j q1 q2 q3 q4 => by rw [eh3, p_up_n _ _ _ _ _ _ (Or.inr q2), p_up_n _ _ _ _ _ _ (Or.inr q1), eh2, p_up_n _ _ _ _ _ _ (Or.inr q4), p_up_n _ _ _ _ _ _ (Or.inr q3)]
  have S0 : lm_S t n [] h3 := by
    refine ⟨⟨?_, hn, fun k hk => ?_⟩, ?_, fun i q hi => (by cases hi)⟩
    · rw [f3 3 (by decide) (by decide) (by decide) (by decide), a3 254 3 rfl rfl, p_up_s]
    · rw [c3 256 (by decide), a2 k, if_pos ⟨by omega, hk⟩, p_up_c _ _ _ _ _ (by decide)]; exact ht k hk
    · rw [eh3, p_up_n _ _ _ _ _ _ (Or.inr (by decide)), p_up_s]; rfl
  have sk := lm_skip (e + 12) L S0.1 (n + 1) 0 (some (am_i 0)) none none (by omega) (by omega)
  obtain ⟨hm, r4, b1, b2⟩ := lm_read (e + 9) L (t := t) (n := n) 1000 (by decide) W (n + 1) h3 0 [] none S0 (by omega) (by omega) (by decide)
  have b2 : lm_S t n (lx_mods t n ws 1000 (n + 1) 0 0) hm := b2
  have fr : p_fr mpC mpF h hm := by
    have x1 : p_fr mpC mpF h h1 := ((p_fr.refl h).upf 254 3 (n : Int) rfl).trans (a3.mono rfl rfl)
    have x3 : p_fr mpC mpF h h3 := by
      rw [eh3, eh2]
      exact ((((x1.upf _ _ _ rfl).upf _ _ _ rfl).upf _ _ _ rfl).upf _ _ _ rfl)
    exact x3.trans (b1.mono rfl rfl)
  refine ⟨hm, ?_, b2, ⟨?_, ?_, ?_⟩, fr⟩
  · have sk' : am_E (am_D (e + 13)) m_17_9 (.inl 1) [some (am_r (am_a 254)), some (am_i 0), some (am_i 0), none, none] [] (zS L, h3) = pI L (lm_sk (lx_skip t n (n + 1) 0)) h3 := sk
    have r4' : am_E (am_D (e + 14)) m_17_11 (.inl 1) [some (am_r (am_a 254)), some (am_i 1000), some (am_i 0), some (am_i (lm_sk (lx_skip t n (n + 1) 0))), some (am_i 1), none] [] (zS L, h3) = pV L hm := r4
    rw [D_17_68, D_17_3, if_neg (by omega), if_neg (by omega), r1, p_xI, if_neg (by decide), p_bit0, ← eh2, D_17_11, ← eh3, D_17_9, sk', p_xI, r4', p_xV]
    rfl
  · rw [b1 254 10 rfl rfl, eh3, p_up_s]
  · rw [b1 254 1 rfl rfl, f3 1 (by decide) (by decide) (by decide) (by decide)]; exact a1
  · rw [b1 254 71 rfl rfl, eh3, p_up_n _ _ _ _ _ _ (Or.inr (by decide)), p_up_n _ _ _ _ _ _ (Or.inr (by decide)), eh2, p_up_n _ _ _ _ _ _ (Or.inr (by decide)), p_up_s]
end
