/-! LAW, 1: both objects are made -/
def koL1 : List am_A := ((m_18_0.getD 0 (false, [])).2).drop 3
def koL2 : List am_A := ((m_18_0.getD 0 (false, [])).2).drop 7
set_option maxRecDepth 100000 in
theorem q_l0a (Γ : am_G) (L : Nat) (h : am_H) : am_E Γ m_18_0 (.inl 0) [some (am_r (am_a 0)), none, none, none] [] (koZ L [], h) = am_cV (Γ 0 1 [am_r (am_a 1)] (koZ L [(0, 0, List.replicate 25 am_n)], am_zr h 1)) am_up0 fun σ => am_E Γ m_18_0 (.inr koL1) [some (am_r (am_a 0)), none, none, none] [am_r (am_a 1)] σ := by
  rw [am_cut Γ m_18_0 3 0]
  rfl
set_option maxRecDepth 100000 in
theorem q_l0b (Γ : am_G) (L : Nat) (h : am_H) : am_E Γ m_18_0 (.inr koL1) [some (am_r (am_a 0)), none, none, none] [am_r (am_a 1)] (koZ L koT4, h) = am_cV (Γ 17 0 [am_r (am_a 254)] (koZ L (koT4 ++ [(0, 17, List.replicate 176 am_n)]), am_zr h 254)) am_up0 fun σ => am_E Γ m_18_0 (.inr koL2) [some (am_r (am_a 0)), some (am_r (am_a 1)), none, none] [am_r (am_a 254)] σ := by
  refine (congrFun (congrFun (congrFun (congrFun (am_unr_E Γ m_18_0 4) _) _) _) _).symm.trans ?_
  rfl
set_option maxRecDepth 100000 in
theorem q_l0c (Γ : am_G) (σ : am_S) : am_E Γ m_18_0 (.inr koL2) [some (am_r (am_a 0)), some (am_r (am_a 1)), none, none] [am_r (am_a 254)] σ = am_E Γ m_18_0 (.inl 1) [some (am_r (am_a 0)), some (am_r (am_a 1)), some (am_r (am_a 254)), some (am_i 0)] [] σ := by
  refine (congrFun (congrFun (congrFun (congrFun (am_unr_E Γ m_18_0 4) _) _) _) _).symm.trans ?_
  rfl
section
variable {e L : Nat} {h : am_H}
/-- the law up to its loop -/
theorem law0 : ∃ hB hR g' hW hC, am_E (am_D (e + 219)) m_18_0 (.inl 0) [some (am_r (am_a 0)), none, none, none] [] (koZ L [], h) = am_E (am_D (e + 219)) m_18_0 (.inl 1) [some (am_r (am_a 0)), some (am_r (am_a 1)), some (am_r (am_a 254)), some (am_i 0)] [] (zS L, koH koWM hC) ∧
    hC = am_up (am_up (am_up (am_up hW 1 4 (hW 8 3)) 1 7 (hW 8 4)) 1 5 (hW 12 3)) 1 6 (hW 4 3) ∧ p_fr [3] [] (koH koW3 (am_zr h 1)) hB ∧ (p_fr [] pc_ps (tgx g' sT2) hR ∧ pna_R hR syN2 ∧ (hR 241 = yK ∧ hR 242 = yV ∧ hR 243 = yP) ∧ p_fr (List.range' 4 8 ++ List.range' 212 32) [] hB hR) ∧ TRS hW ∧ hW 12 3 = 9623 ∧ (∀ c, c ≠ 12 → c ≠ 13 → c ≠ 14 → c ≠ 15 → c ≠ 16 → hW c = koH koWG (koH koWN hR) c) := by
  obtain ⟨hB, hR, g', hW, r, f1, f2, f3, f4, f5⟩ := cons_c (e := e) (L := L) (h := am_zr h 1)
  obtain ⟨hC, eC⟩ : ∃ hC, hC = am_up (am_up (am_up (am_up hW 1 4 (hW 8 3)) 1 7 (hW 8 4)) 1 5 (hW 12 3)) 1 6 (hW 4 3) := ⟨_, rfl⟩
  have rm : am_D (e + 219) 17 0 [am_r (am_a 254)] (koZ L (koT4 ++ [(0, 17, List.replicate 176 am_n)]), am_zr hC 254) = some (.inl none, (zS L, koH koWM hC)) := ko_mod (d := e + 210)
  refine ⟨hB, hR, g', hW, hC, ?_, eC, f1, f2, f3, f4, f5⟩
  rw [← eC] at r
  rw [q_l0a, r]
  show am_E (am_D (e + 219)) m_18_0 (.inr koL1) _ _ (koZ L koT4, hC) = _
  rw [q_l0b, rm]
  show am_E (am_D (e + 219)) m_18_0 (.inr koL2) _ _ (zS L, koH koWM hC) = _
  rw [q_l0c]
end
