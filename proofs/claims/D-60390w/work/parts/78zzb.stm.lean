/-! RUN, 23: statements and jumps, on both sides -/
section
variable {ky : List Int} {lab fs gv : Nat → Nat} {h0 g0 : am_H} {at' : Nat → Nat × List Nat} {P : Nat → Int} {fr : Nat → Prop} {wp : Nat → Nat} {w0 N : Nat} {h g : am_H} {r : Nat → Int} {ab k : Nat} {s rk : Nat} {as ls : List Int} {th : Option Int} {st : List Int} {rs : List uF} {G : vG} {L n d : Nat} {q q2 : Nat × Nat} {a dd : Int} {vs : List vl} {x y : Int}
/-- what the model does at statements' items -/
theorem m_12 (hk : k < 5000) (M : MU ky g k G ((s, as, ls, th, st, rk) :: rs)) (e0 : g 277 k = 12) : am_D (d + 13) 17 118 [am_r (am_a 254)] (zS L, g) = pV L (am_up (am_up g 254 98 ((k + 1 : Nat) : Int)) 254 95 (am_w (g 254 95 - 1))) := by
  have ek : g 254 98 = (k : Int) := M.2.2.1.2.2.1
  rw [m_stm hk ek (by omega), ek, p_w (x := (k : Int) + 1) (by omega) (by omega), D_17_119, p_idx (by omega) (by omega), Int.toNat_natCast, p_up_c _ _ _ _ _ (show 277 ≠ 254 by decide), e0, if_neg (by decide), if_pos rfl, p_xV, p_up_n _ _ _ _ _ _ (Or.inr (show 95 ≠ 98 by decide))]; rfl
theorem m_20 (hk : k < 5000) (M : MU ky g k G ((s, as, ls, th, st, rk) :: rs)) (e0 : g 277 k = 20) : am_D (d + 13) 17 118 [am_r (am_a 254)] (zS L, g) = pV L (am_up g 254 98 ((k + 1 : Nat) : Int)) := by
  have ek : g 254 98 = (k : Int) := M.2.2.1.2.2.1
  rw [m_stm hk ek (by omega), ek, p_w (x := (k : Int) + 1) (by omega) (by omega), D_17_119, p_idx (by omega) (by omega), Int.toNat_natCast, p_up_c _ _ _ _ _ (show 277 ≠ 254 by decide), e0, if_neg (by decide), if_neg (by decide), if_neg (by decide), if_neg (by decide), if_neg (by decide), if_neg (by decide), if_neg (by decide), if_neg (by decide), if_neg (by decide), p_xV]; rfl
theorem m_16 (hk : k < 5000) (M : MU ky g k G ((s, as, ls, th, st, rk) :: rs)) (e0 : g 277 k = 16) : am_D (d + 13) 17 118 [am_r (am_a 254)] (zS L, g) = pV L (am_up (am_up g 254 98 ((k + 1 : Nat) : Int)) 254 98 (g 278 k)) := by
  have ek : g 254 98 = (k : Int) := M.2.2.1.2.2.1
  rw [m_stm hk ek (by omega), ek, p_w (x := (k : Int) + 1) (by omega) (by omega), D_17_119, p_idx (by omega) (by omega), Int.toNat_natCast, p_up_c _ _ _ _ _ (show 277 ≠ 254 by decide), e0, if_neg (by decide), if_neg (by decide), if_neg (by decide), if_neg (by decide), if_neg (by decide), if_pos rfl, p_idx (by omega) (by omega), Int.toNat_natCast, p_xV, p_up_c _ _ _ _ _ (show 278 ≠ 254 by decide)]; rfl
theorem m_17 (hk : k < 5000) (M : MU ky g k G ((s, as, ls, th, st, rk) :: rs)) (e0 : g 277 k = 17) : am_D (d + 13) 17 118 [am_r (am_a 254)] (zS L, g) = pV L (if g 254 96 = g 254 97 then am_up (am_up g 254 98 ((k + 1 : Nat) : Int)) 254 99 1 else am_up (am_up g 254 98 ((k + 1 : Nat) : Int)) 254 96 (am_w (g 254 96 + 1))) := by
  have ek : g 254 98 = (k : Int) := M.2.2.1.2.2.1
  have f : ∀ j, j ≠ 98 → am_up g 254 98 ((k + 1 : Nat) : Int) 254 j = g 254 j := fun j hj => p_up_n _ _ _ _ _ _ (Or.inr hj)
  rw [m_stm hk ek (by omega), ek, p_w (x := (k : Int) + 1) (by omega) (by omega), D_17_119, p_idx (by omega) (by omega), Int.toNat_natCast, p_up_c _ _ _ _ _ (show 277 ≠ 254 by decide), e0, if_neg (by decide), if_neg (by decide), if_neg (by decide), if_neg (by decide), if_neg (by decide), if_neg (by decide), if_pos rfl, m_step]
  have f' : ∀ j, j ≠ 98 → am_up g 254 98 ((k : Int) + 1) 254 j = g 254 j := fun j hj => p_up_n _ _ _ _ _ _ (Or.inr hj)
  rw [f' 96 (by decide), f' 97 (by decide)]
  by_cases z : g 254 96 = g 254 97
  · rw [if_pos z, if_pos z, p_xI, p_xV]; rfl
  · rw [if_neg z, if_neg z, p_xI, p_xV]; rfl
theorem m_11 (hk : k < 5000) (M : MU ky g k G ((s, as, ls, th, st, rk) :: rs)) (e0 : g 277 k = 11) (wb : 0 ≤ g 254 95 ∧ g 254 95 < 1200) : ∃ g', am_D (d + 13) 17 118 [am_r (am_a 254)] (zS L, g) = pV L g' ∧ g' 254 98 = ((k + 1 : Nat) : Int) ∧ g' 254 95 = g 254 95 + 1 ∧ g' 318 (g 254 95).toNat = g 303 k ∧ (∀ j, j ≠ (g 254 95).toNat → g' 318 j = g 318 j) ∧ (∀ c, c ≠ 254 → c ≠ 318 → g' c = g c) ∧ (∀ j, j ≠ 98 → j ≠ 95 → j ≠ 4 → j ≠ 96 → j ≠ 99 → g' 254 j = g 254 j) ∧ (g 254 96 = g 254 97 → g' 254 96 = g 254 96 ∧ g' 254 99 = 1) ∧ (g 254 96 ≠ g 254 97 → g' 254 96 = am_w (g 254 96 + 1) ∧ g' 254 99 = g 254 99) := by
  have ek : g 254 98 = (k : Int) := M.2.2.1.2.2.1
  have e2 : ∀ g2 : am_H, g2 303 k = g 303 k → g2 254 95 = g 254 95 → am_E (am_D (d + 11)) m_17_119 (.inl 2) [some (am_r (am_a 254)), some (am_i (k : Int)), none, none] [] (zS L, g2) = pV L (am_up (am_up g2 318 (g 254 95).toNat (g 303 k)) 254 95 (g 254 95 + 1)) := by
    intro g2 h1 h2
    rw [q_17_119_2, p_idx (by omega) (by omega), h2, p_idx (by omega) (by omega), Int.toNat_natCast, h1, p_w (by omega) (by omega)]
  have f' : ∀ j, j ≠ 98 → am_up g 254 98 ((k : Int) + 1) 254 j = g 254 j := fun j hj => p_up_n _ _ _ _ _ _ (Or.inr hj)
  have main : am_D (d + 13) 17 118 [am_r (am_a 254)] (zS L, g) = pV L (am_up (am_up (if g 254 96 = g 254 97 then am_up (am_up (am_up g 254 98 ((k : Int) + 1)) 254 99 1) 254 4 (g 303 k) else am_up (am_up g 254 98 ((k : Int) + 1)) 254 96 (am_w (g 254 96 + 1))) 318 (g 254 95).toNat (g 303 k)) 254 95 (g 254 95 + 1)) := by
    rw [m_stm hk ek (by omega), ek, p_w (x := (k : Int) + 1) (by omega) (by omega), D_17_119, p_idx (by omega) (by omega), Int.toNat_natCast, p_up_c _ _ _ _ _ (show 277 ≠ 254 by decide), e0, if_pos rfl, m_step, f' 96 (by decide), f' 97 (by decide)]
    by_cases z : g 254 96 = g 254 97
    · rw [if_pos z, if_pos z, p_xI, if_pos rfl, p_idx (by omega) (by omega), Int.toNat_natCast, p_up_c _ _ _ _ _ (show 303 ≠ 254 by decide), p_up_c _ _ _ _ _ (show 303 ≠ 254 by decide), e2 _ (by rw [p_up_c _ _ _ _ _ (by decide), p_up_c _ _ _ _ _ (by decide), p_up_c _ _ _ _ _ (by decide)]) (by rw [p_up_n _ _ _ _ _ _ (Or.inr (by decide)), p_up_n _ _ _ _ _ _ (Or.inr (by decide)), p_up_n _ _ _ _ _ _ (Or.inr (by decide))]), p_xV]
    · rw [if_neg z, if_neg z, p_xI, if_neg (by decide), e2 _ (by rw [p_up_c _ _ _ _ _ (by decide), p_up_c _ _ _ _ _ (by decide)]) (by rw [p_up_n _ _ _ _ _ _ (Or.inr (by decide)), p_up_n _ _ _ _ _ _ (Or.inr (by decide))]), p_xV]
  refine ⟨_, main, ?_, p_up_s _ _ _ _, ?_, fun j hj => ?_, fun c h1 h2 => ?_, fun j h1 h2 h3 h4 h5 => ?_, fun z => ?_, fun z => ?_⟩
  · rw [p_up_n _ _ _ _ _ _ (Or.inr (by decide)), p_up_c _ _ _ _ _ (by decide)]
    by_cases z : g 254 96 = g 254 97
    · rw [if_pos z, p_up_n _ _ _ _ _ _ (Or.inr (by decide)), p_up_n _ _ _ _ _ _ (Or.inr (by decide)), p_up_s]; rfl
    · rw [if_neg z, p_up_n _ _ _ _ _ _ (Or.inr (by decide)), p_up_s]; rfl
  · rw [p_up_c _ _ _ _ _ (by decide), p_up_s]
  · rw [p_up_c _ _ _ _ _ (by decide), p_up_n _ _ _ _ _ _ (Or.inr hj)]
    by_cases z : g 254 96 = g 254 97
    · rw [if_pos z, p_up_c _ _ _ _ _ (by decide), p_up_c _ _ _ _ _ (by decide), p_up_c _ _ _ _ _ (by decide)]
    · rw [if_neg z, p_up_c _ _ _ _ _ (by decide), p_up_c _ _ _ _ _ (by decide)]
  · rw [p_up_c _ _ _ _ _ h1, p_up_c _ _ _ _ _ h2]
    by_cases z : g 254 96 = g 254 97
    · rw [if_pos z, p_up_c _ _ _ _ _ h1, p_up_c _ _ _ _ _ h1, p_up_c _ _ _ _ _ h1]
    · rw [if_neg z, p_up_c _ _ _ _ _ h1, p_up_c _ _ _ _ _ h1]
  · rw [p_up_n _ _ _ _ _ _ (Or.inr h2), p_up_c _ _ _ _ _ (by decide)]
    by_cases z : g 254 96 = g 254 97
    · rw [if_pos z, p_up_n _ _ _ _ _ _ (Or.inr h3), p_up_n _ _ _ _ _ _ (Or.inr h5), p_up_n _ _ _ _ _ _ (Or.inr h1)]
    · rw [if_neg z, p_up_n _ _ _ _ _ _ (Or.inr h4), p_up_n _ _ _ _ _ _ (Or.inr h1)]
  · rw [if_pos z, p_up_n _ _ _ _ _ _ (Or.inr (show 96 ≠ 95 by decide)), p_up_c _ _ _ _ _ (by decide), p_up_n _ _ _ _ _ _ (Or.inr (show 99 ≠ 95 by decide)), p_up_n _ _ _ _ _ _ (Or.inr (by decide)), p_up_n _ _ _ _ _ _ (Or.inr (by decide)), p_up_n _ _ _ _ _ _ (Or.inr (by decide)), p_up_c _ _ _ _ _ (by decide), p_up_n _ _ _ _ _ _ (Or.inr (by decide)), p_up_s]
    exact ⟨rfl, rfl⟩
  · rw [if_neg z, p_up_n _ _ _ _ _ _ (Or.inr (show 96 ≠ 95 by decide)), p_up_c _ _ _ _ _ (by decide), p_up_n _ _ _ _ _ _ (Or.inr (show 99 ≠ 95 by decide)), p_up_s, p_up_c _ _ _ _ _ (by decide), p_up_n _ _ _ _ _ _ (Or.inr (by decide)), p_up_n _ _ _ _ _ _ (Or.inr (by decide))]
    exact ⟨rfl, rfl⟩
end
