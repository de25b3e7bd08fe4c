/-! CONSTRUCTORS, 2: names and texts that are spelled -/
theorem sp_rg : (am_str.all fun s => s.all fun c => decide (0 ≤ c) && decide (c ≤ 127)) = true := by decide +kernel
theorem sp_at (j k : Nat) : 0 ≤ am_sc j k ∧ am_sc j k ≤ 127 := by
  unfold am_sc
  rw [List.getD_eq_getElem?_getD]
  cases e : (am_str.getD j [])[k]? with
  | none => exact ⟨by decide, by decide⟩
  | some c =>
    have hc := List.mem_of_getElem? e
    rw [List.getD_eq_getElem?_getD] at hc
    cases e2 : am_str[j]? with
    | none => rw [e2] at hc; cases hc
    | some s =>
      rw [e2] at hc
      have := List.all_eq_true.1 (List.all_eq_true.1 sp_rg s (List.mem_of_getElem? e2)) c hc
      rw [Bool.and_eq_true] at this
      exact ⟨of_decide_eq_true this.1, of_decide_eq_true this.2⟩
section
variable {d L : Nat} {h : am_H}
theorem sp_1 {j a : Nat} (hj : j < 168) (ha : a + am_sl j < 16000) : ∀ (m k : Nat) {h1 : am_H}, k + m = am_sl j → (∀ x, x < k → h1 3 (a + x) = am_sc j x) → (∀ x, x < a ∨ a + am_sl j < x → h1 3 x = h 3 x) → p_fr [3] [] h h1 → ∃ h', am_E (am_D d) m_0_3 (.inl 1) [some (am_r (am_a 1)), some (am_r (am_k j)), some (am_i (a : Int)), some (am_i (k : Int))] [] (zS L, h1) = pI L ((a + am_sl j + 1 : Nat) : Int) h' ∧ (∀ x, x < am_sl j → h' 3 (a + x) = am_sc j x) ∧ h' 3 (a + am_sl j) = 32 ∧ (∀ x, x < a ∨ a + am_sl j < x → h' 3 x = h 3 x) ∧ p_fr [3] [] h h'
  | 0, k, h1, hm, X, Y, f => by
    have bl : Nat.blt j am_ns = true := by rw [Nat.blt_eq]; exact hj
    rw [q_0_3_1]
    show ∃ h', cond (Nat.blt j am_ns) (if ((k : Int) : Int) < (am_sl j : Nat) then _ else cond (Nat.blt j am_ns) (am_idx (am_w ((a : Int) + (am_sl j : Nat))) 16000 fun k3 => cond (Nat.blt j am_ns) (some (.inl (some (am_i (am_w ((am_w ((a : Int) + (am_sl j : Nat))) + 1)))), (zS L, (am_up h1 3 k3 (am_s8 32))))) none) none) none = _ ∧ _
    rw [bl, cond_true, if_neg (by omega), cond_true, p_w (by omega) (by omega), p_idx (by omega) (by omega), cond_true, p_w (by omega) (by omega), show ((a : Int) + (am_sl j : Nat)).toNat = a + am_sl j by omega]
    refine ⟨_, ?_, fun x hx => ?_, ?_, fun x hx => ?_, f.upc 3 (a + am_sl j) (am_s8 32) rfl⟩
    · rw [show (a : Int) + (am_sl j : Nat) + 1 = ((a + am_sl j + 1 : Nat) : Int) by omega]
    · rw [p_up_n _ _ _ _ _ _ (Or.inr (by omega))]; exact X x (by omega)
    · rw [p_up_s]; decide
    · rw [p_up_n _ _ _ _ _ _ (Or.inr (by omega))]; exact Y x hx
  | m + 1, k, h1, hm, X, Y, f => by
    have bl : Nat.blt j am_ns = true := by rw [Nat.blt_eq]; exact hj
    have rg := sp_at j k
    have s8 : am_s8 (am_s8 (am_sc j k)) = am_sc j k := by
      have e1 : am_s8 (am_sc j k) = am_sc j k := by unfold am_s8; exact Int.bmod_eq_of_le (by omega) (by omega)
      rw [e1, e1]
    obtain ⟨h', r, q⟩ := sp_1 hj ha m (k + 1) (h1 := am_up h1 3 (a + k) (am_sc j k)) (by omega) (fun x hx => by
      by_cases e : x = k
      · rw [e, p_up_s]
      · rw [p_up_n _ _ _ _ _ _ (Or.inr (by omega))]; exact X x (by omega)) (fun x hx => by rw [p_up_n _ _ _ _ _ _ (Or.inr (by omega))]; exact Y x hx) (f.upc 3 (a + k) _ rfl)
    refine ⟨h', ?_, q⟩
    rw [q_0_3_1]
    show cond (Nat.blt j am_ns) (if ((k : Int) : Int) < (am_sl j : Nat) then cond (Nat.blt j am_ns) (am_idx (k : Int) (am_sl j) fun k5 => am_idx (am_w ((a : Int) + (k : Int))) 16000 fun k7 => am_E (am_D d) m_0_3 (.inl 1) [some (am_r (am_a 1)), some (am_r (am_k j)), some (am_i (a : Int)), some (am_i (am_w ((k : Int) + 1)))] [] (zS L, (am_up h1 3 k7 (am_s8 (am_s8 (am_sc j k5)))))) none else _) none = _
    rw [bl, cond_true, if_pos (by omega), cond_true, p_idx (by omega) (by omega), p_w (x := (a : Int) + (k : Int)) (by omega) (by omega), p_idx (by omega) (by omega), Int.toNat_natCast, s8, show ((a : Int) + (k : Int)).toNat = a + k by omega, p_w (x := (k : Int) + 1) (by omega) (by omega), show (k : Int) + 1 = ((k + 1 : Nat) : Int) by omega]
    exact r
/-- spell -/
theorem sp_spell {j a : Nat} (hj : j < 168) (ha : a + am_sl j < 16000) : ∃ h', am_D (d + 1) 0 3 [am_r (am_a 1), am_r (am_k j), am_i (a : Int)] (zS L, h) = pI L ((a + am_sl j + 1 : Nat) : Int) h' ∧ (∀ x, x < am_sl j → h' 3 (a + x) = am_sc j x) ∧ h' 3 (a + am_sl j) = 32 ∧ (∀ x, x < a ∨ a + am_sl j < x → h' 3 x = h 3 x) ∧ p_fr [3] [] h h' := by
  rw [D_0_3]
  exact sp_1 hj ha (am_sl j) 0 (h1 := h) (by omega) (fun x hx => absurd hx (Nat.not_lt_zero _)) (fun x hx => rfl) (p_fr.refl h)
/-- name -/
theorem sp_name {N : List (List Int)} {j : Nat} (hj : j < 168) (hl : am_sl j < 100) (R : pna_R h N) (hm : N.length < 1400) (hu : pn_used N ≤ 17000) : ∃ h', am_D (d + 3) 0 4 [am_r (am_a 1), am_r (am_k j)] (zS L, h) = pI L ((N.idxOf (am_str.getD j []) : Nat) : Int) h' ∧ pna_R h' (pn_add N (am_str.getD j [])) ∧ p_fr (3 :: pna_F) pna_P h h' := by
  obtain ⟨h1, r1, a1, -, -, f1⟩ := sp_spell (d := d + 1) (L := L) (h := h) (j := j) (a := 0) hj (by omega)
  have R1 : pna_R h1 N := by
    unfold pna_R
    rw [f1 4 3 rfl rfl, f1 4 4 rfl rfl, f1.cell 5 rfl rfl, f1.cell 6 rfl rfl, f1.cell 7 rfl rfl]
    exact R
  have sl : am_sl j = (am_str.getD j []).length := rfl
  obtain ⟨h2, r2, R2, f2⟩ := pna_find d L h1 (a := 3) (na := 16000) (ra := []) (N := N) rfl (by decide) R1 0 (am_str.getD j []) (by omega) (by decide) (fun q x hq => by
    have ql := (List.getElem?_eq_some_iff.1 hq).1
    rw [Nat.zero_add]
    have := a1 q (by omega)
    rw [Nat.zero_add] at this
    have e : am_sc j q = x := by unfold am_sc; rw [List.getD_eq_getElem?_getD, hq]; rfl
    have rg := sp_at j q
    rw [this, ← e]
    exact ⟨rfl, by omega, by omega⟩) hm (by omega)
  have bl : Nat.blt j am_ns = true := by rw [Nat.blt_eq]; exact hj
  refine ⟨h2, ?_, R2, (f1.mono rfl rfl).trans (f2.mono rfl rfl)⟩
  have r1' : am_D (d + 2) 0 3 [am_r (am_a 1), am_r (am_k j), am_i 0] (zS L, h) = pI L ((0 + am_sl j + 1 : Nat) : Int) h1 := r1
  have r2' : am_D (d + 2) 9 1 [am_r (am_a 4), am_r (am_a 3), am_i 0, am_i ((am_sl j : Nat) : Int)] (zS L, h1) = pI L (N.idxOf (am_str.getD j [])) h2 := r2
  rw [D_0_4, r1', p_xI]
  show cond (Nat.blt j am_ns) (am_xI (zS L) (am_D (d + 2) 9 1 [am_r (am_a 4), am_r (am_a 3), am_i 0, am_i ((am_sl j : Nat))] (zS L, h1)) (am_up1 (zS L)) fun v5 h4 => some (.inl (some (am_i v5)), (zS L, h4))) none = _
  rw [bl, cond_true, r2', p_xI]
end
