/-! PURE LAYER, 17: strings; the count of a call's e -/
section
variable {K V P : Nat → Int} {sy w : Bool} {i deep st : Nat} {g h : am_H} (d L : Nat)
theorem pc_count10 (R : pc_R K V P sy w i deep st g h) {k : Nat} (hk : k < 4500) (o m : Int) (s : Bool) (u5 u6 : Option am_V) (hm : 0 ≤ m ∧ m ≤ 5000) :
    am_E (am_D d) m_7_69 (.inl 10) [some (am_r (am_a 212)), some (am_i o), some (am_i m), some (am_i k), some (am_i (pB (s = true))), u5, u6] [] (zS L, h) =
      if o = 0 then pI L (if s = true then m + 1 else 0) h else am_E (am_D d) m_7_69 (.inl 1) [some (am_r (am_a 212)), some (am_i o), some (am_i m), some (am_i ((k + 1 : Nat) : Int)), some (am_i (pB ((s || decide (i < k)) = true))), u5, u6] [] (zS L, h) := by
  rw [q_7_69_10, p_w (by omega) (by omega), p_w (by omega) (by omega), R.2.1]
  simp only [pB_0]
  by_cases c : o = 0
  · rw [if_pos c, if_pos c]
    cases s with
    | false => rw [if_pos (by decide), if_neg (by decide)]
    | true => rw [if_neg (by decide), if_pos rfl]
  · rw [if_neg c, if_neg c]
    cases s with
    | false =>
      rw [if_pos (by decide)]
      by_cases c2 : i < k
      · rw [if_pos (by omega), pB_t (by simpa using c2)]; rfl
      · rw [if_neg (by omega), pB_f (by simpa using c2)]; rfl
    | true => rw [if_neg (by decide), pB_t (by simp)]; rfl
/-- the count of what stands between a call's brackets -/
theorem pc_count (R : pc_R K V P sy w i deep st g h) {Y : Nat} (hY : Y < 4500) (kY : K Y = 0 ∨ K Y = 6) : ∀ (f k : Nat) (o m : Int) (s : Bool) (u5 u6 : Option am_V) (v : Int), i ≤ k → k ≤ Y → -(k : Int) ≤ o ∧ o ≤ k → 0 ≤ m ∧ m ≤ k → gx_count K V i f k o m s = some v →
    am_E (am_D d) m_7_69 (.inl 1) [some (am_r (am_a 212)), some (am_i o), some (am_i m), some (am_i k), some (am_i (pB (s = true))), u5, u6] [] (zS L, h) = pI L v h := by
  intro f
  induction f with
  | zero => intro k o m s u5 u6 v _ _ _ _ hc; cases hc
  | succ f ih =>
    intro k o m s u5 u6 v hik hkY ho hm hc
    unfold gx_count at hc
    rw [q_7_69_1, p_idx (by omega) (by omega), Int.toNat_natCast, R.tok.1, p_idx (by omega) (by omega), p_idx (by omega) (by omega), Int.toNat_natCast]
    by_cases c0 : K k = 0
    · rw [if_pos (Or.inl c0)] at hc; rw [if_pos c0]; cases hc; rfl
    by_cases c6 : K k = 6
    · rw [if_pos (Or.inr c6)] at hc; rw [if_neg c0, if_pos c6]; cases hc; rfl
    have hkY' : k < Y := by
      apply Classical.byContradiction
      intro z
      have : k = Y := by omega
      rw [this] at c0 c6
      rcases kY with y | y
      · exact c0 y
      · exact c6 y
    rw [if_neg (by omega)] at hc
    rw [if_neg c0, if_neg c6]
    have fin : ∀ (o2 m2 : Int) (u5 u6 : Option am_V), -((k + 1 : Nat) : Int) ≤ o2 ∧ o2 ≤ ((k + 1 : Nat) : Int) → 0 ≤ m2 ∧ m2 ≤ ((k + 1 : Nat) : Int) → (if o2 = 0 then some (if s = true then m2 + 1 else 0) else gx_count K V i f (k + 1) o2 m2 (s || decide (i < k))) = some v →
        am_E (am_D d) m_7_69 (.inl 10) [some (am_r (am_a 212)), some (am_i o2), some (am_i m2), some (am_i k), some (am_i (pB (s = true))), u5, u6] [] (zS L, h) = pI L v h := by
      intro o2 m2 u5 u6 ho2 hm2 hc2
      rw [pc_count10 d L R (by omega) o2 m2 s u5 u6 (by omega)]
      by_cases c : o2 = 0
      · rw [if_pos c] at hc2 ⊢; cases hc2; rfl
      · rw [if_neg c] at hc2 ⊢
        exact ih (k + 1) o2 m2 _ u5 u6 v (by omega) (by omega) ho2 hm2 hc2
    by_cases c5 : K k = 5
    · rw [if_pos c5, q_7_69_3, if_neg (by decide), p_idx (by omega) (by omega), Int.toNat_natCast, R.tok.2.1]
      simp only [c5, true_and] at hc
      rw [p_w (by omega) (by omega)]
      have e7 : ∀ (o' : Int) (u5 : Option am_V), -((k + 1 : Nat) : Int) ≤ o' ∧ o' ≤ ((k + 1 : Nat) : Int) → (V k ≠ 41 → V k ≠ 93 → (if o' = 0 then some (if s = true then (if V k = 44 ∧ o' = 1 then m + 1 else m) + 1 else 0) else gx_count K V i f (k + 1) o' (if V k = 44 ∧ o' = 1 then m + 1 else m) (s || decide (i < k))) = some v) →
          ((V k = 41 ∨ V k = 93) → o' = o ∧ (if o - 1 = 0 then some (if s = true then m + 1 else 0) else gx_count K V i f (k + 1) (o - 1) m (s || decide (i < k))) = some v) →
          am_E (am_D d) m_7_69 (.inl 7) [some (am_r (am_a 212)), some (am_i o'), some (am_i m), some (am_i k), some (am_i (pB (s = true))), u5, some (am_i (V k))] [] (zS L, h) = pI L v h := by
        intro o' u5 ho' h1 h2
        rw [q_7_69_7, p_w (by omega) (by omega), p_w (by omega) (by omega)]
        by_cases v41 : V k = 41
        · obtain ⟨e1, e2⟩ := h2 (Or.inl v41)
          rw [if_pos v41, if_neg (by omega), e1]
          exact fin (o - 1) m _ _ (by omega) (by omega) e2
        · by_cases v93 : V k = 93
          · obtain ⟨e1, e2⟩ := h2 (Or.inr v93)
            rw [if_neg v41, if_pos v93, if_neg (by omega), e1]
            exact fin (o - 1) m _ _ (by omega) (by omega) e2
          · have e2 := h1 v41 v93
            rw [if_neg v41, if_neg v93]
            by_cases v44 : V k = 44
            · rw [if_pos v44]
              by_cases o1 : o' = 1
              · rw [if_pos o1]
                rw [if_pos (⟨v44, o1⟩ : V k = 44 ∧ o' = 1)] at e2
                exact fin o' (m + 1) _ _ ho' (by omega) e2
              · rw [if_neg o1]
                rw [if_neg (fun z : V k = 44 ∧ o' = 1 => o1 z.2)] at e2
                exact fin o' m _ _ ho' (by omega) e2
            · rw [if_neg v44]
              rw [if_neg (fun z : V k = 44 ∧ o' = 1 => v44 z.1)] at e2
              exact fin o' m _ _ ho' (by omega) e2
      by_cases v40 : V k = 40
      · rw [if_pos v40]
        rw [if_pos (Or.inl v40)] at hc
        exact e7 (o + 1) _ (by omega) (fun _ _ => hc) (fun z => by omega)
      · rw [if_neg v40]
        by_cases v91 : V k = 91
        · rw [if_pos v91]
          rw [if_pos (Or.inr v91)] at hc
          exact e7 (o + 1) _ (by omega) (fun _ _ => hc) (fun z => by omega)
        · rw [if_neg v91]
          rw [if_neg (fun z : V k = 40 ∨ V k = 91 => z.elim v40 v91)] at hc
          refine e7 o _ (by omega) (fun a b => ?_) (fun z => ⟨rfl, ?_⟩)
          · rw [if_neg (fun z : V k = 41 ∨ V k = 93 => z.elim a b)] at hc; exact hc
          · rw [if_pos z, if_neg (fun y : V k = 44 ∧ o - 1 = 1 => by omega)] at hc; exact hc
    · rw [if_neg c5, q_7_69_3, if_pos rfl, if_neg (by decide), if_neg (by decide), q_7_69_7, if_neg (by decide), if_neg (by decide), if_neg (by decide)]
      simp only [c5, false_and, if_false] at hc
      exact fin o m _ _ (by omega) (by omega) hc
theorem pc_count0 {at_ : Nat} (R : pc_R K V P sy w at_ deep st g h) {Y : Nat} (hY : Y < 4500) (kY : K Y = 0 ∨ K Y = 6) (ha : at_ ≤ Y) {v : Int} (hc : gx_count K V at_ 4500 at_ 0 0 false = some v) : am_D (d + 1) 7 69 [am_r (am_a 212)] (zS L, h) = pI L v h := by
  rw [D_7_69, R.2.1]
  exact pc_count d L R hY kY 4500 at_ 0 0 false none none v (by omega) ha (by omega) (by omega) hc
end
