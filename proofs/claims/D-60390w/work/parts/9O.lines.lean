/-! CONSTRUCTORS, 7: the system's text is spelled -/
def skn (n : Nat) (X : am_R) : Bool := match X with
  | .inl (some a) => Nat.blt a n
  | _ => true
def skq (n : Nat) (q q' : am_C) : Bool := Nat.beq q.1 q'.1 && Nat.beq q.2.1 q'.2.1 && (!(Nat.beq q'.1 0) || skA.all fun p => !(Nat.beq p.1 q'.2.1) || (decide (q.2.2.getD p.2 am_n = q'.2.2.getD p.2 am_n) && skn n (q.2.2.getD p.2 am_n)))
def skc (n : Nat) : List am_C → List am_C → Bool
  | q :: T, q' :: T' => skq n q q' && skc n T T'
  | _, _ => true
theorem skc_ok {n : Nat} : ∀ {T T' : List am_C}, skc n T T' = true → ∀ a, a < T.length → ∀ q', T'[a]? = some q' → ∃ q, T[a]? = some q ∧ skq n q q' = true
  | [], _, _, a, ha, _, _ => absurd ha (Nat.not_lt_zero _)
  | _ :: _, [], _, a, _, q', e => by cases e
  | q :: T, q0 :: T', h, 0, _, q', e => by
    have h : (skq n q q0 && skc n T T') = true := h
    rw [Bool.and_eq_true] at h
    injection e with e
    subst e
    exact ⟨q, rfl, h.1⟩
  | q :: T, q0 :: T', h, a + 1, ha, q', e => by
    have h : (skq n q q0 && skc n T T') = true := h
    rw [Bool.and_eq_true] at h
    have ha : a + 1 < T.length + 1 := ha
    exact skc_ok h.2 a (by omega) q' e
theorem skq_ok {n : Nat} {q q' : am_C} (h : skq n q q' = true) : q = (q'.1, q'.2.1, q.2.2) ∧ (q'.1 = 0 → ∀ k, skA.contains (q'.2.1, k) = true → q.2.2.getD k am_n = q'.2.2.getD k am_n ∧ skR n (q.2.2.getD k am_n)) := by
  unfold skq at h
  simp only [Bool.and_eq_true, Bool.or_eq_true, Bool.not_eq_true'] at h
  obtain ⟨⟨h1, h2⟩, h3⟩ := h
  have e1 := Nat.eq_of_beq_eq_true h1
  have e2 := Nat.eq_of_beq_eq_true h2
  refine ⟨by rw [← e1, ← e2], fun z k hk => ?_⟩
  rcases h3 with h3 | h3
  · rw [z] at h3; cases h3
  · have := List.all_eq_true.1 h3 (q'.2.1, k) (List.contains_iff_mem.1 hk)
    simp only [Nat.beq_refl, Bool.not_true, Bool.false_or, Bool.and_eq_true] at this
    refine ⟨of_decide_eq_true this.1, fun a ea => ?_⟩
    have h4 := this.2
    rw [ea] at h4
    have h4 : Nat.blt a n = true := h4
    rw [Nat.blt_eq] at h4
    exact h4
theorem skr_ok {T : List am_C} {L : Nat} (h : skc (T.length + 1) T zS1 = true) : skr (koZ L T) (zS L) (T.length + 1) := fun a ha q e => by
  cases a with
  | zero =>
    injection e with e
    subst e
    exact ⟨[], rfl, fun z => by cases z⟩
  | succ a =>
    obtain ⟨q0, e1, e2⟩ := skc_ok h a (by omega) q e
    obtain ⟨e3, e4⟩ := skq_ok e2
    exact ⟨q0.2.2, by rw [← e3]; exact e1, e4⟩
/-- a contract, where fewer cells stand -/
theorem sk_use {T : List am_C} {L d c i : Nat} {as : List am_V} {h h' : am_H} {o : Option am_V ⊕ Nat} (hT : skc (T.length + 1) T zS1 = true) (hm : skM.contains (c, i) = true) (ha : skS (T.length + 1) as) (e : am_D d c i as (zS L, h) = some (o, (zS L, h'))) : am_D d c i as (koZ L T, h) = some (o, (koZ L T, h')) := (sq_D (skr_ok hT) d c i as h hm ha o _ e).2.2
theorem ko_T3n : koT3.length = 244 := by decide +kernel
theorem ko_T3 : skc (koT3.length + 1) koT3 zS1 = true := by decide +kernel
def syR : List am_R := [am_k 86, am_k 87, am_k 88, am_k 89, am_k 90, am_k 91, am_k 92, am_k 93, am_k 94, am_k 95, am_k 96, am_k 97, am_k 98, am_k 99, am_k 100, am_k 101, am_k 102, am_k 103, am_k 104, am_k 105, am_k 106, am_k 107, am_k 108, am_k 109, am_k 110, am_k 111, am_k 112, am_k 113, am_k 114, am_k 115, am_k 116, am_k 117, am_k 118, am_k 119, am_k 120, am_k 121, am_k 122, am_k 123, am_k 124, am_k 125, am_k 126, am_k 127, am_k 128, am_k 129, am_k 130, am_k 131, am_k 132]
theorem syR_at : ((List.range 47).all fun j => decide (syR.getD j am_n = am_k (86 + j))) = true := by decide +kernel
theorem syR_j {j : Nat} (hj : j < 47) : syR.getD j am_n = am_k (86 + j) := of_decide_eq_true (List.all_eq_true.1 syR_at j (List.mem_range.2 hj))
theorem q_c3 (Γ : am_G) (L : Nat) (h : am_H) (n x : Int) (u1 u2 : Option am_V) : am_E Γ m_0_1 (.inl 3) [some (am_r (am_a 1)), u1, u2, some (am_i n), some (am_r (am_a 244)), some (am_i x)] [] (koZ L koT3, h) = if x < 47 then am_idx x 47 (fun k => am_xI (koZ L koT3) (Γ 0 3 [am_r (am_a 1), am_r (syR.getD k am_n), am_i n] (koZ L koT3, h)) (am_up1 (koZ L koT3)) fun v h1 => am_E Γ m_0_1 (.inl 3) [some (am_r (am_a 1)), u1, u2, some (am_i v), some (am_r (am_a 244)), some (am_i (am_w (x + 1)))] [] (koZ L koT3, h1)) else am_E Γ m_0_1 (.inl 4) [some (am_r (am_a 1)), u1, u2, some (am_i n), some (am_r (am_a 244)), some (am_i x)] [] (koZ L koT3, h) := by
  have e : am_at Γ m_0_1 (am_E Γ m_0_1) 13 3 [some (am_r (am_a 1)), u1, u2, some (am_i n), some (am_r (am_a 244)), some (am_i x)] [] (koZ L koT3, h) = if x < 47 then am_idx x 47 (fun k => am_xI (koZ L koT3) (Γ 0 3 [am_r (am_a 1), am_r (syR.getD k am_n), am_i n] (koZ L koT3, h)) (am_up1 (koZ L koT3)) fun v h1 => am_E Γ m_0_1 (.inl 3) [some (am_r (am_a 1)), u1, u2, some (am_i v), some (am_r (am_a 244)), some (am_i (am_w (x + 1)))] [] (koZ L koT3, h1)) else am_unr Γ m_0_1 (am_E Γ m_0_1) 9 (.inl 4) [some (am_r (am_a 1)), u1, u2, some (am_i n), some (am_r (am_a 244)), some (am_i x)] [] (koZ L koT3, h) := rfl
  rw [am_cut Γ m_0_1 13 3, e, am_unr_E]
/-- the first lines of the system's text -/
def syX : Nat → List Int
  | 0 => []
  | j + 1 => syX j ++ (am_str.getD (86 + j) [] ++ [32])
theorem syX_s (j : Nat) : (syX j).length ≤ (syX (j + 1)).length := by
  show _ ≤ (syX j ++ _).length
  rw [List.length_append]; omega
theorem syX_n : (syX 47).length = 7370 := by decide +kernel
theorem syX_l {j : Nat} (hj : j ≤ 47) : (syX j).length ≤ 7370 := by
  have key : ∀ m j, j + m = 47 → (syX j).length ≤ 7370 := by
    intro m
    induction m with
    | zero => intro j h; rw [show j = 47 by omega, syX_n]; exact Nat.le_refl _
    | succ m ih => intro j h; exact Nat.le_trans (syX_s j) (ih (j + 1) (by omega))
  exact key (47 - j) j (by omega)
section
variable {d L : Nat} {h0 : am_H}
theorem sp_lines {u1 u2 : Option am_V} : ∀ (m j : Nat) {h : am_H}, j + m = 47 → (∀ i x, (syX j)[i]? = some x → h 3 i = x) → p_fr [3] [] h0 h → ∃ h', am_E (am_D (d + 1)) m_0_1 (.inl 3) [some (am_r (am_a 1)), u1, u2, some (am_i ((syX j).length : Int)), some (am_r (am_a 244)), some (am_i (j : Int))] [] (koZ L koT3, h) = am_E (am_D (d + 1)) m_0_1 (.inl 4) [some (am_r (am_a 1)), u1, u2, some (am_i 7370), some (am_r (am_a 244)), some (am_i 47)] [] (koZ L koT3, h') ∧ (∀ i x, (syX 47)[i]? = some x → h' 3 i = x) ∧ p_fr [3] [] h0 h'
  | 0, j, h, hm, X, f => by
    have ej : j = 47 := by omega
    subst ej
    rw [q_c3, if_neg (by omega), syX_n]
    exact ⟨h, rfl, X, f⟩
  | m + 1, j, h, hm, X, f => by
    have l1 := syX_l (j := j + 1) (by omega)
    have e1 : syX (j + 1) = syX j ++ (am_str.getD (86 + j) [] ++ [32]) := rfl
    have sl : am_sl (86 + j) = (am_str.getD (86 + j) []).length := rfl
    have l2 : (syX (j + 1)).length = (syX j).length + am_sl (86 + j) + 1 := by rw [e1, List.length_append, List.length_append, List.length_singleton, sl]; omega
    obtain ⟨h1, r1, a1, a2, a3, f1⟩ := sp_spell (d := d) (L := L) (h := h) (j := 86 + j) (a := (syX j).length) (by omega) (by omega)
    have r1' := sk_use (T := koT3) ko_T3 rfl (fun v hv => by
      rcases List.mem_cons.1 hv with rfl | hv
      · intro a e; injection e with e; injection e with e; injection e with e; injection e with e; rw [← e, ko_T3n]; decide
      · rcases List.mem_cons.1 hv with rfl | hv
        · intro a e; cases e
        · rcases List.mem_cons.1 hv with rfl | hv
          · intro a e; cases e
          · cases hv) r1
    obtain ⟨h', r2, q⟩ := sp_lines (u1 := u1) (u2 := u2) m (j + 1) (h := h1) (by omega) (fun i x hx => by
      rw [e1] at hx
      rcases Nat.lt_or_ge i (syX j).length with z | z
      · rw [List.getElem?_append_left z] at hx
        rw [a3 i (Or.inl z)]
        exact X i x hx
      · rw [List.getElem?_append_right z] at hx
        rcases Nat.lt_or_ge (i - (syX j).length) (am_str.getD (86 + j) []).length with z2 | z2
        · rw [List.getElem?_append_left z2] at hx
          have := a1 (i - (syX j).length) (by omega)
          rw [show (syX j).length + (i - (syX j).length) = i by omega] at this
          rw [this]
          unfold am_sc
          rw [List.getD_eq_getElem?_getD, hx]; rfl
        · rw [List.getElem?_append_right z2] at hx
          have il := (List.getElem?_eq_some_iff.1 hx).1
          rw [List.length_singleton] at il
          have ei : i = (syX j).length + am_sl (86 + j) := by omega
          rw [show i - (syX j).length - (am_str.getD (86 + j) []).length = 0 by omega] at hx
          injection hx with hx
          rw [ei, a2, ← hx]) (f.trans f1)
    refine ⟨h', ?_, q⟩
    rw [q_c3, if_pos (by omega), p_idx (by omega) (by omega), Int.toNat_natCast, syR_j (by omega), r1']
    show am_xI (koZ L koT3) (some (.inl (some (am_i _)), (koZ L koT3, h1))) _ _ = _
    unfold am_xI
    dsimp only
    rw [if_pos rfl, p_w (by omega) (by omega), show (j : Int) + 1 = ((j + 1 : Nat) : Int) by omega, ← l2]
    exact r2
end
