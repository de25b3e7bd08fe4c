/-! RUN, 19: the model: statements, jumps, calls and returns -/
section
variable {ky : List Int} {L d : Nat} {g g' g1 g2 : am_H} {k : Nat} {G : vG} {rs fr : List uF} {s rk : Nat} {as ls : List Int} {th tm : Option Int} {st : List Int} {x y : Int}
/-- cells and fields that are looked at -/
theorem MU.keep (M : MU ky g k G fr) (B : MB g fr) (c : ∀ a, a = 308 ∨ a = 309 ∨ a = 310 ∨ a = 311 ∨ a = 319 ∨ a = 320 ∨ a = 313 ∨ a = 264 ∨ a = 267 ∨ a = 268 ∨ a = 314 ∨ a = 315 ∨ a = 316 → g' a = g a) (c2 : ∀ j, j < 24 * fr.length → g' 312 j = g 312 j) (f : ∀ j, j = 81 ∨ j = 87 ∨ j = 88 ∨ j = 98 ∨ j = 99 ∨ j = 102 ∨ j = 103 ∨ j = 106 ∨ j = 108 → g' 254 j = g 254 j) : MU ky g' k G fr := by
  obtain ⟨m1, m2, ⟨m3, m4, m5, m6⟩, m7⟩ := M
  exact ⟨m1.same (fun a ha => c a (by omega)) (fun j hj => f j (by omega)), fun j hj => by rw [c 311 (by omega)]; exact m2 j hj, ⟨by rw [f 87 (by omega)]; exact m3, by rw [f 88 (by omega)]; exact m4, by rw [f 98 (by omega)]; exact m5, by rw [f 99 (by omega)]; exact m6⟩, m7.fr (fun a ha => c a (by omega)) B c2 (fun j _ => by rw [c 313 (by omega)])⟩
theorem m_step : am_D (d + 1) 17 110 [am_r (am_a 254)] (zS L, g) = if g 254 96 = g 254 97 then pI L 0 (am_up g 254 99 1) else pI L 1 (am_up g 254 96 (am_w (g 254 96 + 1))) := by
  rw [D_17_110]
  by_cases z : g 254 96 = g 254 97
  · rw [if_pos z, if_pos z, p_bit0]
  · rw [if_neg z, if_neg z, p_bit1]
/-- a sub's row of vars, empty -/
def zr (g : am_H) (f i : Nat) : am_H := fun c => if c = 312 then (fun j => if 24 * f ≤ j ∧ j < 24 * f + i then 0 else g 312 j) else g c
theorem zr_c {f i c : Nat} (h : c ≠ 312) : zr g f i c = g c := if_neg h
theorem zr_0 (f : Nat) : zr g f 0 = g := by
  funext c j
  unfold zr
  by_cases z : c = 312
  · rw [if_pos z, z]; exact if_neg (by omega)
  · rw [if_neg z]
theorem zr_s (f i : Nat) : am_up (zr g f i) 312 (24 * f + i) 0 = zr g f (i + 1) := by
  funext c
  by_cases z : c = 312
  · rw [z, p_up_f]
    funext j
    show p_set (zr g f i 312) (24 * f + i) 0 j = zr g f (i + 1) 312 j
    unfold zr
    rw [if_pos rfl, if_pos rfl]
    by_cases q : j = 24 * f + i
    · rw [q, p_set_s, if_pos (by omega)]
    · rw [p_set_n _ _ _ _ q]
      by_cases w : 24 * f ≤ j ∧ j < 24 * f + i
      · rw [if_pos w, if_pos (by omega)]
      · rw [if_neg w, if_neg (by omega)]
  · rw [p_up_c _ _ _ _ _ z, zr_c z, zr_c z]
theorem m_zero {x1 x2 : Int} {f : Nat} (hf : f < 41) : ∀ i j : Nat, i + j = 24 → am_E (am_D (d + 10)) m_17_111 (.inl 3) [some (am_r (am_a 254)), some (am_i x1), some (am_i x2), some (am_i (f : Int)), some (am_i (i : Int))] [] (zS L, zr g f i) = am_E (am_D (d + 10)) m_17_111 (.inl 5) [some (am_r (am_a 254)), some (am_i x1), some (am_i x2), some (am_i (f : Int)), some (am_i (am_w (x2 - 1)))] [] (zS L, zr g f 24) := by
  intro i j
  induction j generalizing i with
  | zero => intro h; have : i = 24 := by omega
            subst this; rw [q_17_111_3, if_neg (by omega)]
  | succ j ih =>
    intro h
    rw [q_17_111_3, if_pos (by omega), p_w (x := 24 * (f : Int)) (by omega) (by omega), p_w (by omega) (by omega), p_idx (by omega) (by omega), show (24 * (f : Int) + (i : Int)).toNat = 24 * f + i by omega, p_w (by omega) (by omega), zr_s]
    exact ih (i + 1) (by omega)
/-- values become params -/
theorem m_pars {x1 : Int} {u2 : Option am_V} {f : Nat} (hf : f < 40) (hfr : f = rs.length + 1) : ∀ (m : Nat) {g : am_H} {st : List Int}, MU ky g k G ((s, as, ls, th, st, rk) :: rs) → MB g ((s, as, ls, th, st, rk) :: rs) → m ≤ st.length → m ≤ 12 → ust rs + st.length ≤ 15000 → ∃ g', am_E (am_D (d + 10)) m_17_111 (.inl 5) [some (am_r (am_a 254)), some (am_i x1), u2, some (am_i (f : Int)), some (am_i ((m : Int) - 1))] [] (zS L, g) = am_E (am_D (d + 10)) m_17_111 (.inl 5) [some (am_r (am_a 254)), some (am_i x1), u2, some (am_i (f : Int)), some (am_i (-1))] [] (zS L, g') ∧ MU ky g' k G ((s, as, ls, th, st.drop m, rk) :: rs) ∧ MB g' ((s, as, ls, th, st.drop m, rk) :: rs) ∧ (∀ c, c ≠ 254 → c ≠ 312 → g' c = g c) ∧ (∀ j, j ≠ 87 → g' 254 j = g 254 j) ∧ (AR (g' 312) (24 * f) (st.take m).reverse) ∧ (∀ j, j < 24 * f ∨ 24 * f + m ≤ j → g' 312 j = g 312 j)
  | 0, g, st, M, B, _, _, _ => ⟨g, rfl, M, B, fun _ _ _ => rfl, fun _ _ => rfl, fun i v hi => (by cases hi), fun _ _ => rfl⟩
  | m + 1, g, [], M, B, h, _, _ => by cases h
  | m + 1, g, v :: st, M, B, hm, h8, hu => by
    rw [List.length_cons] at hm hu
    obtain ⟨g1, h1, M1, B1, f1, e1, c1⟩ := ji_pop (d := d + 9) (L := L) M B (by omega)
    have g1f : ∀ j, j ≠ 87 → g1 254 j = g 254 j := by
      intro j hj
      have h1 := h1
      obtain ⟨p1, p2, p3⟩ := M.pop B
      rw [m_pop _ L p1 (by omega)] at h1
      have : g1 = am_up g 254 87 ((ust rs + st.length : Nat) : Int) := by
        have := Option.some.inj h1
        exact ((Prod.mk.inj (Prod.mk.inj this).2).2).symm
      rw [this, p_up_n _ _ _ _ _ _ (Or.inr hj)]
    have M2 : MU ky (am_up g1 312 (24 * f + m) v) k G ((s, as, ls, th, st, rk) :: rs) := M1.keep B1 (fun a ha => p_up_c _ _ _ _ _ (by omega)) (fun j hj => p_up_n _ _ _ _ _ _ (Or.inr (by rw [List.length_cons] at hj; omega))) (fun j hj => by rw [p_up_c _ _ _ _ _ (by decide)])
    have B2 : MB (am_up g1 312 (24 * f + m) v) ((s, as, ls, th, st, rk) :: rs) := B1.fr (fun c hc => p_up_c _ _ _ _ _ (by omega))
    obtain ⟨g', r1, r2, r3, r4, r5, r6, r7⟩ := m_pars hf hfr m (g := am_up g1 312 (24 * f + m) v) M2 B2 (by omega) (by omega) (by omega)
    refine ⟨g', ?_, r2, r3, fun c hc hc2 => by rw [r4 c hc hc2, p_up_c _ _ _ _ _ hc2, c1 c hc], fun j hj => by rw [r5 j hj, p_up_c _ _ _ _ _ (by decide), g1f j hj], fun i w hi => ?_, fun j hj => ?_⟩
    · rw [q_17_111_5, if_neg (by omega), h1, p_xI, p_w (x := 24 * (f : Int)) (by omega) (by omega), p_w (x := 24 * (f : Int) + (((m + 1 : Nat) : Int) - 1)) (by omega) (by omega), p_idx (by omega) (by omega), show (24 * (f : Int) + (((m + 1 : Nat) : Int) - 1)).toNat = 24 * f + m by omega, p_w (by omega) (by omega), show ((m + 1 : Nat) : Int) - 1 + -1 = (m : Int) - 1 by omega]
      exact r1
    · rw [List.take_succ_cons, List.reverse_cons] at hi
      have lt : (st.take m).reverse.length = m := by rw [List.length_reverse, List.length_take]; omega
      by_cases z : i < m
      · rw [List.getElem?_append_left (by omega)] at hi
        exact r6 i w hi
      · rw [List.getElem?_append_right (by omega), lt] at hi
        have : i = m := by
          have := (List.getElem?_eq_some_iff.1 hi).1
          rw [List.length_singleton] at this; omega
        subst this
        rw [Nat.sub_self] at hi
        rw [r7 (24 * f + i) (by omega), p_up_s]
        exact Option.some.inj hi
    · rw [r7 j (by omega), p_up_n _ _ _ _ _ _ (Or.inr (by omega)), c1 312 (by decide)]
end
