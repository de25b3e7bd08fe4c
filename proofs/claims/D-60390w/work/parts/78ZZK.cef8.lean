/-! PURE LAYER, 116: the first reading writes no code -/
section
variable {K V P : Nat → Int} {c c' : ce_S}
/-- an outcome, if any, has these cells as they were -/
def f8 (g : am_H) (r : gx_R am_H) : Prop := gx_P r (fun g' => g' 8 = g 8)
theorem f8.h {g : am_H} {s : ce_S} {r : gx_R am_H} (hs : s.1 = g) (h : f8 g r) : gx_P (ce_h s r) (fun c' => c'.1 8 = g 8) := gx_P_b fun a e => gx_P_i (h a e)
theorem f8.i (g : am_H) : f8 g (.inr g) := gx_P_i rfl
theorem f8.u {g : am_H} {a k : Nat} {v : Int} (ha : a ≠ 8) : am_up g a k v 8 = g 8 := p_up_c _ _ _ _ _ (Ne.symm ha)
theorem f8_chk {α : Type} {p : Prop} [Decidable p] {e : Int × Int} {x : gx_R α} : ce_chk false p e x = x := by unfold ce_chk; rw [if_neg (by simp)]
theorem ce_f8 {e : gx_V} (h : ce false false K V P e c = .inr c') : c'.1 8 = c.1 8 := by
  refine (show gx_P (ce false false K V P e c) (fun c' => c'.1 8 = c.1 8) from ?_) c' h
  obtain ⟨n, x, y, z⟩ := e
  obtain ⟨g, ty, fn, on, pn, ln, st⟩ := c
  have I : f8 g (.inr g) := f8.i g
  have HI : gx_P (ce_h (g, ty, fn, on, pn, ln, st) (.inr g)) (fun c' => c'.1 8 = g 8) := f8.h rfl I
  unfold ce
  dsimp only
  split
  case h_1 => exact HI
  case h_2 => exact HI
  case h_3 => exact HI
  case h_4 => rw [f8_chk]; exact HI
  case h_5 =>
    unfold ce_str
    refine f8.h rfl (gx_P_q fun _ => ?_)
    show f8 g (ce_chars false false _ _ _ _ g)
    rw [ce_chars_0]; exact I
  case h_6 => rw [ce_load_0]; exact f8.h rfl (gx_P_q fun _ => I)
  case h_7 =>
    refine f8.h rfl ?_
    show f8 g (gx_b (ce_get false g) fun g => gx_b (ce_li false false 1 6 1 g) (ce_li false false 0 5 0))
    exact gx_P_b fun g1 e1 => (show g1 = g from by
      have := ce_q_in (show ce_q _ (ce_vm false 17 (ce_ckd g) 0 g) = .inr g1 from e1)
      cases this; rfl) ▸ I
  case h_8 => rw [ce_op_0]; exact HI
  case h_9 => exact HI
  case h_10 => exact HI
  case h_11 =>
    refine f8.h rfl (gx_P_q fun _ => gx_P_b fun g1 e1 => ?_)
    have : g1 = g := by
      by_cases c1 : x.toNat = y.toNat
      · rw [if_pos c1, f8_chk, f8_chk] at e1; cases e1; rfl
      · rw [if_neg c1, f8_chk, ce_load_0] at e1
        split at e1
        · cases e1; rfl
        · cases e1; rfl
    subst this
    rw [f8_chk, f8_chk]
    split
    · exact fun a e => by cases e
    · rw [f8_chk, f8_chk]; exact I
  case h_12 =>
    unfold ce_end
    split
    · exact fun a e => by cases e
    · exact HI
  case h_13 => exact HI
  case h_14 => rw [f8_chk, f8_chk]; exact f8.h rfl (gx_P_q fun _ => I)
  case h_15 => exact HI
  case h_16 =>
    refine f8.h rfl ?_
    show f8 g (gx_b (ce_set false g) fun g => _)
    exact gx_P_b fun g1 e1 => (show g1 = g from by
      have := ce_q_in (show ce_q _ (ce_vm false 18 (ce_ckd g) 0 g) = .inr g1 from e1)
      cases this; rfl) ▸ I
  case h_17 =>
    refine gx_P_b fun r e1 => gx_P_i ?_
    have := ce_q_in (show ce_q _ _ = .inr r from e1)
    cases this
    dsimp only
    rw [f8.u (by decide)]
  case h_18 =>
    cases st with
    | nil => exact fun a e => by cases e
    | cons q l => exact gx_P_i rfl
  case h_19 =>
    cases st with
    | nil => exact fun a e => by cases e
    | cons q l => exact gx_P_i rfl
  case h_20 =>
    cases st with
    | nil => exact fun a e => by cases e
    | cons q l => exact gx_P_i rfl
  case h_21 =>
    cases st with
    | nil => exact fun a e => by cases e
    | cons q l => exact gx_P_i rfl
  case h_22 =>
    show gx_P (gx_b (ce_told g) _) _
    refine gx_P_b fun r e1 => gx_P_i ?_
    have := ce_q_in (show ce_q _ _ = .inr r from e1)
    cases this
    dsimp only
    rw [f8.u (by decide)]
  case h_23 =>
    cases st with
    | nil => exact fun a e => by cases e
    | cons q l => exact gx_P_i rfl
  case h_24 =>
    cases st with
    | nil => exact fun a e => by cases e
    | cons q l => exact gx_P_i rfl
  case h_25 => exact HI
  case h_26 => exact HI
  case h_27 => exact f8.h rfl (gx_P_q fun _ => gx_P_i (by rw [f8.u (by decide), f8.u (by decide)]))
  case h_28 =>
    refine f8.h rfl (gx_P_q fun _ => ?_)
    rw [if_neg (by decide)]
    exact gx_P_q fun _ => gx_P_i (by rw [f8.u (by decide), f8.u (by decide), f8.u (by decide), f8.u (by decide), f8.u (by decide)])
  case h_29 => exact gx_P_i (by dsimp only; rw [f8.u (by decide), f8.u (by decide)])
  case h_30 =>
    split
    · exact gx_P_i rfl
    · rw [f8_chk]; exact gx_P_q fun _ => gx_P_i rfl
  case h_31 =>
    rw [f8_chk]
    refine gx_P_q fun _ => ?_
    split
    · exact gx_P_i (by dsimp only; unfold ce_var1; rw [f8.u (by decide), f8.u (by decide), f8.u (by decide), f8.u (by decide), f8.u (by decide), f8.u (by decide)])
    · exact gx_P_i (by dsimp only; unfold ce_var1; rw [f8.u (by decide), f8.u (by decide), f8.u (by decide), f8.u (by decide), f8.u (by decide), f8.u (by decide), f8.u (by decide)])
  case h_32 => exact f8.h rfl (gx_P_q fun _ => gx_P_i (f8.u (by decide)))
  case h_33 => exact f8.h rfl (gx_P_i (f8.u (by decide)))
  case h_34 =>
    rw [f8_chk, if_neg (by decide)]
    exact f8.h rfl (gx_P_q fun _ => gx_P_i (by rw [f8.u (by decide), f8.u (by decide), f8.u (by decide), f8.u (by decide), f8.u (by decide), f8.u (by decide)]))
  case h_35 => exact gx_P_i (by dsimp only; rw [f8.u (by decide)])
  case h_36 =>
    rw [f8_chk]
    exact gx_P_q fun _ => gx_P_i (by dsimp only; unfold ce_var2; rw [f8.u (by decide), f8.u (by decide), f8.u (by decide), f8.u (by decide), f8.u (by decide), f8.u (by decide)])
  case h_37 => exact gx_P_q fun _ => gx_P_i (by dsimp only; rw [f8.u (by decide)])
  case h_38 =>
    rw [f8_chk]
    exact gx_P_q fun _ => gx_P_i (by dsimp only; unfold ce_var2; rw [f8.u (by decide), f8.u (by decide), f8.u (by decide), f8.u (by decide), f8.u (by decide), f8.u (by decide)])
  case h_39 =>
    refine f8.h rfl ?_
    unfold ce_func
    refine gx_P_q fun _ => ?_
    show f8 g (if am_up g 235 4 0 212 14 = 3 then .inr (am_up g 235 4 0) else if am_up g 235 4 0 212 14 = 1 then .inr (am_up g 235 4 0) else .inr (am_up g 235 4 0))
    split
    · exact gx_P_i (f8.u (by decide))
    · split
      · exact gx_P_i (f8.u (by decide))
      · exact gx_P_i (f8.u (by decide))
  case h_40 => exact f8.h rfl (gx_P_q fun _ => gx_P_i (f8.u (by decide)))
  case h_41 => exact fun a e => by cases e
theorem ce_f8_run : ∀ (es : List gx_V) {c c' : ce_S}, gx_fold (ce false false K V P) es c = .inr c' → c'.1 8 = c.1 8
  | [], c, c', h => by cases h; rfl
  | e :: es, c, c', h => by
    obtain ⟨c1, h1, h2⟩ := gx_b_ok h
    exact (ce_f8_run es h2).trans (ce_f8 h1)
end
