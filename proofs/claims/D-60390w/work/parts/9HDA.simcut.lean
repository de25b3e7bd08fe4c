/-! SIMULATION, 31c: a long block is checked in pieces -/
def sm_cbp (tab : List sm_P) (ini lo : Bool) (ret : Option FieldType) (hh : List (Nat × Nat × Nat × Nat)) (ps : List Nat) (cc : ByteArray) : List am_A → Nat → Option Nat
  | [], pc => some pc
  | q :: r, pc => cond (sm_isnop q.1) none (cond (sm_isise q) none (match decode cc pc with
    | .ok (j, len) => cond (decide (j = q.1) && sm_lnok j len && sm_ck tab ini lo ret hh ps pc q.1 q.2) (sm_cbp tab ini lo ret hh ps cc r (pc + len)) none
    | .error _ => none))
theorem sm_cbp_app {tab : List sm_P} {ini lo : Bool} {ret : Option FieldType} {hh : List (Nat × Nat × Nat × Nat)} {ps : List Nat} {cc : ByteArray} : ∀ (l1 : List am_A) (pc p : Nat) (l2 : List am_A), sm_cbp tab ini lo ret hh ps cc l1 pc = some p → sm_cb tab ini lo ret hh ps cc l2 p 0 = true → sm_cb tab ini lo ret hh ps cc (l1 ++ l2) pc 0 = true
  | [], pc, p, l2, h, h2 => by cases h; exact h2
  | q :: r, pc, p, l2, h, h2 => by
    unfold sm_cbp at h
    rw [List.cons_append]
    unfold sm_cb
    cases h1 : sm_isnop q.1 with
    | true => rw [h1] at h; cases h
    | false =>
      rw [h1] at h
      cases h3 : sm_isise q with
      | true => rw [h3] at h; cases h
      | false =>
        rw [h3] at h
        simp only [cond_false] at h ⊢
        split at h
        · rename_i j len hd
          rw [hd]
          dsimp only
          cases h4 : decide (j = q.1) && sm_lnok j len && sm_ck tab ini lo ret hh ps pc q.1 q.2 with
          | false => rw [h4] at h; cases h
          | true =>
            rw [h4] at h
            rw [Bool.true_and]
            exact sm_cbp_app r (pc + len) p l2 h h2
        · cases h
theorem sm_cbp_drop {tab : List sm_P} {ini lo : Bool} {ret : Option FieldType} {hh : List (Nat × Nat × Nat × Nat)} {ps : List Nat} {cc : ByteArray} {l : List am_A} {k pc p : Nat} (h : sm_cbp tab ini lo ret hh ps cc ((l.drop k).take 50) pc = some p) (h2 : sm_cb tab ini lo ret hh ps cc (l.drop (k + 50)) p 0 = true) : sm_cb tab ini lo ret hh ps cc (l.drop k) pc 0 = true := by
  rw [← List.take_append_drop 50 (l.drop k), List.drop_drop]
  exact sm_cbp_app _ pc p _ h h2
