/-! SIMULATION, 30b: a method's words, one by one -/
theorem sm_hav_cons {w : Cond} {ws : List Cond} {q : Nat × Nat} {qs : List (Nat × Nat)} (h : sm_wat q = some w) (h2 : sm_wok w = true) (h3 : sm_hav ws qs = true) : sm_hav (w :: ws) (q :: qs) = true := by
  unfold sm_hav; rw [decide_eq_true h, h2, h3]; rfl
/-- all of sm_xok but the words -/
def sm_xr (c : Nat) (x : sm_X) : Bool := plainName x.1.2.2.1.cls && Nat.ble x.1.2.2.2.2.1 41 && decide (x.1.2.2.1.cls ≠ "java/lang/invoke/MethodHandle") && decide (x.1.2.2.1.cls ≠ "java/lang/invoke/VarHandle") &&
  (match sm_cl[c]? with
   | some rc => decide (rc.1 = x.1.2.2.1.cls)
   | none => false) &&
  (match x.1.1 with
   | 0 => sm_dn x.1.2.2.1.desc x.1.2.1
   | 1 => Nat.ble 1 x.1.2.1 && sm_dn x.1.2.2.1.desc (x.1.2.1 - 1)
   | 2 => Nat.ble 1 x.1.2.1 && sm_dn x.1.2.2.1.desc (x.1.2.1 - 1) && decide (x.1.2.2.1.name = "<init>") && decide (x.1.2.2.2.2.2.1 = none) && decide (x.1.2.2.2.2.2.2 = [])
   | _ => false)
theorem sm_xok_of {c : Nat} {x : sm_X} (h1 : sm_hav (sm_xw x) x.2.2 = true) (h2 : sm_xr c x = true) : sm_xok c x = true := by
  unfold sm_xok
  unfold sm_xr at h2
  rw [h1, Bool.true_and]
  exact h2
