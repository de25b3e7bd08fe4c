/-! SIMULATION, 27: every method, at every depth -/
/-- what the check of a method's code gives -/
def sm_good (mi : Nat → Nat → Option sm_I) (q : Nat × List am_B) (I : sm_I) : Prop :=
  sm_cw I.1 I.2.1 I.2.2.1 I.2.2.2.1 I.2.2.2.2.1 I.2.2.2.2.2 ∧ plainName I.1.cls = true ∧ I.2.2.2.1 = q.1 ∧ ∃ (lo : Bool) (ps : List Nat) (qss : List (List (Option Nat))), ps[0]? = some 0 ∧
    (∀ (k pc : Nat) (b : am_B), ps[k]? = some pc → q.2[k]? = some b → ∃ qs, qss[k]? = some qs ∧ qs[0]? = some (some pc)) ∧
    ∀ (k : Nat) (b : am_B) (qs : List (Option Nat)), q.2[k]? = some b → qss[k]? = some qs → ∀ n, sm_one mi I.1.cls I.1.name lo I.2.2.2.2.1 I.2.2.2.2.2 ps I.2.2.1 b.2 qs n
theorem sm_main {l : Launch} {mi : Nat → Nat → Option sm_I} (htr : ∀ e : Env, l.admits e → e.platform.stackTraces = false) (hall : ∀ c i q I, (am_mt.getD c [])[i]? = some q → mi c i = some I → sm_good mi q I) :
    ∀ d c i as σ x τ, am_D d c i as σ = some (x, τ) → am_le σ τ ∧ ∀ y w bytes mL rt hh, mi c i = some (y, w, bytes, mL, rt, hh) → sm_Met l d y w as σ (x, τ) := by
  intro d
  induction d with
  | zero => intro c i as σ x τ h; cases h
  | succ d ih =>
    intro c i as σ x τ h
    have h : am_ob (am_mt.getD c [])[i]? (fun q => cond (Nat.ble as.length q.1 && as.all am_nol) (am_E (am_D d) q.2 (.inl 0) (am_ent q.1 as) [] σ) none) = some (x, τ) := h
    obtain ⟨q, hq, h1⟩ := iv_ob h
    obtain ⟨h2, h3⟩ := iv_cd1 h1
    simp only [Bool.and_eq_true, Nat.ble_eq] at h2
    obtain ⟨n, h4⟩ := am_E_some.mp h3
    refine ⟨mo_run (fun c i as τ o hg => (ih c i as τ o.1 o.2 hg).1) n _ _ _ _ _ h4, fun y w bytes mL rt hh hm => ?_⟩
    obtain ⟨g1, g2, g3, lo, ps, qss, g4, g5, g6⟩ := hall c i q _ hq hm
    dsimp only at g1 g2 g3 g6
    subst g3
    exact sm_met (lo := lo) htr g1 g2 g4 g5 g6 ih h2.1 h2.2 h4
