/-! SIMULATION, 25: the walk through a method -/
/-- what is asked of the n-th instruction of a block; qs: the places of the block's instructions (none: within the exception's making) -/
def sm_one (mi : Nat → Nat → Option sm_I) (own nm : String) (lo : Bool) (ret : Option FieldType) (hh : List (Nat × Nat × Nat × Nat)) (ps : List Nat) (cc : ByteArray) (is : List am_A) (qs : List (Option Nat)) (n : Nat) : Prop :=
  ∀ i o pc, is[n]? = some (i, o) → qs[n]? = some (some pc) →
    (i = .nop ∧ ps[o.getD 0 0]? = some pc) ∨
    (i ≠ .nop ∧ ∃ len, decode cc pc = .ok (i, len) ∧ (∀ n, sm_len i = some n → len = n) ∧ sm_op mi own nm lo ret ps pc i o ∧ sm_op2 mi own hh ps pc i o ∧ qs[n + 1]? = some (some (pc + len))) ∨
    (∃ idx k ic j tx, i = .new idx ∧ o = [20] ∧ is[n + 1]? = some (.dup, []) ∧ is[n + 2]? = some (.ldc k, [1, j]) ∧ is[n + 3]? = some (.invokespecial ic, [8, 0, 0, 2, 0, 0, 0]) ∧ qs[n + 4]? = some (some (pc + 9)) ∧
      decode cc pc = .ok (.new idx, 3) ∧ decode cc (pc + 3) = .ok (.dup, 1) ∧ decode cc (pc + 4) = .ok (.ldc k, 2) ∧ decode cc (pc + 6) = .ok (.invokespecial ic, 3) ∧
      Cond.classLink own idx "java/lang/IllegalStateException" ∈ sm_tbl ∧ Cond.methodLink own ic (Bundle.initS "java/lang/IllegalStateException") ∈ sm_tbl ∧ sm_sk[j]? = some (own, k, tx))
theorem sm_drop {α : Type} {l : List α} {n : Nat} {x : α} (h : l[n]? = some x) : l.drop n = x :: l.drop (n + 1) := by
  obtain ⟨hlt, e⟩ := List.getElem?_eq_some_iff.mp h
  rw [List.drop_eq_getElem_cons hlt, e]
section
variable {p : Program} {l : Launch} {e : Env} {R : Room} {s : State} {m : MethodId} {args : Array Value} {below : List Frame} {meth : Method} {c : Code} {Q : State → Prop}
variable {G : sm_G} {L : Nat} {xs : Nat → Int32} {own : String} {cc : ByteArray} {maxL : Nat} {ret : Option FieldType} {lo : Bool} {n0 t0 : Nat} {out : am_O} {F : am_F} {Γ : am_G}
variable {ls : List (Option am_V)} {st : List am_V} {σ : am_S} {H : Heap} {locs : List Loc} {cells slots pc len : Nat} {J : Array Slot} {r : List am_A} {o : List Nat} {hh : List (Nat × Nat × Nat × Nat)} {ps : List Nat}
/-- AM's way through the exception's making -/
theorem iv_ise {bl : List am_B} {n k j ic : Nat} (h : am_run Γ bl n (.inr ((.dup, []) :: (.ldc k, [1, j]) :: (.invokespecial ic, [8, 0, 0, 2, 0, 0, 0]) :: r)) ls (am_r (am_a σ.1.length) :: st) (σ.1 ++ [(0, am_ise, [])], am_zr σ.2 σ.1.length) = some out) :
    ∃ n', n' < n ∧ am_wt (am_r (am_a σ.1.length) :: st) ≤ 8 ∧ am_run Γ bl n' (.inr r) ls (am_r (am_a σ.1.length) :: st) (σ.1 ++ [(0, am_ise, [])], am_zr σ.2 σ.1.length) = some out := by
  cases n with
  | zero => cases h
  | succ n =>
    have h : am_run Γ bl n (.inr ((.ldc k, [1, j]) :: (.invokespecial ic, [8, 0, 0, 2, 0, 0, 0]) :: r)) ls (am_r (am_a σ.1.length) :: am_r (am_a σ.1.length) :: st) (σ.1 ++ [(0, am_ise, [])], am_zr σ.2 σ.1.length) = some out := h
    cases n with
    | zero => cases h
    | succ n =>
      have h : am_run Γ bl n (.inr ((.invokespecial ic, [8, 0, 0, 2, 0, 0, 0]) :: r)) ls (am_r (am_k j) :: am_r (am_a σ.1.length) :: am_r (am_a σ.1.length) :: st) (σ.1 ++ [(0, am_ise, [])], am_zr σ.2 σ.1.length) = some out := h
      cases n with
      | zero => cases h
      | succ n =>
        have h : am_inv Γ (am_run Γ bl n) [8, 0, 0, 2, 0, 0, 0] r ls (am_r (am_k j) :: am_r (am_a σ.1.length) :: am_r (am_a σ.1.length) :: st) (σ.1 ++ [(0, am_ise, [])], am_zr σ.2 σ.1.length) = some out := h
        obtain ⟨-, g2⟩ := iv_inv h
        have h1 := (iv_cd1 h).2
        obtain ⟨X, Y, s1, e1, h2⟩ := iv_rr h1
        cases e1
        obtain ⟨a, rs, e2, -, h3⟩ := iv_obj h2
        obtain ⟨j', e3, h4⟩ := iv_ct h3
        exact ⟨n, by omega, g2, (iv_cd1 h4).2⟩
theorem sm_walk {mi : Nat → Nat → Option sm_I} {nm : String} {d : Nat} {bl : List am_B} {qss : List (List (Option Nat))} (X : sm_cx p s m args meth c G L xs own cc maxL ret) (htr : e.platform.stackTraces = false) (hext : sm_ext c hh) (hnm : meth.name = nm)
    (hΓ : ∀ c i as σ x τ, Γ c i as σ = some (x, τ) → am_le σ τ ∧ ∀ y w bytes mL rt hh, mi c i = some (y, w, bytes, mL, rt, hh) → sm_Met l d y w as σ (x, τ)) (hsz : s.heap.size + 1 = G.1 + n0) (hR : d + 9 ≤ R.frames ∧ 60 * d + 460 ≤ R.locals) (hrm : sm_room R n0 t0 out)
    (hps : ∀ (k pc : Nat) (b : am_B), ps[k]? = some pc → bl[k]? = some b → ∃ qs, qss[k]? = some qs ∧ qs[0]? = some (some pc)) (hone : ∀ (k : Nat) (b : am_B) (qs : List (Option Nat)), bl[k]? = some b → qss[k]? = some qs → ∀ n, sm_one mi own nm lo ret hh ps cc b.2 qs n) :
    ∀ fuel : Nat, (∀ (k pc : Nat), ps[k]? = some pc → sm_K p l e R s m args below meth c (sm_Q below s G L xs n0 t0 out) G L xs maxL lo n0 t0 out (am_run Γ bl fuel) (.inl k) pc) ∧
      ∀ (k n pc : Nat) (b : am_B) (qs : List (Option Nat)), bl[k]? = some b → qss[k]? = some qs → qs[n]? = some (some pc) → sm_K p l e R s m args below meth c (sm_Q below s G L xs n0 t0 out) G L xs maxL lo n0 t0 out (am_run Γ bl fuel) (.inr (b.2.drop n)) pc := by
  have hmoG : ∀ c i as τ o, Γ c i as τ = some o → am_le τ o.2 := fun c i as τ o hg => (hΓ c i as τ o.1 o.2 hg).1
  intro fuel
  induction fuel using Nat.strongRecOn with
  | ind fuel ih =>
  cases fuel with
  | zero => exact ⟨fun k pc _ ls st σ H locs cells slots J _ h => (by cases h), fun k n pc b qs _ _ _ ls st σ H locs cells slots J _ h => (by cases h)⟩
  | succ fuel =>
    obtain ⟨ih1, ih2⟩ := ih fuel (by omega)
    refine ⟨fun k pc hk ls st σ H locs cells slots J I h => ?_, fun k n pc b qs hb hq hn ls st σ H locs cells slots J I h => ?_⟩
    · have h : am_blk bl k (fun is => am_run Γ bl fuel (.inr is) ls st σ) = some out := h
      unfold am_blk at h
      split at h
      · rename_i b hb
        obtain ⟨qs, hq, hq0⟩ := hps k pc b hk hb
        have := ih2 k 0 pc b qs hb hq hq0 ls st σ H locs cells slots J I
        rw [List.drop_zero] at this
        exact this h
      · cases h
    · cases hx : b.2[n]? with
      | none =>
        rw [List.drop_eq_nil_of_le (by rw [List.getElem?_eq_none_iff] at hx; exact hx)] at h
        cases h
      | some q =>
        obtain ⟨i, o⟩ := q
        rw [sm_drop hx] at h
        have h : am_ins Γ (am_run Γ bl fuel) i o (b.2.drop (n + 1)) ls st σ = some out := h
        rcases hone k b qs hb hq n i o pc hx hn with ⟨rfl, h1⟩ | ⟨hi0, len, h1, h2, h3, h4, h5⟩ | ⟨idx, k', ic, j, tx, rfl, rfl, e1, e2, e3, h5, d0, d1, d2, d3, w1, w2, w3⟩
        · exact ih1 _ _ h1 ls st σ H locs cells slots J I h
        · exact sm_step2 X hext hnm h1 h2 h3 h4 hΓ hsz hR hrm (mo_run hmoG fuel) (ih2 k (n + 1) (pc + len) b qs hb hq h5) ih1 I hi0 h
        · have h6 : am_run Γ bl fuel (.inr (b.2.drop (n + 1))) ls (am_r (am_a σ.1.length) :: st) (σ.1 ++ [(0, am_ise, [])], am_zr σ.2 σ.1.length) = some out := iv_new h
          rw [sm_drop e1, sm_drop e2, sm_drop e3] at h6
          obtain ⟨n', hn', hwt, h7⟩ := iv_ise h6
          exact si_ise X htr hsz hrm (mo_run hmoG n') w1 w2 w3 d0 d1 d2 d3 ⟨by omega, by omega⟩ hwt ((ih n' (by omega)).2 k (n + 4) (pc + 9) b qs hb hq h5) I h7
end
