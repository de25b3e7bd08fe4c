/-! SIMULATION, 20: throwing, and calls of own methods -/
/-- where an exception out of a call goes: nowhere in this method, or to its one handler -/
def sm_hop (own : String) (hh : List (Nat × Nat × Nat × Nat)) (ps : List Nat) (pc h : Nat) : Prop := match h with
  | 0 => ∀ x ∈ hh, ¬ (x.1 ≤ pc ∧ pc < x.2.1)
  | k + 1 => ∃ x, hh = [x] ∧ x.1 ≤ pc ∧ pc < x.2.1 ∧ ps[k]? = some x.2.2.1 ∧ x.2.2.2 ≠ 0 ∧ Cond.classLink own x.2.2.2 "java/lang/IllegalStateException" ∈ sm_tbl
def sm_ext (c : Code) (hh : List (Nat × Nat × Nat × Nat)) : Prop := c.exceptionTable.toList.map (fun h => (h.startPc, h.endPc, h.handlerPc, h.catchType)) = hh
theorem sm_ext.none {c : Code} {hh : List (Nat × Nat × Nat × Nat)} (h : sm_ext c hh) {pc : Nat} (h0 : ∀ x ∈ hh, ¬ (x.1 ≤ pc ∧ pc < x.2.1)) : ∀ x ∈ c.exceptionTable.toList, covers x pc = false := by
  intro x hx
  have := h0 (x.startPc, x.endPc, x.handlerPc, x.catchType) (by rw [← h]; exact List.mem_map.mpr ⟨x, hx, rfl⟩)
  simp only [covers]
  rw [Bool.and_eq_false_iff, decide_eq_false_iff_not, decide_eq_false_iff_not]
  dsimp only at this
  omega
theorem sm_ext.one {c : Code} {x : Nat × Nat × Nat × Nat} (h : sm_ext c [x]) : ∃ y : ExceptionTableEntry, c.exceptionTable.toList = [y] ∧ x = (y.startPc, y.endPc, y.handlerPc, y.catchType) := by
  unfold sm_ext at h
  cases hl : c.exceptionTable.toList with
  | nil => rw [hl] at h; cases h
  | cons y r =>
    rw [hl] at h
    cases r with
    | nil => exact ⟨y, rfl, (List.head_eq_of_cons_eq h).symm⟩
    | cons z r => simp at h
section
variable {p : Program} {l : Launch} {e : Env} {R : Room} {s : State} {m : MethodId} {args : Array Value} {below : List Frame} {meth : Method} {c : Code} {Q : State → Prop}
variable {G : sm_G} {L : Nat} {xs : Nat → Int32} {own : String} {cc : ByteArray} {maxL : Nat} {ret : Option FieldType} {lo : Bool} {n0 t0 : Nat} {out : am_O} {F : am_F} {Γ : am_G}
variable {ls : List (Option am_V)} {st : List am_V} {σ : am_S} {H : Heap} {locs : List Loc} {cells slots pc len : Nat} {J : Array Slot} {r : List am_A} {o : List Nat} {hh : List (Nat × Nat × Nat × Nat)}
theorem sm_left {T : State} (I : sm_inv s G L xs maxL lo n0 t0 ls st σ H locs cells slots J) (hT : T.heap = H) {a : Nat} (h1 : (T.setFrames (.throwing (sm_ad G a) :: below)).status = .running) (h2 : Ended (T.setFrames (.throwing (sm_ad G a) :: below)) below (.threw (sm_ad G a))) (h3 : s.WarmedH (T.setFrames (.throwing (sm_ad G a) :: below)).vm)
    (h4 : s.sameButNew ({ T.setFrames (.throwing (sm_ad G a) :: below) with vm := s.vm } : State) locs cells slots) : sm_Q below s G L xs n0 t0 (.inr a, σ) (T.setFrames (.throwing (sm_ad G a) :: below)) := by
  refine ⟨_, h1, h2, rfl, by show sm_ok G L xs σ T.heap; rw [hT]; exact I.1, I.2.1.F hT, h3, locs, ?_, I.2.1.2.2⟩
  have e1 : σ.1.length - n0 = cells := by have := I.2.2.2.2.1; omega
  have e2 : am_tot σ.1 - t0 = slots := by have := I.2.2.2.2.2; omega
  show s.sameButNew _ _ (σ.1.length - n0) (am_tot σ.1 - t0)
  rw [e1, e2]
  exact h4
theorem si_athrow (X : sm_cx p s m args meth c G L xs own cc maxL ret) (hext : sm_ext c hh) (hno : ∀ x ∈ hh, ¬ (x.1 ≤ pc ∧ pc < x.2.1)) (hd : decode cc pc = .ok (.athrow, 1)) (I : sm_inv s G L xs maxL lo n0 t0 ls st σ H locs cells slots J)
    (h : am_pr st (fun X _ => am_hp X fun a => some (.inr a, σ)) = some out) : W p l e R s m args below meth c H locs cells slots (sm_Q below s G L xs n0 t0 out) (F0 m pc J (st.map (sm_v G))) := by
  obtain ⟨hx, hb, hre, hml, hown, hts, hlocks, hKn, hXs, hb1, hb2, hLL, hcst⟩ := X
  obtain ⟨Y, s1, rfl, h1⟩ := iv_pr h
  obtain ⟨a, rfl, h2⟩ := iv_hp h1
  cases h2
  intro T hT X0
  obtain ⟨k1, k2, k3, k4, k5⟩ := X0.athrowLeaves hx (g := F0 m pc J (Value.ref (sm_ad G a) :: s1.map (sm_v G))) rfl rfl rfl (hext.none hno) (a := sm_ad G a) (rest := s1.map (sm_v G)) rfl (by rw [hb]; exact hd) hlocks
  exact ⟨_, k1, sm_left I hT k2 k3 k4 k5⟩
/-- an exception that this method does not catch -/
theorem si_out (X : sm_cx p s m args meth c G L xs own cc maxL ret) (hext : sm_ext c hh) (hno : ∀ x ∈ hh, ¬ (x.1 ≤ pc ∧ pc < x.2.1)) {T : State} (hT : T.heap = H) (X0 : Stand p l e R s m args below meth c T locs cells slots) (I : sm_inv s G L xs maxL lo n0 t0 ls st σ H locs cells slots J) {a : Nat} {stk : List Value} :
    ∃ t, Steps p.tables e below ((T.setTop (F0 m pc J stk)).pushFrame (.throwing (sm_ad G a))) t ∧ sm_Q below s G L xs n0 t0 (.inr a, σ) t := by
  obtain ⟨hx, hb, hre, hml, hown, hts, hlocks, hKn, hXs, hb1, hb2, hLL, hcst⟩ := X
  obtain ⟨k1, k2, k3, k4, k5⟩ := X0.leaveThrown (sm_ad G a) (g := F0 m pc J stk) rfl rfl rfl (hext.none hno) hlocks
  exact ⟨_, k1, sm_left I hT k2 k3 k4 k5⟩
/-- one that it catches -/
theorem si_in (X : sm_cx p s m args meth c G L xs own cc maxL ret) {x : Nat × Nat × Nat × Nat} (hext : sm_ext c [x]) (hc1 : x.1 ≤ pc) (hc2 : pc < x.2.1) (hc0 : x.2.2.2 ≠ 0) (hw : Cond.classLink own x.2.2.2 "java/lang/IllegalStateException" ∈ sm_tbl) {T : State} (hT : T.heap = H) (X0 : Stand p l e R s m args below meth c T locs cells slots) (I : sm_inv s G L xs maxL lo n0 t0 ls st σ H locs cells slots J) {a : Nat} {rs : List am_R} (hq : σ.1[a]? = some (0, am_ise, rs)) {stk : List Value}
    (k : ∀ J', J' = J → W p l e R s m args below meth c H locs cells slots Q (F0 m x.2.2.1 J' [.ref (sm_ad G a)])) : ∃ t, Steps p.tables e below ((T.setTop (F0 m pc J stk)).pushFrame (.throwing (sm_ad G a))) t ∧ Q t := by
  obtain ⟨hx, hb, hre, hml, hown, hts, hlocks, hKn, hXs, hb1, hb2, hLL, hcst⟩ := X
  obtain ⟨y, hy1, rfl⟩ := hext.one
  dsimp only at hc1 hc2 hc0 hw k
  obtain ⟨ha, had, hwq⟩ := sm_cell I.1 hq (Or.inl (by show (0 : Nat) ≠ 1; omega))
  obtain ⟨rc, hrc, cell, g1, g2, g3, -⟩ := I.1.1 _ _ hwq
  cases hrc
  have hKc := (hKn.1 20 _ rfl).2
  have hpl : e.platform.magicAccessors = ({} : Platform).magicAccessors := by rw [X0.admits.platform]
  obtain ⟨cX, hcX, hcl⟩ := Cond.classLink_spec hown (hts _ hw) e.platform hpl
  have hcls : cell.cls = cX := by rw [g2]; exact Option.some.inj (hKc.1.symm.trans hcX)
  obtain ⟨kX, hkX⟩ := Vm.classAt_of_findClass hcX
  obtain ⟨hg₁, hwarm₁, hready₁⟩ := State.classEntry (e := e) X0.warmed hcl
  obtain ⟨o1, o2⟩ := hg₁.op (op := VmOp.resolveClass m.cls y.catchType) rfl
  have hsz : (T.vm.noted m.cls y.catchType (.cls cX)).classes.size ≤ T.vm.classes.size := by rw [Vm.size_noted]; exact Nat.le_refl _
  generalize T.vm.noted m.cls y.catchType (.cls cX) = vm₁ at *
  obtain ⟨k₁, hk₁, he₁⟩ := hwarm₁.alike.2.2 _ _ hkX
  have X₁ := X0.noted hwarm₁
  obtain ⟨t, t1, t2⟩ := k J rfl (T.setVm vm₁) hT X₁
  refine ⟨t, sm_caught (vm₁ := vm₁) (g := F0 m pc J stk) X0.here (pc := y.handlerPc) ?_ t1, t2⟩
  intro Q' E d acts
  rw [W.findHandler_eq (meth := meth) (code := c) X0.method' X0.code, hy1]
  exact sm_go_cold (s := (T.setTop (F0 m pc J stk)).pushFrame (.throwing (sm_ad G a))) (f := F0 m pc J stk) (cX := cX) (cell := cell) (by simp only [covers]; simp; exact ⟨hc1, hc2⟩) hc0 ⟨o1, o2⟩ (by show T.heap[_]? = _; rw [hT, had]; exact g1) (fun k e => by rw [g3] at e; cases e) ⟨k₁, by rw [hcls]; exact hk₁⟩ ⟨k₁, hk₁⟩ (by rw [hcls]; exact va_asg _ _) hsz
end
