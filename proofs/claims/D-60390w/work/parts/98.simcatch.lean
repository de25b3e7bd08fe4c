/-! SIMULATION, 19: an exception comes into a handler whose class may not be resolved yet -/
section
variable {tb : Tables} {e : Env} {s target : State} {g : JFrame} {c : Code} {below : List Frame} {a : Addr}
theorem sm_go_cold {E : CtlPost} {d : Bool} {acts : List Action} {f : JFrame} {Q : Handler → Pre} {x : ExceptionTableEntry} {t : List ExceptionTableEntry} {cX : ClassId} {cell : Cell} {vm₁ : Vm} (hx : covers x f.pc = true) (h0 : x.catchType ≠ 0)
    (hg : (VmOp.resolveClass f.method.cls x.catchType).answer e s.vm = .ok cX ∧ (VmOp.resolveClass f.method.cls x.catchType).tables e s.vm = vm₁) (hcell : s.heap[a]? = some cell) (hobj : ∀ k, cell.vm ≠ .statics k)
    (hk : ∃ k, vm₁.classes[cell.cls]? = some k) (hc : ∃ k, vm₁.classes[cX]? = some k) (hfit : vm₁.assignable cell.cls cX = true) (hsz : vm₁.classes.size ≤ s.vm.classes.size) :
    wp (findHandler.go f a (x :: t)) Q E e d acts s ↔ Q (.found x.handlerPc) d acts (s.setVm vm₁) := by
  simp only [covers] at hx
  simp [findHandler.go, hx, h0, hg.1, hg.2, hcell, hobj, hk, hc, hfit, hsz, VmOp.dirties, VmOp.acts]
theorem sm_stepCatch {f : JFrame} {r : List Frame} {pc : Nat} {vm₁ : Vm} (hfind : ∀ (Q : Handler → Pre) (E : CtlPost) (d : Bool) (acts : List Action), wp (findHandler f a) Q E e d acts s ↔ Q (.found pc) d acts (s.setVm vm₁)) :
    (stepThrowing e s a (.java f :: r)).Is ((s.setVm vm₁).setFrames (.java { f with pc := pc, stack := [.ref a] } :: r)) [] := by
  simp only [stepThrowing, searchFrame, vmDo]
  generalize hr : Sem.go _ e false [] s = res
  obtain ⟨as, rfl, ha⟩ := Sem.eq_ok_of hr (a := Handler.found pc) (s' := s.setVm vm₁) (acts' := []) (by simp [hfind _ _ _ _])
  exact ⟨rfl, ha⟩
theorem sm_caught {vm₁ : Vm} (h : At s g.method c below) {pc : Nat} (hfind : ∀ (Q : Handler → Pre) (E : CtlPost) (d : Bool) (acts : List Action), wp (findHandler g a) Q E e d acts ((s.setTop g).pushFrame (.throwing a)) ↔ Q (.found pc) d acts (((s.setTop g).pushFrame (.throwing a)).setVm vm₁))
    (hrest : Steps tb e below ((s.setVm vm₁).setTop { g with pc := pc, stack := [.ref a] }) target) :
    Steps tb e below ((s.setTop g).pushFrame (.throwing a)) target := by
  obtain ⟨hgo, hw⟩ := h.throwing a
  refine Steps.head hgo hw ?_
  rw [stepThread_throwing (frames_entered h.top _), (sm_stepCatch (s := (s.setTop g).pushFrame (.throwing a)) hfind).1]
  obtain ⟨g₀, hg⟩ := Option.isSome_iff_exists.mp h.top
  obtain ⟨r, hr⟩ := State.topJava?_eq_some.mp hg
  have hr' : (s.setVm vm₁).frames = .java g₀ :: r := hr
  rw [State.setTop_of_frames _ hr'] at hrest
  have e1 : (((s.setTop g).pushFrame (.throwing a)).setVm vm₁).setFrames (.java { g with pc := pc, stack := [.ref a] } :: s.frames.tail) = (s.setVm vm₁).setFrames (.java { g with pc := pc, stack := [.ref a] } :: r) := by
    rw [State.pushFrame, State.setTop_of_frames _ hr, hr]
    show ((((s.setFrames _).setFrames _).setFrames _).setVm vm₁) = (s.setFrames _).setVm vm₁
    rw [State.setFrames_setFrames, State.setFrames_setFrames]
    rfl
  rw [e1]
  exact hrest
end
