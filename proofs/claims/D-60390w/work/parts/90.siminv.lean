/-! SIMULATION, 11: contracts of methods, and how a call is entered -/
theorem sm_X_next {b L : Nat} {xs : Nat → Int32} {A : Nat → Prop} {u U : State} {H H1 : Heap} (hvm : u.vm.Alike U.vm) (hb : b < H.size) (hA : ¬ A b) (hq : ∀ a : Nat, a < H.size → ¬ A a → H1[a]? = H[a]?) (h : va_X b L xs u H) : va_X b L xs U H1 := by
  obtain ⟨scr, h1, h2, h3⟩ := h
  exact ⟨scr, by rw [hq b hb hA]; exact h1, State.isArrayOf_alike hvm h2, h3⟩
/-- the heap's size is known -/
theorem sm_size {s : State} {G : sm_G} {L : Nat} {xs : Nat → Int32} {maxL : Nat} {lo : Bool} {n0 t0 : Nat} {ls : List (Option am_V)} {st : List am_V} {σ : am_S} {H : Heap} {locs : List Loc} {cells slots : Nat} {J : Array Slot}
    (I : sm_inv s G L xs maxL lo n0 t0 ls st σ H locs cells slots J) (hb : G.1 ≤ s.heap.size) (hsz : s.heap.size + 1 = G.1 + n0) (hX : H.size ≤ s.heap.size + cells) : H.size + 1 = G.1 + σ.1.length := by
  have h1 := I.2.1.1
  have h2 := I.2.2.2.2.1
  obtain ⟨rs, h3⟩ := I.1.2.1
  have h4 : 0 < σ.1.length := (List.getElem?_eq_some_iff.mp h3).1
  by_cases h5 : σ.1.length = 1
  · omega
  · obtain ⟨q, hq⟩ : ∃ q, σ.1[σ.1.length - 1]? = some q := ⟨σ.1[σ.1.length - 1], List.getElem?_eq_some_iff.mpr ⟨by omega, rfl⟩⟩
    have h6 := (I.1.1 _ _ (sm_ws_at G (by omega) hq)).lt
    dsimp only at h6
    omega
/-- what a method may count on at its start -/
def sm_pre (G : sm_G) (L : Nat) (xs : Nat → Int32) (σ : am_S) (U : State) : Prop :=
  (∀ w ∈ sm_tbl, w.before #[] U = true) ∧ va_K G.2.2.2.1 sm_cl (sm_tys G) U ∧ va_X G.2.1 L xs U U.heap ∧ G.2.1 < G.1 ∧ U.heap.size + 1 = G.1 + σ.1.length ∧ L < 2147483648 ∧ sm_cst G U U.heap ∧ sm_ok G L xs σ U.heap
def sm_Pc (G : sm_G) (L : Nat) (xs : Nat → Int32) (as : List am_V) (σ : am_S) : Array Value → State → Prop := fun a U => a = (as.map (sm_v G)).toArray ∧ (∀ v ∈ as, sm_rg v) ∧ sm_pre G L xs σ U
def sm_Qy (G : sm_G) (L : Nat) (xs : Nat → Int32) (σ : am_S) (out : am_O) : Array Value → State → Outcome → State → Prop := fun _ s o t =>
  sm_O G out.1 o ∧ sm_ok G L xs out.2 t.heap ∧ va_F (sm_A G) s t ∧ ∃ Lc, sm_fe s t Lc (out.2.1.length - σ.1.length) (am_tot out.2.1 - am_tot σ.1) ∧ ∀ q ∈ Lc, sm_A G q.base
def sm_rm (d : Nat) (σ : am_S) (out : am_O) : Room := { frames := d + 8, cells := out.2.1.length - σ.1.length, slots := am_tot out.2.1 - am_tot σ.1, locals := 60 * d + 400 }
/-- the contract of a method y (its code word w) at call depth d: AM's outcome is the machine's -/
def sm_Met (l : Launch) (d : Nat) (y : MethodName) (w : Cond) (as : List am_V) (σ : am_S) (out : am_O) : Prop :=
  ∀ (G : sm_G) (L : Nat) (xs : Nat → Int32), MetFree l y (headSpec [w] (sm_rm d σ out)) (sm_Pc G L xs as σ) (fun _ _ _ _ _ => True) (sm_Qy G L xs σ out)
/-- the code word of a method -/
def sm_cw (y : MethodName) (w : Cond) (cc : ByteArray) (maxL : Nat) (ret : Option FieldType) (hh : List (Nat × Nat × Nat × Nat)) : Prop := (w = .code y cc maxL ret ∧ hh = []) ∨ w = .codeWith y cc maxL ret hh
theorem sm_cw_spec {y : MethodName} {w : Cond} {cc : ByteArray} {maxL : Nat} {ret : Option FieldType} {hh : List (Nat × Nat × Nat × Nat)} (hw : sm_cw y w cc maxL ret hh) {args : Array Value} {U : State} {mk : MethodId} (hn : U.methodNamed? y = some mk) (h : w.before args U = true) :
    ∃ meth c, U.vm.method? mk = some meth ∧ meth.code = some c ∧ c.code = cc ∧ c.maxLocals = maxL ∧ meth.sig.returnType = ret ∧ meth.locks = false ∧ c.exceptionTable.toList.map (fun h => (h.startPc, h.endPc, h.handlerPc, h.catchType)) = hh ∧ parseMethodDescriptor y.desc = some meth.sig := by
  rcases hw with ⟨rfl, rfl⟩ | rfl
  · obtain ⟨meth, c, h1, h2, h3, h4, h5, h6, h7, h8⟩ := Cond.code_spec hn h
    refine ⟨meth, c, h1, h2, h3, h4, h5, h6, ?_, h8⟩
    have : c.exceptionTable.toList = [] := by
      have := Array.isEmpty_iff.mp h7
      rw [this]
    rw [this]; rfl
  · obtain ⟨m9, meth, c, hn9, h1, h2, h3, h4, h7, h5, h6, h8⟩ := Cond.codeWith_spec h
    cases hn.symm.trans hn9
    exact ⟨meth, c, h1, h2, h3, h4, h5, h6, h7, h8⟩
theorem sm_cw_named {y : MethodName} {w : Cond} {cc : ByteArray} {maxL : Nat} {ret : Option FieldType} {hh : List (Nat × Nat × Nat × Nat)} (hw : sm_cw y w cc maxL ret hh) {args : Array Value} {U : State} (h : w.before args U = true) : ∃ mk, U.methodNamed? y = some mk := by
  rcases hw with ⟨rfl, rfl⟩ | rfl
  · exact Cond.code_named h
  · obtain ⟨m9, _, _, hn9, -⟩ := Cond.codeWith_spec h
    exact ⟨m9, hn9⟩
/-- the words by which an instruction reaches a method: 0 invokestatic, 1 invokevirtual, 2 invokespecial of a constructor -/
def sm_mlk (own : String) (idx : Nat) (y : MethodName) : Prop := Cond.methodLink own idx y ∈ sm_tbl ∨ ∃ host, Cond.methodLinkNest own idx y host ∈ sm_tbl
def sm_way (kind : Nat) (own : String) (idx : Nat) (y : MethodName) : Prop := sm_mlk own idx y ∧ Cond.initialized y.cls ∈ sm_tbl ∧ (y.cls ≠ "java/lang/invoke/MethodHandle" ∧ y.cls ≠ "java/lang/invoke/VarHandle") ∧
  (match kind with
   | 0 => Cond.static y ∈ sm_tbl
   | 1 => Cond.instanceMethod y ∈ sm_tbl ∧ Cond.selects y.cls y y ∈ sm_tbl
   | _ => Cond.instanceMethod y ∈ sm_tbl ∧ y.name = "<init>")
section
variable {p : Program} {l : Launch} {e : Env} {R : Room} {s : State} {m : MethodId} {args : Array Value} {below : List Frame} {meth : Method} {c : Code} {T : State} {locs : List Loc} {cells slots : Nat}
variable {own : String} {idx : Nat} {y : MethodName} {w : Cond} {bytes : ByteArray} {maxL : Nat} {ret : Option FieldType} {hh : List (Nat × Nat × Nat × Nat)} {g : JFrame} {argsL rest : List Value}
/-- what entering a call comes to -/
def sm_En (p : Program) (l : Launch) (e : Env) (R : Room) (s : State) (m : MethodId) (args : Array Value) (below : List Frame) (meth : Method) (c : Code) (T : State) (locs : List Loc) (cells slots : Nat) (y : MethodName) (g : JFrame) (rest : List Value) (a : Array Value) : Prop :=
  ∃ (vm₁ : Vm) (mk : MethodId), s.WarmedH vm₁ ∧ Stand p l e R s m args below meth c (T.setVm vm₁) locs cells slots ∧ (T.setVm vm₁).methodNamed? y = some mk ∧
    ∀ target, Steps p.tables e below (doInvoke e ((T.setVm vm₁).setTop { g with stack := rest }) [] mk a).1 target → Steps p.tables e below (T.setTop g) target
theorem sm_enS (X : Stand p l e R s m args below meth c T locs cells slots) (hexec : p.tables.exec = Jvm.exec) (hown : s.vm.findClass own = some m.cls) (hts : ∀ w ∈ sm_tbl, w.before args s = true) (hw : sm_cw y w bytes maxL ret hh) (hwi : w ∈ sm_tbl) (hy : sm_way 0 own idx y)
    (hg : g.method = m) (hlen : ∀ sig, parseMethodDescriptor y.desc = some sig → argsL.length = sig.parameters.length) (hstack : g.stack = argsL.reverse ++ rest) (hdg : decode c.code g.pc = .ok (.invokestatic idx, 3)) :
    sm_En p l e R s m args below meth c T locs cells slots y g rest argsL.toArray := by
  obtain ⟨hl, hi, hyn, hst⟩ := hy
  obtain ⟨mk, hnamed⟩ := sm_cw_named hw (hts _ hwi)
  obtain ⟨methM, cM, hmethM, -, -, -, -, -, -, hsigM⟩ := sm_cw_spec hw hnamed (hts _ hwi)
  have hstatic : methM.isStatic = true := Cond.static_spec hnamed hmethM (hts _ hst)
  obtain ⟨kP, hkP, -⟩ := className_of_methodNamed hnamed
  have hinitP : kP.init = .initialized := Cond.initialized_spec (findClass_of_methodNamed hnamed) hkP (hts _ hi)
  rcases hl with hl | ⟨host, hl⟩
  · obtain ⟨vm₁, X₁, hstep₁⟩ := X.invokestatic hexec hown (hts _ hl) hnamed hmethM hstatic hkP hinitP hyn (g := g) hg (argsL := argsL) (rest := rest) (hlen _ hsigM) hstack hdg
    exact ⟨vm₁, mk, X₁.warmed, X₁, X₁.named hnamed, fun target h => hstep₁ _ fun acts => by rw [doInvoke_state]; exact h⟩
  · obtain ⟨vm₁, X₁, hstep₁⟩ := X.invokestaticNest hexec hown (hts _ hl) hnamed hmethM hstatic hkP hinitP hyn (g := g) hg (argsL := argsL) (rest := rest) (hlen _ hsigM) hstack hdg
    exact ⟨vm₁, mk, X₁.warmed, X₁, X₁.named hnamed, fun target h => hstep₁ _ fun acts => by rw [doInvoke_state]; exact h⟩
theorem sm_enV (X : Stand p l e R s m args below meth c T locs cells slots) (hexec : p.tables.exec = Jvm.exec) (hown : s.vm.findClass own = some m.cls) (hts : ∀ w ∈ sm_tbl, w.before args s = true) (hw : sm_cw y w bytes maxL ret hh) (hwi : w ∈ sm_tbl) (hy : sm_way 1 own idx y)
    {b : Addr} {cellB : Cell} (hcell : T.heap[b]? = some cellB) (hobj : cellB.vm.isStatics = false) (hcls : s.vm.findClass y.cls = some cellB.cls)
    (hg : g.method = m) (hlen : ∀ sig, parseMethodDescriptor y.desc = some sig → argsL.length = sig.parameters.length) (hstack : g.stack = argsL.reverse ++ .ref b :: rest) (hdg : decode c.code g.pc = .ok (.invokevirtual idx, 3)) :
    sm_En p l e R s m args below meth c T locs cells slots y g rest (Value.ref b :: argsL).toArray := by
  obtain ⟨hl, hi, hyn, hin, hse⟩ := hy
  obtain ⟨mk, methM, hnamed, hmethM, hstM, habM⟩ := Cond.instanceMethod_spec (hts _ hin)
  obtain ⟨methM', cM, hmethM', -, -, -, -, -, -, hsigM⟩ := sm_cw_spec hw hnamed (hts _ hwi)
  cases hmethM.symm.trans hmethM'
  obtain ⟨c2, r2, m2, q1, q2, q3, q4, kP, hkP, hkPi⟩ := Cond.selects_spec (hts _ hse)
  cases hcls.symm.trans q1
  cases (State.methodFound?_of_named hnamed hyn).symm.trans q2
  cases hnamed.symm.trans q3
  have hselP : selectMethod e.platform s.vm cellB.cls mk = .method mk := by rw [Launch.admits_selectMethod X.admits]; exact q4
  rcases hl with hl | ⟨host, hl⟩
  · obtain ⟨vm₁, X₁, hstep₁⟩ := X.invokevirtual hexec hown (hts _ hl) hnamed hmethM hstM hkP hkPi hyn (a := b) (cell := cellB) hcell
      (fun z h => by rw [h] at hobj; cases hobj) hselP hmethM habM hkP hkPi (g := g) hg (argsL := argsL) (rest := rest) (hlen _ hsigM) hstack hdg
    exact ⟨vm₁, mk, X₁.warmed, X₁, X₁.named hnamed, fun target h => hstep₁ _ fun acts => by rw [doInvoke_state]; exact h⟩
  · obtain ⟨vm₁, X₁, hstep₁⟩ := X.invokevirtualNest hexec hown (hts _ hl) hnamed hmethM hstM hkP hkPi hyn (a := b) (cell := cellB) hcell
      (fun z h => by rw [h] at hobj; cases hobj) hselP hmethM habM hkP hkPi (g := g) hg (argsL := argsL) (rest := rest) (hlen _ hsigM) hstack hdg
    exact ⟨vm₁, mk, X₁.warmed, X₁, X₁.named hnamed, fun target h => hstep₁ _ fun acts => by rw [doInvoke_state]; exact h⟩
theorem sm_enI (X : Stand p l e R s m args below meth c T locs cells slots) (hexec : p.tables.exec = Jvm.exec) (hown : s.vm.findClass own = some m.cls) (hts : ∀ w ∈ sm_tbl, w.before args s = true) (hwi : Cond.code y bytes maxL none ∈ sm_tbl) (hy : sm_way 2 own idx y)
    {b : Addr} (hg : g.method = m) (hlen : ∀ sig, parseMethodDescriptor y.desc = some sig → argsL.length = sig.parameters.length) (hstack : g.stack = argsL.reverse ++ .ref b :: rest) (hdg : decode c.code g.pc = .ok (.invokespecial idx, 3)) :
    sm_En p l e R s m args below meth c T locs cells slots y g rest (Value.ref b :: argsL).toArray := by
  obtain ⟨hl, hi, hyn, hin, hy1⟩ := hy
  subst hg
  have hpl : e.platform.magicAccessors = ({} : Platform).magicAccessors := by rw [X.admits.platform]
  rcases hl with hl | ⟨host, hl⟩
  · obtain ⟨mk, methM, cM, kP, vm₁, hnamed, hmethM, hcodeM, -, hlocalsM, -, hkP, -, hW₁, hstep₁⟩ := Steps.initColdArgs (e := e) X.here hexec X.warmed hpl hown hy1 hyn (hts _ hl) (hts _ hin) (hts _ hwi) (f := g) rfl hlen hstack hdg
    have X₁ := X.noted hW₁
    exact ⟨vm₁, mk, hW₁, X₁, X₁.named hnamed, fun target h => hstep₁ _ fun acts => by rw [doInvoke_state]; exact h⟩
  · obtain ⟨mk, methM, cM, kP, vm₁, hnamed, hmethM, hcodeM, -, hlocalsM, -, hkP, -, hW₁, hstep₁⟩ := Steps.initColdArgsNest (e := e) X.here hexec X.warmed hpl hown hy1 hyn (hts _ hl) (hts _ hin) (hts _ hwi) (f := g) rfl hlen hstack hdg
    have X₁ := X.noted hW₁
    exact ⟨vm₁, mk, hW₁, X₁, X₁.named hnamed, fun target h => hstep₁ _ fun acts => by rw [doInvoke_state]; exact h⟩
end
