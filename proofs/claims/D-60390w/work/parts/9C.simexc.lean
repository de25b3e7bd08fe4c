/-! SIMULATION, 23: the exception is made -/
theorem sm_ls1.lays {n d : String} {A : Nat → Prop} {U : State} {a : Array Value} (h : sm_ls1 n d A U U.heap) : (Cond.laysStatic "java/lang/Throwable" n d).before a U = true := by
  obtain ⟨c, k, i, f, ad, cell, h1, h2, h3, h4, h5, h6, h7, h8, h9, h10⟩ := h
  simp [Cond.before, Cond.holds, Cond.value, h1, h2, h3, h4, h5, h6, h7, h8, h9]
theorem sm_zqv {C n d : String} {A : Nat → Prop} {U : State} {H : Heap} (h : va_Zq C n d A U H) : ∃ u : RefV, va_Z C n d u.v A U H := by
  rcases h with h | ⟨t, h⟩
  · exact ⟨⟨.null, rfl⟩, h⟩
  · exact ⟨⟨.ref t, rfl⟩, h⟩
section
variable {p : Program} {l : Launch} {e : Env} {R : Room} {s : State} {m : MethodId} {args : Array Value} {below : List Frame} {meth : Method} {c : Code} {Q : State → Prop}
variable {G : sm_G} {L : Nat} {xs : Nat → Int32} {own : String} {cc : ByteArray} {maxL : Nat} {ret : Option FieldType} {lo : Bool} {n0 t0 : Nat} {out : am_O} {F : am_F} {Γ : am_G}
variable {ls : List (Option am_V)} {st : List am_V} {σ : am_S} {H : Heap} {locs : List Loc} {cells slots pc len : Nat} {J : Array Slot} {r : List am_A} {o : List Nat}
set_option maxHeartbeats 1000000 in
theorem sm_ctor (X : sm_cx p s m args meth c G L xs own cc maxL ret) (htr : e.platform.stackTraces = false) {ic : Nat} (hw : Cond.methodLink own ic (Bundle.initS "java/lang/IllegalStateException") ∈ sm_tbl) (hS : va_S (sm_A G) s.heap H locs) {T' : State} (hT : T'.heap = H) (X0 : Stand p l e R s m args below meth c T' locs cells slots)
    {a : Nat} {cX : ClassId} {kX : Class} (hA : sm_A G a) (hfX : s.vm.findClass "java/lang/IllegalStateException" = some cX) (hkX : s.vm.classes[cX]? = some kX) (hcell : H[a]? = some (freshCell cX kX)) {msg : Value} (hmsg : msg.isRef = true) {rest : List Value} (hd : decode cc pc = .ok (.invokespecial ic, 3)) (hml2 : J.size = c.maxLocals)
    (hR : 8 ≤ R.frames ∧ 400 ≤ R.locals) (hwt : (rest.map fun v => v.category).sum ≤ 12)
    (kk : ∀ (H1 : Heap) (locs1 : List Loc), (∃ cell : Cell, H1[a]? = some cell ∧ cell.cls = cX ∧ cell.vm = .none) → H1.size = H.size → (∀ q, q ≠ a → H1[q]? = H[q]?) → va_S (sm_A G) s.heap H1 locs1 → W p l e R s m args below meth c H1 locs1 cells slots Q (F0 m (pc + 3) J rest)) :
    ∃ t, Steps p.tables e below (T'.setTop (F0 m pc J (msg :: .ref a :: rest))) t ∧ Q t := by
  obtain ⟨hx, hb, hre, hml, hown, hts, hlocks, hKn, hXs, hb1, hb2, hLL, hcst⟩ := X
  have howns : e.platform.frameOwnsMonitors = true := by rw [X0.admits.platform]
  have hfin : e.platform.finalization = false := by rw [X0.admits.platform]
  have hpl : e.platform.magicAccessors = ({} : Platform).magicAccessors := by rw [X0.admits.platform]
  have ha : ∀ x ∈ sm_isew, x.before args s = true := fun x hx => hts x (sm_isew_in x hx)
  have ha2 : ∀ x ∈ sm_isew ++ sm_ise2, x.before args s = true := by
    intro x hx
    rcases List.mem_append.mp hx with h | h
    · exact ha x h
    · simp only [sm_ise2, List.mem_cons, List.not_mem_nil, or_false] at h
      rcases h with rfl | rfl
      · exact hcst.2.2.2.2.2.2.2.2.2.1.lays
      · exact hcst.2.2.2.2.2.2.2.2.2.2.lays
  have ha3 : ∀ x ∈ sm_isew ++ sm_ise3, x.before args s = true := by
    intro x hx
    rcases List.mem_append.mp hx with h | h
    · exact ha x h
    · simp only [sm_ise3, List.mem_cons, List.not_mem_nil, or_false] at h
      rcases h with rfl | rfl | rfl
      · exact sm_declares (ha (.instanceMethod (Bundle.initS "java/lang/RuntimeException")) (by simp [sm_isew])) (ha (.code (Bundle.initS "java/lang/RuntimeException") Bundle.six 2 none) (by simp [sm_isew]))
      · exact sm_declares (ha (.instanceMethod (Bundle.initS "java/lang/Exception")) (by simp [sm_isew])) (ha (.code (Bundle.initS "java/lang/Exception") Bundle.six 2 none) (by simp [sm_isew]))
      · exact sm_declares (ha (.instanceMethod (Bundle.initS "java/lang/Throwable")) (by simp [sm_isew])) (ha (.code (Bundle.initS "java/lang/Throwable") LibCode.Throwable.InitS.code 2 none) (by simp [sm_isew]))
  have a' : ∀ x, x ∈ sm_isew → x.holds args s none s [] = true := fun x hx => ha x hx
  obtain ⟨T, Z0, L0, -, Y⟩ := ThrowableC.of_atoms (args := args) howns hfin hpl (fun x hx => ha2 x (sm_isew_t x hx))
  obtain ⟨Z, M, LZ, LM, hnZ⟩ := Init0T.ofS_atoms (args := args) hpl L0 Y (fun x hx => ha x (sm_isew_s x hx))
  obtain ⟨P1, Ps, hlen, L1, hL, hP1m, hlink1, hlink⟩ := Bundle.chainS (args := args) hpl hnZ ["java/lang/RuntimeException", "java/lang/Exception"] "java/lang/IllegalStateException" (by decide +kernel) (by decide +kernel) (fun x hx => ha3 x (sm_isew_c x hx))
  have hfound : s.vm.findClass "java/lang/IllegalStateException" = some P1.m.cls := findClass_of_methodNamed hP1m
  cases Option.some.inj (hfX.symm.trans hfound)
  obtain ⟨c1, kX', hc1, hk, hord, -, -, hn6⟩ := Cond.instantiable_spec (a' (.instantiable "java/lang/IllegalStateException" 6) (by simp [sm_isew]))
  cases Option.some.inj (hc1.symm.trans hfound)
  cases Option.some.inj (hkX.symm.trans hk)
  have hsel0 : selectMethod e.platform s.vm P1.m.cls T.fill0 = .method T.fill0 := by
    obtain ⟨c2, r2, m2, q1, q2, q3, q4, -⟩ := Cond.selects_spec (a' (.selects "java/lang/IllegalStateException" Bundle.tFill0 Bundle.tFill0) (by simp [sm_isew]))
    cases Option.some.inj (q1.symm.trans hfound)
    cases Option.some.inj (q2.symm.trans (State.methodFound?_of_named Y.fill0 (by decide)))
    cases Option.some.inj (q3.symm.trans Y.fill0)
    rw [Launch.admits_selectMethod X0.admits]; exact q4
  have hselF : selectMethod e.platform s.vm P1.m.cls T.fill = .method T.fill := by
    obtain ⟨c2, r2, m2, q1, q2, q3, q4, -⟩ := Cond.selects_spec (a' (.selects "java/lang/IllegalStateException" Bundle.tFill Bundle.tFill) (by simp [sm_isew]))
    cases Option.some.inj (q1.symm.trans hfound)
    cases Option.some.inj (q2.symm.trans (State.methodFound?_of_named Y.fill (by decide)))
    cases Option.some.inj (q3.symm.trans Y.fill)
    rw [Launch.admits_selectMethod X0.admits]; exact q4
  obtain ⟨u0, cfU, kfU, fiU, fU, aU, cellU, u1, u2, u3, u4, u5, u6, u7, u8⟩ := sm_zqv hcst.2.2.2.2.2.1
  obtain ⟨sen, cfV, kfV, fiV, fV, aV, cellV, v1, v2, v3, v4, v5, v6, v7, v8⟩ := sm_zqv hcst.2.2.2.2.2.2.1
  cases Option.some.inj (u1.symm.trans Y.unassigned)
  cases Option.some.inj (v1.symm.trans Y.sentinel)
  cases Option.some.inj (u4.symm.trans L0.statics)
  cases Option.some.inj (v4.symm.trans L0.statics)
  cases Option.some.inj (u5.symm.trans v5)
  have hcellS : T'.heap[T.aS]? = some cellU := by rw [hT, hS.2.1 _ (Array.getElem?_eq_some_iff.mp u5).1 u8]; exact u5
  have hneS : T.aS ≠ a := fun z => u8 (z ▸ hA)
  obtain ⟨ci198, i198, fB, hk198, hg198, ha198, hsB, -, hnB, htB, hffB⟩ := Cond.ownField (t := .object "java/lang/Object") Y.found L0.cls (by decide +kernel) (a' (.fieldLink Bundle.tN 198 Bundle.tN "backtrace" "Ljava/lang/Object;") (by simp [sm_isew, Bundle.tN])) (a' (.lays Bundle.tN Bundle.tN "backtrace" "Ljava/lang/Object;") (by simp [sm_isew, Bundle.tN])) e.platform hpl
  obtain ⟨iM, hffM⟩ := Y.msg
  obtain ⟨tyC, dC, hdC, hdnC⟩ := Cond.laysAt hfound hk Y.cause (a' (.lays "java/lang/IllegalStateException" Bundle.tN "cause" "Ljava/lang/Throwable;") (by simp [sm_isew, Bundle.tN]))
  obtain ⟨tyS, dS, hdS, hdnS⟩ := Cond.laysAt hfound hk Y.stack (a' (.lays "java/lang/IllegalStateException" Bundle.tN "stackTrace" Bundle.steD) (by simp [sm_isew, Bundle.tN, Bundle.steD]))
  obtain ⟨tyP, dP, hdP, hdnP⟩ := Cond.laysAt hfound hk Y.supp (a' (.lays "java/lang/IllegalStateException" Bundle.tN "suppressedExceptions" Bundle.listD) (by simp [sm_isew, Bundle.tN, Bundle.listD]))
  obtain ⟨tyM, dM, hdM, hdnM⟩ := Cond.laysAt hfound hk hffM (a' (.lays "java/lang/IllegalStateException" Bundle.tN "detailMessage" "Ljava/lang/String;") (by simp [sm_isew, Bundle.tN]))
  obtain ⟨tyB, dB, hdB, hdnB⟩ := Cond.laysAt hfound hk hffB (a' (.lays "java/lang/IllegalStateException" Bundle.tN "backtrace" "Ljava/lang/Object;") (by simp [sm_isew, Bundle.tN]))
  have bC := Cond.laysApart hdB hdC hdnB hdnC (by rw [hnB, Y.causeName]; decide)
  have bS := Cond.laysApart hdB hdS hdnB hdnS (by rw [hnB, Y.stackName]; decide)
  have bP := Cond.laysApart hdB hdP hdnB hdnP (by rw [hnB, Y.suppName]; decide)
  have hskip : SkipFacts T e.platform s (fun u => u) u0 ((preparedCellV T.toThrowableT (freshCell P1.m.cls kX) a u0 sen).withEntry T'.cur) :=
    ⟨{ ci198 := ci198, i198 := i198, fBack := fB }, ⟨hk198, hg198, ha198, hsB⟩, by
      have := fresh_default (c := P1.m.cls) tyB
      rw [htB] at this
      simpa [preparedCellV, Cell.setSlot, Cell.withEntry, Array.getElem?_setIfInBounds, bC, bS, bP, bC.symm, bS.symm, bP.symm, defaultValue] using this, fun _ _ => rfl⟩
  obtain ⟨tm, methC, cdC, kC, vm₁, hnC, -, -, -, -, -, -, -, hW₁, st1⟩ := Steps.initColdS (tb := p.tables) (e := e) (below := below) (s := s) (U := T') X0.here hx X0.warmed hpl hown (t := Bundle.initS "java/lang/IllegalStateException") rfl rfl (by decide)
    (hts _ hw) (ha (.instanceMethod (Bundle.initS "java/lang/IllegalStateException")) (by simp [sm_isew])) (bytes := Bundle.six) (maxL := 2) (ha (.code (Bundle.initS "java/lang/IllegalStateException") Bundle.six 2 none) (by simp [sm_isew]))
    (f := F0 m pc J (msg :: .ref a :: rest)) rfl (a := a) (msg := msg) (rest := rest) rfl (by rw [hb]; exact hd)
  cases Option.some.inj (hnC.symm.trans hP1m)
  have X₁ := X0.noted hW₁
  obtain ⟨vm₂, X₂, st2⟩ := X₁.ctorMessageOffV hx (g := F0 m pc J rest) rfl hml2 T L0 Z LZ M LM (P1 :: Ps)
    (fun P hP => by rcases List.mem_cons.mp hP with rfl | hP; exact L1; exact hL P hP) ⟨hlink1, hlink⟩ (u0 := u0) (sen := sen) (self := a) hmsg (cell := freshCell P1.m.cls kX) (cellS := cellU)
    (by show T'.heap[a]? = _; rw [hT]; exact hcell) (fun _ => by simp) (by simp) rfl rfl hsel0 hselF hcellS hneS (fun z => by rw [z] at u6; cases u6) u7 v7
    (Takes.of_laid hk hord tyC (by rw [Y.causeType]; rfl)) (Takes.of_laid hk hord tyS (by rw [Y.stackType]; exact fits_refV_array _ u0)) (Takes.of_laid hk hord tyP (by rw [Y.suppType]; exact fits_refV_object _ sen))
    (Takes.of_laid hk hord tyM (by rw [Y.msgType]; exact fits_refV_object _ ⟨msg, hmsg⟩)) Y.objLocals hskip htr [] (by rw [hb]; exact hd)
    (by simp only [List.length_cons, hlen]; simp; omega) (by simp only [List.length_cons, hlen]; show 2 * 0 + (rest.map fun v => v.category).sum + _ ≤ _; simp; omega)
  have hlt : a < ((T'.setVm vm₁).setVm vm₂).heap.size := by
    show a < T'.heap.size
    rw [hT]; exact (Array.getElem?_eq_some_iff.mp hcell).1
  obtain ⟨t, t1, t2⟩ := kk _ _ ⟨_, heapAt_setCell_self (s := (T'.setVm vm₁).setVm vm₂) (plainBareV T.toThrowableT (freshCell P1.m.cls kX) a u0 sen msg) hlt, rfl, rfl⟩ (by rw [size_setCell]; show T'.heap.size = _; rw [hT]) (fun q hq => by rw [heapAt_setCell_ne _ (Ne.symm hq)]; show T'.heap[q]? = _; rw [hT])
    ⟨by rw [size_setCell]; show _ ≤ T'.heap.size; rw [hT]; exact hS.1, fun q h1 h2 => by rw [heapAt_setCell_ne _ (show a ≠ q from fun z => h2 (by rw [← z]; exact hA))]; show T'.heap[q]? = _; rw [hT]; exact hS.2.1 q h1 h2, fun y hy => by
      rcases List.mem_append.mp hy with h1 | h1
      · exact hS.2.2 y h1
      · have hb : y.base = a := by
          simp only [List.mem_cons, List.not_mem_nil, or_false] at h1
          rcases h1 with rfl | rfl | rfl | rfl | rfl <;> rfl
        rw [hb]; exact hA⟩ _ rfl X₂
  refine ⟨t, st1 _ (fun acts => ?_), t2⟩
  rw [doInvoke_state]
  exact st2 _ t1
theorem si_ise (X : sm_cx p s m args meth c G L xs own cc maxL ret) (htr : e.platform.stackTraces = false) (hsz : s.heap.size + 1 = G.1 + n0) (hrm : sm_room R n0 t0 out) (hF : ∀ p ls st τ o, F p ls st τ = some o → am_le τ o.2) {idx k ic j : Nat} {tx : String} (hw1 : Cond.classLink own idx "java/lang/IllegalStateException" ∈ sm_tbl) (hw2 : Cond.methodLink own ic (Bundle.initS "java/lang/IllegalStateException") ∈ sm_tbl) (hj : sm_sk[j]? = some (own, k, tx))
    (hd0 : decode cc pc = .ok (.new idx, 3)) (hd1 : decode cc (pc + 3) = .ok (.dup, 1)) (hd2 : decode cc (pc + 4) = .ok (.ldc k, 2)) (hd3 : decode cc (pc + 6) = .ok (.invokespecial ic, 3)) (hR : 8 ≤ R.frames ∧ 400 ≤ R.locals) (hwt : am_wt (am_r (am_a σ.1.length) :: st) ≤ 8)
    (hk : sm_K p l e R s m args below meth c Q G L xs maxL lo n0 t0 out F (.inr r) (pc + 9)) (I : sm_inv s G L xs maxL lo n0 t0 ls st σ H locs cells slots J)
    (h : F (.inr r) ls (am_r (am_a σ.1.length) :: st) (σ.1 ++ [(0, am_ise, [])], am_zr σ.2 σ.1.length) = some out) : W p l e R s m args below meth c H locs cells slots Q (F0 m pc J (st.map (sm_v G))) := by
  have X9 := X
  obtain ⟨hx, hb, hre, hml, hown, hts, hlocks, hKn, hXs, hb1, hb2, hLL, hcst⟩ := X
  have hle := hF _ _ _ _ _ h
  have hroom := hrm.use hle (I.count (0, am_ise, [])).1 (I.count (0, am_ise, [])).2
  have e1 : am_siz (0, am_ise, []) = 6 := rfl
  rw [e1] at hroom
  have hKc := hKn.1 20 _ rfl
  intro T hT X0
  have hsize := sm_size I hb2 hsz (by rw [← hT]; exact X0.heapSize)
  have hpos := I.1.pos
  have hwI : ∀ w ∈ sm_isew, w.before args s = true := fun w hw => hts w (sm_isew_in w hw)
  refine W.newcK (g := F0 m pc J (st.map (sm_v G))) (n := 6) hx hb hown (hts _ hw1) (hwI (.instantiable "java/lang/IllegalStateException" 6) (by simp [sm_isew])) (hwI (.initialized "java/lang/IllegalStateException") (by simp [sm_isew])) rfl hd0 hroom.1 hroom.2 hKc.2.1 rfl (fun H' kC c1 c2 c3 c4 => ?_) T hT X0
  refine lv_dup hx hb hd1 rfl ?_
  refine va_ldcS hx hb hown (hcst.1 j _ hj) hd2 ?_
  have hS' : va_S (sm_A G) s.heap H' locs := ⟨Nat.le_trans I.2.1.1 (by omega), fun q h1 h2 => (c4 q (Nat.lt_of_lt_of_le h1 I.2.1.1)).trans (I.2.1.2.1 q h1 h2), I.2.1.2.2⟩
  intro T2 hT2 X2
  refine sm_ctor (pc := pc + 6) (rest := Value.ref H.size :: st.map (sm_v G)) X9 htr hw2 hS' hT2 X2 (a := H.size) (by unfold sm_A; omega) hKc.2.1 c1 c2 (msg := .ref (G.2.2.1 j)) rfl hd3 (sm_J I hml).symm hR ?_ (fun H1 locs1 q1 q2 q3 q4 => ?_)
  · rw [sm_new_ref hsize hpos, ← List.map_cons, sm_wt_cat]; omega
  · obtain ⟨cell, k1, k2, k3⟩ := q1
    have Inv := I.grow1 hsize (q := (0, am_ise, [])) (H' := H1) ⟨fun _ => ⟨rfl, by show (20 : Nat) < 21; omega⟩, fun z => absurd rfl z, fun z => absurd z (by show ¬ 10 ≤ 0; omega)⟩ (by omega) (fun a ha => (q3 a (by omega)).trans (c4 a ha)) ⟨_, rfl, cell, k1, k2, k3, fun k hk => absurd hk (Nat.not_lt_zero k)⟩ (st' := st) (fun v hv => hv)
    rw [e1] at Inv
    rw [sm_new_ref hsize hpos]
    exact hk _ _ _ _ _ _ _ _ ⟨Inv.1, q4, Inv.2.2⟩ h
end
