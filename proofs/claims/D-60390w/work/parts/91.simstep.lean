/-! SIMULATION, 12: a call, behind its entry -/
theorem sm_wt_cat (G : sm_G) : ∀ st : List am_V, ((st.map (sm_v G)).map fun v => v.category).sum = am_wt st
  | [] => rfl
  | v :: r => by
    have ih := sm_wt_cat G r
    rw [List.map_cons, List.map_cons, List.sum_cons, ih]
    rcases v with x | x | X
    · show 1 + am_wt r = am_wt r + 1; omega
    · show 2 + am_wt r = am_wt r + 2; omega
    · have : (sm_v G (.inr (.inr X))).category = 1 := sm_cat1 (fun x z => by cases z)
      rw [this]; show 1 + am_wt r = am_wt r + 1; omega
section
variable {p : Program} {l : Launch} {e : Env} {R : Room} {s : State} {m : MethodId} {args : Array Value} {below : List Frame} {meth : Method} {c : Code} {Q : State → Prop}
variable {G : sm_G} {L : Nat} {xs : Nat → Int32} {own : String} {cc : ByteArray} {maxL : Nat} {ret : Option FieldType} {lo : Bool} {n0 t0 : Nat}
variable {ls : List (Option am_V)} {st : List am_V} {σ : am_S} {H : Heap} {locs : List Loc} {cells slots pc : Nat} {J : Array Slot}
theorem si_call0 (X : sm_cx p s m args meth c G L xs own cc maxL ret) (I : sm_inv s G L xs maxL lo n0 t0 ls st σ H locs cells slots J) {as rest : List am_V} {y : MethodName} {w : Cond} {bytes : ByteArray} {mL d : Nat} {rty : Option FieldType} {hh : List (Nat × Nat × Nat × Nat)} (hcw : sm_cw y w bytes mL rty hh) (hwi : w ∈ sm_tbl) (hini : Cond.initialized y.cls ∈ sm_tbl)
    (hEn : ∀ T : State, T.heap = H → Stand p l e R s m args below meth c T locs cells slots → sm_En p l e R s m args below meth c T locs cells slots y (F0 m pc J (st.map (sm_v G))) (rest.map (sm_v G)) (as.map (sm_v G)).toArray)
    {ig : Instr} (hd : decode cc pc = .ok (ig, 3)) {x : Option am_V ⊕ Nat} {τ : am_S} (hM : sm_Met l d y w as σ (x, τ)) (hle : am_le σ τ) (has : ∀ v ∈ as, sm_rg v) (hrest : ∀ v ∈ rest, v ∈ st) (hwt : am_wt rest ≤ 8)
    (hsz : s.heap.size + 1 = G.1 + n0) (hR : d + 9 ≤ R.frames ∧ 8 + (mL + 11) + (60 * d + 400) ≤ R.locals) (hcs : cells + (τ.1.length - σ.1.length) ≤ R.cells ∧ slots + (am_tot τ.1 - am_tot σ.1) ≤ R.slots)
    (kr : ∀ v : Option am_V, x = .inl v → ∀ (H1 : Heap) (locs1 : List Loc), sm_inv s G L xs maxL lo n0 t0 ls (v.toList ++ rest) τ H1 locs1 (cells + (τ.1.length - σ.1.length)) (slots + (am_tot τ.1 - am_tot σ.1)) J → W p l e R s m args below meth c H1 locs1 (cells + (τ.1.length - σ.1.length)) (slots + (am_tot τ.1 - am_tot σ.1)) Q (F0 m (pc + 3) J ((v.toList ++ rest).map (sm_v G))))
    (kt : ∀ a : Nat, x = .inr a → ∀ (H1 : Heap) (locs1 : List Loc) (T1 : State), T1.heap = H1 → Stand p l e R s m args below meth c T1 locs1 (cells + (τ.1.length - σ.1.length)) (slots + (am_tot τ.1 - am_tot σ.1)) → sm_inv s G L xs maxL lo n0 t0 ls rest τ H1 locs1 (cells + (τ.1.length - σ.1.length)) (slots + (am_tot τ.1 - am_tot σ.1)) J → ∃ t, Steps p.tables e below ((T1.setTop (F0 m pc J (rest.map (sm_v G)))).pushFrame (.throwing (sm_ad G a))) t ∧ Q t) :
    W p l e R s m args below meth c H locs cells slots Q (F0 m pc J (st.map (sm_v G))) := by
  obtain ⟨hx, hb, hre, hml, hown, hts, hlocks, hKn, hXs, hb1, hb2, hL, hcst⟩ := X
  intro T hT X0
  obtain ⟨vm₁, mk, hW₁, X₁, hnm, hgo⟩ := hEn T hT X0
  have hq0 : ∀ a : Nat, a < s.heap.size → ¬ sm_A G a → H[a]? = s.heap[a]? := I.2.1.2.1
  have hTs : ∀ w ∈ sm_tbl, w.before #[] (T.setVm vm₁) = true := sm_warm (s := s) (U := T.setVm vm₁) hW₁ hts
  have hpre : sm_pre G L xs σ (T.setVm vm₁) := by
    refine ⟨hTs, va_K.moved hW₁.alike hKn, ?_, hb1, ?_, hL, ?_, ?_⟩
    · exact sm_X_next (A := sm_A G) hW₁.alike (by omega) (by unfold sm_A; omega) (fun a h1 h2 => by show T.heap[a]? = _; rw [hT]; exact hq0 a h1 h2) hXs
    · show T.heap.size + 1 = _
      rw [hT]; exact sm_size I hb2 hsz (by rw [← hT]; exact X0.heapSize)
    · exact hcst.next (s := s) (U := T.setVm vm₁) hW₁ (fun a h1 h2 => by show T.heap[a]? = _; rw [hT]; exact hq0 a h1 h2)
    · show sm_ok G L xs σ T.heap
      rw [hT]; exact I.1
  have hbl : ∀ (U : State) (g : JFrame) (mk : MethodId) (a : Array Value), sm_pre G L xs σ U → sm_pre G L xs σ (U.calling g mk a) := by
    intro U g mk a hp
    obtain ⟨z1, z2, z3, z4, z5, z6, z7, z8⟩ := hp
    have z9 : 0 < σ.1.length := (List.getElem?_eq_some_iff.mp z8.2.1.choose_spec).1
    have hWU : U.WarmedH (U.calling g mk a).vm := State.WarmedH.refl U
    exact ⟨sm_warm (s := U) (U := U.calling g mk a) hWU z1, va_K.moved (u := U) (U := U.calling g mk a) (Vm.Alike.refl U.vm) z2,
      sm_X_next (A := fun _ => False) (u := U) (U := U.calling g mk a) (H := U.heap) (H1 := (U.calling g mk a).heap) (Vm.Alike.refl U.vm) (by omega) (fun z => z) (fun _ _ _ => rfl) z3, z4, z5, z6, sm_cst.next (s := U) (U := U.calling g mk a) hWU (fun _ _ _ => rfl) z7, z8⟩
  obtain ⟨methY, cY, hmY, hcY, -, hlY, -⟩ := sm_cw_spec hcw hnm (hTs _ hwi)
  have hsize : J.size = c.maxLocals := by rw [hml]; exact I.2.2.1.1.1
  have hweight : 2 * (F0 m pc J (rest.map (sm_v G))).monitorRoom + ((rest.map (sm_v G)).map fun v => v.category).sum ≤ 8 := lv_room (rest := rest.map (sm_v G)) (by rw [sm_wt_cat]; exact hwt)
  have hpre1 : (headSpec [w] (sm_rm d σ (x, τ))).pre.before (as.map (sm_v G)).toArray (T.setVm vm₁) = true := atoms_intro (fun w' hw' => by
    rw [List.mem_singleton.mp hw']
    exact sm_warm (s := s) (U := T.setVm vm₁) hW₁ hts _ hwi)
  obtain ⟨o, t, B, hq, hBh, hBv, hSt, hret, hthr⟩ := sm_back (hM G L xs) X₁ (g := F0 m pc J (rest.map (sm_v G))) rfl hsize (by rw [hb]; exact hd) hweight hnm hpre1 hmY hcY hlY
    (sm_warm (s := s) (U := T.setVm vm₁) hW₁ hts _ hini) hcs.1 hcs.2 hR.1 hR.2 ⟨rfl, has, hbl _ _ _ _ hpre⟩ (fun o t h => ⟨_, _, _, h.2.2.2.choose_spec.1⟩)
  obtain ⟨hO, hok, hF, Lc, hfe, hLc⟩ := hq
  have X2 := hSt Lc _ _ hfe
  have hS1 : va_S (sm_A G) s.heap B.heap (locs ++ Lc) := by
    obtain ⟨f1, f2⟩ := hF
    have f1 : T.heap.size ≤ t.heap.size := f1
    have f2 : ∀ q : Nat, q < T.heap.size → ¬ sm_A G q → t.heap[q]? = T.heap[q]? := f2
    rw [hT] at f1 f2
    refine ⟨by rw [hBh]; have := I.2.1.1; omega, fun q h1 h2 => ?_, fun q hq => ?_⟩
    · rw [hBh, f2 q (by have := I.2.1.1; omega) h2]; exact hq0 q h1 h2
    · rcases List.mem_append.mp hq with h | h
      · exact I.2.1.2.2 q h
      · exact hLc q h
  have hcl : cells + (τ.1.length - σ.1.length) + n0 = τ.1.length ∧ slots + (am_tot τ.1 - am_tot σ.1) + t0 = am_tot τ.1 := by
    have a1 := I.2.2.2.2.1
    have a2 := I.2.2.2.2.2
    have a3 := hle.1
    have a4 := hle.2
    omega
  rcases x with v | a
  · have hv : o = .returned (v.map (sm_v G)) ∧ ∀ z ∈ v.toList, sm_rg z := by
      cases v with
      | none => exact ⟨hO, fun z hz => by cases hz⟩
      | some v => exact ⟨hO.1, fun z hz => by rw [List.mem_singleton.mp hz]; exact hO.2⟩
    have Inv1 : sm_inv s G L xs maxL lo n0 t0 ls (v.toList ++ rest) τ B.heap (locs ++ Lc) (cells + (τ.1.length - σ.1.length)) (slots + (am_tot τ.1 - am_tot σ.1)) J := by
      refine ⟨by rw [hBh]; exact hok, hS1, I.2.2.1, fun z hz => ?_, hcl.1, hcl.2⟩
      rcases List.mem_append.mp hz with h | h
      · exact hv.2 z h
      · exact I.2.2.2.1 z (hrest z h)
    obtain ⟨t2, h1, h2⟩ := kr v rfl B.heap _ Inv1 B rfl X2
    refine ⟨t2, hgo _ ?_, h2⟩
    refine (hret _ hv.1).trans ?_
    have e1 : (v.toList ++ rest).map (sm_v G) = (v.map (sm_v G)).toList ++ rest.map (sm_v G) := by cases v <;> simp
    rw [e1] at h1
    exact h1
  · have Inv1 : sm_inv s G L xs maxL lo n0 t0 ls rest τ B.heap (locs ++ Lc) (cells + (τ.1.length - σ.1.length)) (slots + (am_tot τ.1 - am_tot σ.1)) J :=
      ⟨by rw [hBh]; exact hok, hS1, I.2.2.1, fun z hz => I.2.2.2.1 z (hrest z hz), hcl.1, hcl.2⟩
    obtain ⟨t2, h1, h2⟩ := kt a rfl B.heap _ B rfl X2 Inv1
    exact ⟨t2, hgo _ ((hthr _ hO).trans h1), h2⟩
end
