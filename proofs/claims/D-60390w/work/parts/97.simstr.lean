/-! SIMULATION, 18: calls of a method of the library that changes nothing: String.length, String.charAt -/
section
variable {p : Program} {l : Launch} {e : Env} {R : Room} {s : State} {m : MethodId} {args : Array Value} {below : List Frame} {meth : Method} {c : Code} {Q : State → Prop}
variable {G : sm_G} {L : Nat} {xs : Nat → Int32} {own : String} {cc : ByteArray} {maxL : Nat} {ret : Option FieldType} {lo : Bool} {n0 t0 : Nat} {out : am_O} {F : am_F} {Γ : am_G}
variable {ls : List (Option am_V)} {st : List am_V} {σ : am_S} {H : Heap} {locs : List Loc} {cells slots pc len : Nat} {J : Array Slot} {r : List am_A} {o : List Nat}
theorem si_pure (X : sm_cx p s m args meth c G L xs own cc maxL ret) (I : sm_inv s G L xs maxL lo n0 t0 ls st σ H locs cells slots J) {rest : List am_V} {v : am_V} {y : MethodName} {S : Spec} {P : Array Value → State → Prop} {Qy : Array Value → State → Outcome → State → Prop} (hM : MetFree l y S P (fun _ _ _ _ _ => True) Qy)
    {w : Cond} {bytes : ByteArray} {mL : Nat} {rty : Option FieldType} {hh : List (Nat × Nat × Nat × Nat)} (hcw : sm_cw y w bytes mL rty hh) (hwi : w ∈ sm_tbl) (hini : Cond.initialized y.cls ∈ sm_tbl) {a : Array Value}
    (hEn : ∀ T : State, T.heap = H → Stand p l e R s m args below meth c T locs cells slots → sm_En p l e R s m args below meth c T locs cells slots y (F0 m pc J (st.map (sm_v G))) (rest.map (sm_v G)) a)
    {ig : Instr} (hd : decode cc pc = .ok (ig, 3)) (hpre : ∀ U : State, s.WarmedH U.vm → U.heap = H → S.pre.before a U = true) (hP : ∀ U : State, s.WarmedH U.vm → U.heap = H → P a U)
    (hQ : ∀ first o t, Qy a first o t → PureEnd first o t ∧ o = .returned (some (sm_v G v))) (hv : sm_rg v) (hwt : am_wt rest ≤ 8) (hrest : ∀ v ∈ rest, v ∈ st) (hrm : cells ≤ R.cells ∧ slots ≤ R.slots) (hS0 : S.room.cells = 0 ∧ S.room.slots = 0)
    (hR : S.room.frames + 1 ≤ R.frames ∧ 8 + (mL + 11) + S.room.locals ≤ R.locals) (hk : sm_K p l e R s m args below meth c Q G L xs maxL lo n0 t0 out F (.inr r) (pc + 3)) (h : F (.inr r) ls (v :: rest) σ = some out) :
    W p l e R s m args below meth c H locs cells slots Q (F0 m pc J (st.map (sm_v G))) := by
  obtain ⟨hx, hb, hre, hml, hown, hts, hlocks, hKn, hXs, hb1, hb2, hL, hcst⟩ := X
  intro T hT X0
  obtain ⟨vm₁, mk, hW₁, X₁, hnm, hgo⟩ := hEn T hT X0
  have hTs : ∀ w ∈ sm_tbl, w.before #[] (T.setVm vm₁) = true := sm_warm (s := s) (U := T.setVm vm₁) hW₁ hts
  obtain ⟨methY, cY, hmY, hcY, -, hlY, -⟩ := sm_cw_spec hcw hnm (hTs _ hwi)
  have hsize : J.size = c.maxLocals := by rw [hml]; exact I.2.2.1.1.1
  have hweight : 2 * (F0 m pc J (rest.map (sm_v G))).monitorRoom + ((rest.map (sm_v G)).map fun v => v.category).sum ≤ 8 := lv_room (rest := rest.map (sm_v G)) (by rw [sm_wt_cat]; exact hwt)
  obtain ⟨o, t, B, hq, hBh, hBv, hSt, hret, -⟩ := sm_back hM X₁ (g := F0 m pc J (rest.map (sm_v G))) rfl hsize (by rw [hb]; exact hd) hweight hnm (hpre _ hW₁ hT) hmY hcY hlY
    (sm_warm (s := s) (U := T.setVm vm₁) hW₁ hts _ hini) (by rw [hS0.1]; exact hrm.1) (by rw [hS0.2]; exact hrm.2) hR.1 hR.2 (hP _ hW₁ hT) (fun o t h => ⟨_, 0, 0, (hQ _ _ _ h).1.2.1, (hQ _ _ _ h).1.2.2.sameButNew 0 0⟩)
  obtain ⟨⟨-, hw2, hsb⟩, ho⟩ := hQ _ _ _ hq
  have X2 := hSt [] 0 0 ⟨hw2, hsb.sameButNew 0 0⟩
  have hheap : B.heap = H := by
    rw [hBh]
    have e1 := congrArg (fun z : State => z.heap) (State.sameBut_nil.mp hsb)
    exact e1.trans hT
  rw [List.append_nil] at X2
  obtain ⟨t2, h1, h2⟩ := hk _ _ _ _ _ _ _ _ (I.p1 (st' := rest) (v := v) hrest hv) h B hheap X2
  exact ⟨t2, hgo _ ((hret _ ho).trans h1), h2⟩
/-- words of String and what it calls -/
def sm_strw : List Cond := [.initialized "java/lang/String", .initialized "java/lang/StringLatin1", .initialized "jdk/internal/util/Preconditions", .instanceMethod Lib.Str.length.name, .selects "java/lang/String" Lib.Str.length.name Lib.Str.length.name, .code Lib.Str.length.name Lib.String.length.code 1 (some .int),
  .methodLink "java/lang/String" 335 Lib.String.coder.name, .instanceMethod Lib.String.coder.name, .selects "java/lang/String" Lib.String.coder.name Lib.String.coder.name, .code Lib.String.coder.name Lib.String.coder.code 1 (some .byte), .fieldLink "java/lang/String" 38 "java/lang/String" "COMPACT_STRINGS" "Z",
  .instanceMethod Lib.Str.charAt.name, .selects "java/lang/String" Lib.Str.charAt.name Lib.Str.charAt.name, .code Lib.Str.charAt.name Lib.Str.charAt.code 2 (some .char), .methodLink "java/lang/String" 492 Lib.Str.isLatin1.name, .instanceMethod Lib.Str.isLatin1.name, .selects "java/lang/String" Lib.Str.isLatin1.name Lib.Str.isLatin1.name, .code Lib.Str.isLatin1.name Lib.String.isLatin1.code 1 (some .boolean),
  .methodLink "java/lang/String" 495 Lib.SL1.charAt.name, .static Lib.SL1.charAt.name, .code Lib.SL1.charAt.name Lib.SL1.charAt.code 2 (some .char), .methodLink "java/lang/StringLatin1" 9 Lib.Str.checkIndex.name, .static Lib.Str.checkIndex.name, .code Lib.Str.checkIndex.name Lib.Str.checkIndex.code 2 none,
  .fieldLink "java/lang/String" 1053 "jdk/internal/util/Preconditions" "SIOOBE_FORMATTER" "Ljava/util/function/BiFunction;", .methodLink "java/lang/String" 1059 Lib.Preconditions.checkIndex.name, .static Lib.Preconditions.checkIndex.name, .code Lib.Preconditions.checkIndex.name Lib.Preconditions.checkIndex.code 3 (some .int),
  .fieldLink "java/lang/String" 9 "java/lang/String" "value" "[B", .fieldLink "java/lang/String" 15 "java/lang/String" "coder" "B"]
theorem sm_strw_in : ∀ w ∈ sm_strw, w ∈ sm_tbl := sm_in_tbl [16, 0, 0, 666, 0, 0, 0, 0, 0, 0, 0, 2, 0, 0, 0, 0, 0, 0, 0, 0, 0, 0, 0, 0, 0, 1, 0, 0, 2787, 0] (by decide +kernel) (by decide +kernel)
/-- what holds of a constant String in any state of the walk -/
theorem sm_str (X : sm_cx p s m args meth c G L xs own cc maxL ret) (hS : va_S (sm_A G) s.heap H locs) {U : State} (hW : s.WarmedH U.vm) (hU : U.heap = H) : sm_cst G U U.heap ∧ ∀ a, ∀ w ∈ sm_strw, w.before a U = true := by
  obtain ⟨hx, hb, hre, hml, hown, hts, hlocks, hKn, hXs, hb1, hb2, hL, hcst⟩ := X
  refine ⟨hcst.next hW (fun a h1 h2 => by rw [hU]; exact hS.2.1 a h1 h2), fun a w hw => ?_⟩
  exact sm_warm (a' := a) hW hts w (sm_strw_in w hw)
theorem sm_declares {U : State} {a : Array Value} {y : MethodName} {bytes : ByteArray} {mL : Nat} {rt : Option FieldType} (h1 : (Cond.instanceMethod y).before a U = true) (h2 : (Cond.code y bytes mL rt).before a U = true) : (Cond.declares y).before a U = true := by
  obtain ⟨mk, methM, hnamed, hmethM, hstM, habM⟩ := Cond.instanceMethod_spec h1
  obtain ⟨meth', c', g1, g2, g3, g4, g5, g6, g7, g8⟩ := Cond.code_spec hnamed h2
  cases hmethM.symm.trans g1
  simp [Cond.before, Cond.holds, Cond.value, hnamed, hmethM, hstM, g8]
theorem sm_exactly {U : State} {a : Array Value} {t : Nat} {A : Nat → Prop} (h : sm_ex t A U U.heap) (ha : a[0]? = some (.ref t)) : (Cond.exactly (.arg 0) "java/lang/String").before a U = true := by
  obtain ⟨cell, k, h1, h2, h3, h4, h5, h6⟩ := h
  have e0 : (Term.arg 0).eval a U none [] U = some (.ref t) := ha
  simp only [Cond.before, Cond.holds, Cond.value, e0, h3, h1, h4, h2]
  simp only [Option.bind_eq_bind, Option.bind_some, beq_self_eq_true, Bool.not_false, Bool.true_and, Option.pure_def, beq_iff_eq, Option.some.injEq]
  rw [h2]
  cases hkd : k.kind <;> simp only [hkd] at h5 ⊢ <;> first | rfl | simpa using h5
theorem sm_static {U : State} {C n d : String} {v : Value} {A : Nat → Prop} (h : va_Z C n d v A U U.heap) : Lib.Cold.StaticIs U C n d v := by
  obtain ⟨cf, kf, fi, f, a, cell, h1, h2, h3, h4, h5, h6, h7, h8⟩ := h
  exact ⟨cf, fi, kf, f, a, cell, h1, h2, h3, h4, h5, (fun e => by rw [e] at h6; cases h6), h7⟩
theorem sm_sig {U : State} {a : Array Value} {y : MethodName} {bytes : ByteArray} {mL : Nat} {rt : Option FieldType} (h2 : (Cond.code y bytes mL rt).before a U = true) : Lib.Cold.Sig U y := by
  obtain ⟨mk, hnamed⟩ := Cond.code_named h2
  obtain ⟨meth', c', g1, g2, g3, g4, g5, g6, g7, g8⟩ := Cond.code_spec hnamed h2
  exact ⟨mk, meth', hnamed, g1, g8⟩
theorem sm_sfield {U : State} {a : Array Value} {t : Nat} {A : Nat → Prop} {n d : String} {v : Value} (hO : va_O "java/lang/String" t A U U.heap) (hF : va_OF "java/lang/String" n d v t A U U.heap) (h : sm_sf1 U n d) (ha : a[0]? = some (.ref t)) : (Term.field (.arg 0) "java/lang/String" n d).eval a U none [] U = some v := by
  obtain ⟨cell, h1, h2, h3, h4⟩ := hO
  obtain ⟨cf, k, i, f, cell', g1, g2, g3, g4, g5, g6⟩ := hF
  obtain ⟨sC, c', k', i', f', q1, q2, q3⟩ := h
  cases h1.symm.trans g3
  cases h3.symm.trans q1
  cases g1.symm.trans q2
  exact Term.field_eval (t := .arg 0) g1 ha g2 g3 g4 h2 q3 g5
theorem sm_par (d : String) (n : Nat) (h : (parseMethodDescriptor d).map (fun g => g.parameters.length) = some n) : ∀ sig, parseMethodDescriptor d = some sig → n = sig.parameters.length := by
  intro sig e
  rw [e] at h
  exact (Option.some.inj h).symm
theorem sm_sl_i (j : Nat) : (∀ i : Fin 168, am_sl i < 2147483648) → j < am_ns → am_sl j < 2147483648 := fun h hj => h ⟨j, hj⟩
theorem sm_sl_lt {j : Nat} (hj : j < am_ns) : am_sl j < 2147483648 := sm_sl_i j (by decide +kernel) hj
theorem sm_sc_b (j k : Nat) : 0 ≤ am_sc j k ∧ am_sc j k ≤ 127 := sm_all_i (b := 127) (C := am_str) (by decide +kernel) (by omega) j k
theorem sm_chr_b {x : Int} (h : 0 ≤ x ∧ x ≤ 127) : (Int32.ofInt x &&& 255).toUInt32.toUInt16.toUInt32.toInt32 = Int32.ofInt x := by
  have hh : ∀ n : Fin 128, (Int32.ofInt (n : Nat) &&& 255).toUInt32.toUInt16.toUInt32.toInt32 = Int32.ofInt (n : Nat) := by decide +kernel
  have := hh ⟨x.toNat, by omega⟩
  rw [show (((⟨x.toNat, by omega⟩ : Fin 128) : Nat) : Int) = x by show (x.toNat : Int) = x; omega] at this
  exact this
theorem si_slen (X : sm_cx p s m args meth c G L xs own cc maxL ret) {idx : Nat} (hw : Cond.methodLink own idx Lib.Str.length.name ∈ sm_tbl) (hR : 8 ≤ R.frames ∧ 400 ≤ R.locals) (hrm : cells ≤ R.cells ∧ slots ≤ R.slots) (hd : decode cc pc = .ok (.invokevirtual idx, 3)) (hk : sm_K p l e R s m args below meth c Q G L xs maxL lo n0 t0 out F (.inr r) (pc + 3)) (I : sm_inv s G L xs maxL lo n0 t0 ls st σ H locs cells slots J)
    (hwt : am_wt (st.drop 1) ≤ 8) (h : am_pr st (fun X st => am_ct X fun j => cond (Nat.blt j am_ns) (F (.inr r) ls (am_i (am_sl j) :: st) σ) none) = some out) : W p l e R s m args below meth c H locs cells slots Q (F0 m pc J (st.map (sm_v G))) := by
  have X0 := X
  obtain ⟨hx, hb, hre, hml, hown, hts, hlocks, hKn, hXs, hb1, hb2, hLL, hcst⟩ := X
  obtain ⟨Y, s1, rfl, h1⟩ := iv_pr h
  obtain ⟨j, rfl, h2⟩ := iv_ct h1
  obtain ⟨h7, h3⟩ := iv_cd1 h2
  simp only [Nat.blt_eq] at h7
  have hsi : ∀ w ∈ sm_strw, w ∈ sm_tbl := sm_strw_in
  obtain ⟨arr, a1, a2, a3, a4, a5, a6, a7⟩ := (hcst.2.1 j h7).2.2.2.1
  obtain ⟨cellB, b1, b2, b3, b4⟩ := (hcst.2.1 j h7).1
  have hB : H[G.2.2.1 j]? = some cellB := by rw [I.2.1.2.1 _ (Array.getElem?_eq_some_iff.mp b1).1 b4]; exact b1
  have hA : H[G.2.2.1 (1000 + j)]? = some arr := by rw [I.2.1.2.1 _ (Array.getElem?_eq_some_iff.mp a1).1 a7]; exact a1
  refine si_pure X0 I (rest := s1) (v := am_i (am_sl j)) (Lib.Cold.length.met l (G.2.2.1 j) (G.2.2.1 (1000 + j)) 1 arr) (w := .code Lib.Str.length.name Lib.String.length.code 1 (some .int)) (hh := []) (Or.inl ⟨rfl, rfl⟩) (hsi _ (by simp [sm_strw])) (hsi _ (by simp [sm_strw, Lib.Str.length.name, Lib.str])) (a := #[.ref (G.2.2.1 j)])
    (fun T hT XT => sm_enV (argsL := []) XT hx hown hts (w := .code Lib.Str.length.name Lib.String.length.code 1 (some .int)) (hh := []) (Or.inl ⟨rfl, rfl⟩) (hsi _ (by simp [sm_strw])) ⟨Or.inl hw, hsi _ (by simp [sm_strw, Lib.Str.length.name, Lib.str]), ⟨by decide, by decide⟩, hsi _ (by simp [sm_strw]), hsi _ (by simp [sm_strw, Lib.Str.length.name, Lib.str])⟩ (b := G.2.2.1 j) (by rw [hT]; exact hB) b2 b3 rfl (sm_par _ 0 (by decide +kernel)) rfl (by rw [hb]; exact hd)) hd
    (fun U hW hU => ?_) (fun U hW hU => ?_) (fun first o t hq => ⟨hq.1, ?_⟩) ⟨by have := sm_sl_lt h7; omega, by have := sm_sl_lt h7; omega⟩ hwt (fun v hv => by simp [hv]) hrm ⟨rfl, rfl⟩ ⟨by show 1 + 1 ≤ _; omega, by show 8 + (1 + 11) + 24 ≤ _; omega⟩ hk h3
  · obtain ⟨hc, hs⟩ := sm_str X0 I.2.1 hW hU
    have hs := hs #[.ref (G.2.2.1 j)]
    simp only [Lib.Cold.length.spec, Cond.before_and, Bool.and_eq_true]
    exact ⟨hs _ (by simp [sm_strw]), rfl, sm_exactly (hc.2.1 j h7).2.2.2.2 rfl, hs _ (by simp [sm_strw, Lib.str]), hs _ (by simp [sm_strw, Lib.str]), sm_declares (hs _ (by simp [sm_strw])) (hs (.code Lib.String.coder.name Lib.String.coder.code 1 (some .byte)) (by simp [sm_strw])), hs _ (by simp [sm_strw, Lib.str]), hs _ (by simp [sm_strw]), hs _ (by simp [sm_strw, Lib.str])⟩
  · obtain ⟨hc, hs⟩ := sm_str X0 I.2.1 hW hU
    have hs := hs #[.ref (G.2.2.1 j)]
    have hq := hc.2.1 j h7
    refine ⟨rfl, sm_sfield hq.1 hq.2.2.1 hc.2.2.2.2.2.2.2.1 rfl, by rw [hU]; exact hA, State.isArrayOf_alike hW.alike a2, ?_, rfl, sm_static hc.2.2.2.1, by decide, sm_sfield hq.1 hq.2.1 hc.2.2.2.2.2.2.2.2.1 rfl⟩
    simp only [Lib.Cold.coder.spec, Cond.before_and, Bool.and_eq_true]
    exact ⟨hs _ (by simp [sm_strw]), rfl, hs _ (by simp [sm_strw, Lib.str]), hs _ (by simp [sm_strw, Lib.str])⟩
  · rw [hq.2, a5]
    show _ = Outcome.returned (some (.int (Int32.ofInt (am_sl j))))
    rw [show Int32.ofNat (am_sl j) = Int32.ofInt (am_sl j) from Int32.ofInt_eq_ofNat.symm]
theorem si_schr (X : sm_cx p s m args meth c G L xs own cc maxL ret) {idx : Nat} (hw : Cond.methodLink own idx Lib.Str.charAt.name ∈ sm_tbl) (hR : 8 ≤ R.frames ∧ 400 ≤ R.locals) (hrm : cells ≤ R.cells ∧ slots ≤ R.slots) (hd : decode cc pc = .ok (.invokevirtual idx, 3)) (hk : sm_K p l e R s m args below meth c Q G L xs maxL lo n0 t0 out F (.inr r) (pc + 3)) (I : sm_inv s G L xs maxL lo n0 t0 ls st σ H locs cells slots J)
    (hwt : am_wt (st.drop 2) ≤ 8) (h : am_p1 st (fun x st => am_pr st fun X st => am_ct X fun j => cond (Nat.blt j am_ns) (am_idx x (am_sl j) (fun k => F (.inr r) ls (am_i (am_sc j k) :: st) σ)) none) = some out) : W p l e R s m args below meth c H locs cells slots Q (F0 m pc J (st.map (sm_v G))) := by
  have X0 := X
  obtain ⟨hx, hb, hre, hml, hown, hts, hlocks, hKn, hXs, hb1, hb2, hLL, hcst⟩ := X
  obtain ⟨x, s0, rfl, h0⟩ := iv_p1 h
  obtain ⟨Y, s1, rfl, h1⟩ := iv_pr h0
  obtain ⟨j, rfl, h2⟩ := iv_ct h1
  obtain ⟨h7, h3⟩ := iv_cd1 h2
  simp only [Nat.blt_eq] at h7
  obtain ⟨hxi, h4⟩ := iv_idx h3
  obtain ⟨hin, hcl⟩ := sm_in hxi (sm_sl_lt h7)
  have hx1 : sm_i x := I.top (v := .inl x) (by simp)
  have hsi : ∀ w ∈ sm_strw, w ∈ sm_tbl := sm_strw_in
  obtain ⟨arr, a1, a2, a3, a4, a5, a6, a7⟩ := (hcst.2.1 j h7).2.2.2.1
  obtain ⟨cellB, b1, b2, b3, b4⟩ := (hcst.2.1 j h7).1
  have hB : H[G.2.2.1 j]? = some cellB := by rw [I.2.1.2.1 _ (Array.getElem?_eq_some_iff.mp b1).1 b4]; exact b1
  have hA : H[G.2.2.1 (1000 + j)]? = some arr := by rw [I.2.1.2.1 _ (Array.getElem?_eq_some_iff.mp a1).1 a7]; exact a1
  obtain ⟨fmt, hfmt, hfm⟩ : ∃ fmt : Value, (fmt = .null ∨ ∃ t, fmt = .ref t) ∧ va_Z "jdk/internal/util/Preconditions" "SIOOBE_FORMATTER" "Ljava/util/function/BiFunction;" fmt (sm_A G) s s.heap := by
    rcases hcst.2.2.2.2.1 with h | ⟨t, h⟩
    · exact ⟨_, Or.inl rfl, h⟩
    · exact ⟨_, Or.inr ⟨t, rfl⟩, h⟩
  refine si_pure X0 I (rest := s1) (v := am_i (am_sc j x.toNat)) (Lib.Cold.charAt.met l (G.2.2.1 j) (G.2.2.1 (1000 + j)) (Int32.ofInt x) (Int32.ofInt (am_sc j x.toNat)) 1 fmt arr) (w := .code Lib.Str.charAt.name Lib.Str.charAt.code 2 (some .char)) (hh := []) (Or.inl ⟨rfl, rfl⟩) (hsi _ (by simp [sm_strw])) (hsi _ (by simp [sm_strw, Lib.Str.charAt.name, Lib.str])) (a := #[.ref (G.2.2.1 j), .int (Int32.ofInt x)])
    (fun T hT XT => sm_enV (argsL := [.int (Int32.ofInt x)]) XT hx hown hts (w := .code Lib.Str.charAt.name Lib.Str.charAt.code 2 (some .char)) (hh := []) (Or.inl ⟨rfl, rfl⟩) (hsi _ (by simp [sm_strw])) ⟨Or.inl hw, hsi _ (by simp [sm_strw, Lib.Str.charAt.name, Lib.str]), ⟨by decide, by decide⟩, hsi _ (by simp [sm_strw]), hsi _ (by simp [sm_strw, Lib.Str.charAt.name, Lib.str])⟩ (b := G.2.2.1 j) (by rw [hT]; exact hB) b2 b3 rfl (sm_par _ 1 (by decide +kernel)) rfl (by rw [hb]; exact hd)) hd
    (fun U hW hU => ?_) (fun U hW hU => ?_) (fun first o t hq => ⟨hq.1, ?_⟩) ⟨by have := (sm_sc_b j x.toNat); omega, by have := (sm_sc_b j x.toNat); omega⟩ hwt (fun v hv => by simp [hv]) hrm ⟨rfl, rfl⟩ ⟨by show 3 + 1 ≤ _; omega, by show 8 + (2 + 11) + 72 ≤ _; omega⟩ hk h4
  · obtain ⟨hc, hs⟩ := sm_str X0 I.2.1 hW hU
    have hs := hs #[.ref (G.2.2.1 j), .int (Int32.ofInt x)]
    simp only [Lib.Cold.charAt.spec, Cond.before_and, Bool.and_eq_true]
    exact ⟨hs _ (by simp [sm_strw]), rfl, sm_exactly (hc.2.1 j h7).2.2.2.2 rfl, hs _ (by simp [sm_strw, Lib.str]), sm_declares (hs _ (by simp [sm_strw])) (hs (.code Lib.Str.isLatin1.name Lib.String.isLatin1.code 1 (some .boolean)) (by simp [sm_strw])), hs _ (by simp [sm_strw, Lib.str]), hs _ (by simp [sm_strw]), hs _ (by simp [sm_strw, Lib.str]), hs _ (by simp [sm_strw, Lib.str]), hs _ (by simp [sm_strw]), hs _ (by simp [sm_strw, Lib.sl1]), hs _ (by simp [sm_strw, Lib.str])⟩
  · obtain ⟨hc, hs⟩ := sm_str X0 I.2.1 hW hU
    have hq := hc.2.1 j h7
    have hfm' : va_Z "jdk/internal/util/Preconditions" "SIOOBE_FORMATTER" "Ljava/util/function/BiFunction;" fmt (sm_A G) U U.heap := (hfm.moved hW.alike).kept (fun a h1 h2 => by rw [hU]; exact I.2.1.2.1 a h1 h2)
    have hlt : (Int32.ofInt x).toNatClampNeg < am_sl j := by rw [hcl]; omega
    refine ⟨rfl, sm_sfield hq.1 hq.2.2.1 hc.2.2.2.2.2.2.2.1 rfl, sm_sig (hs #[] (.code Lib.SL1.charAt.name Lib.SL1.charAt.code 2 (some .char)) (by simp [sm_strw])), ?_, ⟨rfl, sm_static hc.2.2.2.1, by decide, sm_sfield hq.1 hq.2.1 hc.2.2.2.2.2.2.2.2.1 rfl⟩, ?_, rfl, by rw [hU]; exact hA, State.isArrayOf_alike hW.alike a2, a3, ?_, by rw [a6 _ hlt, hcl], sm_sig (hs #[] (.code Lib.Str.checkIndex.name Lib.Str.checkIndex.code 2 none) (by simp [sm_strw])), ?_, rfl, sm_static hfm', sm_sig (hs #[] (.code Lib.Preconditions.checkIndex.name Lib.Preconditions.checkIndex.code 3 (some .int)) (by simp [sm_strw])), ?_⟩
    · have hs := hs #[.ref (G.2.2.1 j)]
      simp only [Lib.Cold.isLatin1.spec, Cond.before_and, Bool.and_eq_true]
      exact ⟨hs _ (by simp [sm_strw]), rfl, hs _ (by simp [sm_strw, Lib.str]), hs _ (by simp [sm_strw, Lib.str])⟩
    · have hs := hs #[.ref (G.2.2.1 (1000 + j)), .int (Int32.ofInt x)]
      simp only [Lib.Cold.latin1.spec, Cond.before_and, Bool.and_eq_true]
      exact ⟨hs _ (by simp [sm_strw]), rfl, hs _ (by simp [sm_strw, Lib.sl1]), hs _ (by simp [sm_strw]), hs _ (by simp [sm_strw, Lib.str])⟩
    · intro q
      rcases q with q | q
      · exact hin (Or.inl q)
      · omega
    · have hs := hs #[.int (Int32.ofInt x), .int arr.slots.size.toInt32]
      simp only [Lib.Cold.checkIndex.spec, Cond.before_and, Bool.and_eq_true]
      exact ⟨hs _ (by simp [sm_strw]), rfl, hs _ (by simp [sm_strw, Lib.str, Lib.pre_]), hs _ (by simp [sm_strw, Lib.str]), hs _ (by simp [sm_strw]), hs _ (by simp [sm_strw, Lib.pre_])⟩
    · have hs := hs #[.int (Int32.ofInt x), .int arr.slots.size.toInt32, fmt]
      simp only [Lib.Preconditions.checkIndex.spec, Cond.before_and, Bool.and_eq_true]
      refine ⟨hs _ (by simp [sm_strw, Lib.Preconditions.checkIndex.maxLocals]), rfl, rfl, rfl, ?_, ?_, ?_⟩
      · rcases hfmt with rfl | ⟨t, rfl⟩ <;> rfl
      · show (some (decide ((0 : Int32) ≤ Int32.ofInt x)) == some true) = true
        have : (0 : Int32) ≤ Int32.ofInt x := by rw [Int32.le_iff_toInt_le, sm_toI hx1]; show (0 : Int) ≤ x; omega
        simp [this]
      · show (some (decide (Int32.ofInt x < arr.slots.size.toInt32)) == some true) = true
        have hl := sm_sl_lt h7
        have : Int32.ofInt x < arr.slots.size.toInt32 := by
          rw [a5, show Int32.ofNat (am_sl j) = Int32.ofInt (am_sl j) from Int32.ofInt_eq_ofNat.symm, Int32.lt_iff_toInt_lt, sm_toI hx1, sm_toI ⟨by omega, by omega⟩]; omega
        simp [this]
  · rw [hq.2, sm_chr_b (sm_sc_b j x.toNat)]; rfl
end
