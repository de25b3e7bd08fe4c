/-! SIMULATION, 17: calls of the library: Object.<init>, Math.min, Math.max -/
/-- words of the library that any method may use -/
def sm_libw : List Cond := [.initialized "java/lang/Math", .instanceMethod Lib.objectInit, .code Lib.objectInit ⟨#[0xb1]⟩ 1 none, .static Lib.Math.min.name, .code Lib.Math.min.name Lib.Math.min.code 2 (some .int), .static Lib.Math.max.name, .code Lib.Math.max.name Lib.Math.max.code 2 (some .int)]
theorem sm_libw_in : ∀ w ∈ sm_libw, w ∈ sm_tbl := sm_in_tbl [26, 7, 0, 1079, 0, 157, 0] (by decide +kernel) (by decide +kernel)
section
variable {p : Program} {l : Launch} {e : Env} {R : Room} {s : State} {m : MethodId} {args : Array Value} {below : List Frame} {meth : Method} {c : Code} {Q : State → Prop}
variable {G : sm_G} {L : Nat} {xs : Nat → Int32} {own : String} {cc : ByteArray} {maxL : Nat} {ret : Option FieldType} {lo : Bool} {n0 t0 : Nat} {out : am_O} {F : am_F} {Γ : am_G}
variable {ls : List (Option am_V)} {st : List am_V} {σ : am_S} {H : Heap} {locs : List Loc} {cells slots pc len : Nat} {J : Array Slot} {r : List am_A} {o : List Nat}
theorem sm_J (I : sm_inv s G L xs maxL lo n0 t0 ls st σ H locs cells slots J) (hml : c.maxLocals = maxL) : c.maxLocals = J.size := by rw [hml]; exact I.2.2.1.1.1.symm
theorem si_oinit (X : sm_cx p s m args meth c G L xs own cc maxL ret) {idx : Nat} (hw : Cond.methodLink own idx Lib.objectInit ∈ sm_tbl) (hR : 1 ≤ R.frames ∧ 100 ≤ R.locals) (hd : decode cc pc = .ok (.invokespecial idx, 3)) (hk : sm_K p l e R s m args below meth c Q G L xs maxL lo n0 t0 out F (.inr r) (pc + 3)) (I : sm_inv s G L xs maxL lo n0 t0 ls st σ H locs cells slots J)
    (hwt : am_wt (st.drop 1) ≤ 8) (h : am_pr st (fun X st => am_hp X fun _ => F (.inr r) ls st σ) = some out) : W p l e R s m args below meth c H locs cells slots Q (F0 m pc J (st.map (sm_v G))) := by
  obtain ⟨hx, hb, hre, hml, hown, hts, hlocks, hKn, hXs, hb1, hb2, hLL, hcst⟩ := X
  obtain ⟨Y, s1, rfl, h1⟩ := iv_pr h
  obtain ⟨a, rfl, h2⟩ := iv_hp h1
  have hwt : am_wt s1 ≤ 8 := hwt
  refine W.objInit (g := F0 m pc J (Value.ref (sm_ad G a) :: s1.map (sm_v G))) (rest := s1.map (sm_v G)) hx hb hown (hts _ hw) (hts _ (sm_libw_in _ (by simp [sm_libw]))) (hts _ (sm_libw_in _ (by simp [sm_libw]))) rfl (sm_J I hml).symm rfl hd hR.1 ?_ ?_
  · rw [sm_wt_cat]; show 2 * 0 + _ + 12 ≤ _; omega
  · exact hk _ _ _ _ _ _ _ _ (I.p0 (st' := s1) (fun v hv => by simp [hv])) h2
theorem si_min (X : sm_cx p s m args meth c G L xs own cc maxL ret) {idx : Nat} (hw : Cond.methodLink own idx Lib.Math.min.name ∈ sm_tbl) (hR : 1 ≤ R.frames ∧ 100 ≤ R.locals) (hrm : cells ≤ R.cells ∧ slots ≤ R.slots) (hd : decode cc pc = .ok (.invokestatic idx, 3)) (hk : sm_K p l e R s m args below meth c Q G L xs maxL lo n0 t0 out F (.inr r) (pc + 3)) (I : sm_inv s G L xs maxL lo n0 t0 ls st σ H locs cells slots J)
    (hwt : am_wt (st.drop 2) ≤ 8) (h : am_p2 st (fun x y st => F (.inr r) ls (am_i (if x ≤ y then x else y) :: st) σ) = some out) : W p l e R s m args below meth c H locs cells slots Q (F0 m pc J (st.map (sm_v G))) := by
  obtain ⟨hx, hb, hre, hml, hown, hts, hlocks, hKn, hXs, hb1, hb2, hLL, hcst⟩ := X
  obtain ⟨x, y, s1, rfl, h1⟩ := iv_p2 h
  have hx1 : sm_i x := I.top (v := .inl x) (by simp)
  have hy1 : sm_i y := I.top (v := .inl y) (by simp)
  have hwt : am_wt s1 ≤ 8 := hwt
  refine va_mmin hx hb (sm_J I hml) hown (hts _ hw) (hts _ (sm_libw_in _ (by simp [sm_libw]))) (hts _ (sm_libw_in _ (by simp [sm_libw]))) (hts _ (sm_libw_in _ (by simp [sm_libw]))) hR.1 (by rw [sm_wt_cat]; omega) hrm.1 hrm.2 hd ?_
  have e1 : (if Int32.ofInt y < Int32.ofInt x then Int32.ofInt y else Int32.ofInt x) = Int32.ofInt (if x ≤ y then x else y) := by
    by_cases q : x ≤ y
    · rw [if_pos q, if_neg]
      rw [Int32.lt_iff_toInt_lt, sm_toI hx1, sm_toI hy1]; omega
    · rw [if_neg q, if_pos]
      rw [Int32.lt_iff_toInt_lt, sm_toI hx1, sm_toI hy1]; omega
  rw [e1]
  exact hk _ _ _ _ _ _ _ _ (I.p1 (st' := s1) (v := am_i (if x ≤ y then x else y)) (fun v hv => by simp [hv]) (by show sm_i _; split <;> assumption)) h1
theorem si_max (X : sm_cx p s m args meth c G L xs own cc maxL ret) {idx : Nat} (hw : Cond.methodLink own idx Lib.Math.max.name ∈ sm_tbl) (hR : 1 ≤ R.frames ∧ 100 ≤ R.locals) (hrm : cells ≤ R.cells ∧ slots ≤ R.slots) (hd : decode cc pc = .ok (.invokestatic idx, 3)) (hk : sm_K p l e R s m args below meth c Q G L xs maxL lo n0 t0 out F (.inr r) (pc + 3)) (I : sm_inv s G L xs maxL lo n0 t0 ls st σ H locs cells slots J)
    (hwt : am_wt (st.drop 2) ≤ 8) (h : am_p2 st (fun x y st => F (.inr r) ls (am_i (if y ≤ x then x else y) :: st) σ) = some out) : W p l e R s m args below meth c H locs cells slots Q (F0 m pc J (st.map (sm_v G))) := by
  obtain ⟨hx, hb, hre, hml, hown, hts, hlocks, hKn, hXs, hb1, hb2, hLL, hcst⟩ := X
  obtain ⟨x, y, s1, rfl, h1⟩ := iv_p2 h
  have hx1 : sm_i x := I.top (v := .inl x) (by simp)
  have hy1 : sm_i y := I.top (v := .inl y) (by simp)
  have hwt : am_wt s1 ≤ 8 := hwt
  refine va_mmax hx hb (sm_J I hml) hown (hts _ hw) (hts _ (sm_libw_in _ (by simp [sm_libw]))) (hts _ (sm_libw_in _ (by simp [sm_libw]))) (hts _ (sm_libw_in _ (by simp [sm_libw]))) hR.1 (by rw [sm_wt_cat]; omega) hrm.1 hrm.2 hd ?_
  have e1 : (if Int32.ofInt x < Int32.ofInt y then Int32.ofInt y else Int32.ofInt x) = Int32.ofInt (if y ≤ x then x else y) := by
    by_cases q : y ≤ x
    · rw [if_pos q, if_neg]
      rw [Int32.lt_iff_toInt_lt, sm_toI hx1, sm_toI hy1]; omega
    · rw [if_neg q, if_pos]
      rw [Int32.lt_iff_toInt_lt, sm_toI hx1, sm_toI hy1]; omega
  rw [e1]
  exact hk _ _ _ _ _ _ _ _ (I.p1 (st' := s1) (v := am_i (if y ≤ x then x else y)) (fun v hv => by simp [hv]) (by show sm_i _; split <;> assumption)) h1
end
