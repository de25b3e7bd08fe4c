/-! SIMULATION, 13: one instruction of a method, whatever it is (what is not yet done is said so) -/
/-- a method: name, code word, bytes, locals, answer, handlers -/
abbrev sm_I : Type := MethodName × Cond × ByteArray × Nat × Option FieldType × List (Nat × Nat × Nat × Nat)
def sm_jmp (ps : List Nat) (pc : Nat) (off : Int) (k : Nat) : Prop := ∃ tgt : Nat, ps[k]? = some tgt ∧ (pc : Int) + off = tgt
def sm_fop (own : String) (idx : Nat) (o : List Nat) (P : vw_C → Nat → Prop) : Prop := ∃ cn k rc, o = [cn, k, sm_fk cn k] ∧ sm_cl[cn]? = some rc ∧ k < rc.2.2 ∧ sm_lnk own idx rc k ∧ P rc k
def sm_fin (nm : String) (own : String) (idx : Nat) (rc : vw_C) (k : Nat) : Prop := (rc.2.1 k).2.2.2 = false ∨ ((rc.2.1 k).2.2.2 = true ∧ nm = "<init>" ∧ (rc.2.1 k).1 = own ∧ Cond.fieldLink own idx (rc.2.1 k).1 (rc.2.1 k).2.1 (rc.2.1 k).2.2.1 ∈ sm_tbl)
/-- a call of an own method: [kind, class, method, arguments, answer, handler, ..] -/
def sm_cop (mi : Nat → Nat → Option sm_I) (own : String) (kind idx : Nat) (o : List Nat) : Prop := ∃ c i n rty h x y w bytes mL rt hh, o = [kind, c, i, n, rty, h, x] ∧ mi c i = some (y, w, bytes, mL, rt, hh) ∧ sm_cw y w bytes mL rt hh ∧ w ∈ sm_tbl ∧ sm_way kind own idx y ∧ mL ≤ 41 ∧
  (∀ sig, parseMethodDescriptor y.desc = some sig → sig.parameters.length + (if kind = 0 then 0 else 1) = n) ∧ (∃ rc, sm_cl[c]? = some rc ∧ rc.1 = y.cls) ∧ (kind = 2 → w = .code y bytes mL none)
/-- a constant of the pool: a number [0, v] or a string [1, j] -/
def sm_lop (own : String) (idx : Nat) (o : List Nat) : Prop := (∃ v : Nat, o = [0, v] ∧ v < 2147483648 ∧ Cond.constant own idx (Int32.ofInt v) ∈ sm_tbl) ∨ ∃ j tx, o = [1, j] ∧ sm_sk[j]? = some (own, idx, tx)
/-- what the operands of an instruction must be -/
def sm_op (mi : Nat → Nat → Option sm_I) (own nm : String) (lo : Bool) (ret : Option FieldType) (ps : List Nat) (pc : Nat) (i : Instr) (o : List Nat) : Prop := match i with
  | .ifCond _ off => sm_jmp ps pc off (o.getD 0 0)
  | .if_icmp _ off => sm_jmp ps pc off (o.getD 0 0)
  | .if_acmp _ off => sm_jmp ps pc off (o.getD 0 0)
  | .ifnull off => sm_jmp ps pc off (o.getD 0 0)
  | .ifnonnull off => sm_jmp ps pc off (o.getD 0 0)
  | .goto off => sm_jmp ps pc off (o.getD 0 0)
  | .tableswitch d lw hi offs => lw + ((o.drop 1).length : Nat) = hi + 1 ∧ sm_jmp ps pc d (o.getD 0 0) ∧ ∀ (i t : Nat), (o.drop 1)[i]? = some t → ∃ off : Int, offs[i]? = some off ∧ sm_jmp ps pc off t
  | .lookupswitch d prs => (prs.toList.zip (prs.toList.drop 1)).all (fun (a, next) => a.1 < next.1) = true ∧ (o.drop 1).length = prs.toList.length ∧ sm_jmp ps pc d (o.getD 0 0) ∧ ∀ (i t : Nat) (q : Int × Int), (o.drop 1)[i]? = some t → prs.toList[i]? = some q → sm_jmp ps pc q.2 t
  | .getfield idx => sm_fop own idx o (fun _ _ => True)
  | .putfield idx => sm_fop own idx o (sm_fin nm own idx)
  | .istore _ => o = [] → lo = false
  | .istore_n _ => o = [] → lo = false
  | .astore _ => o = [] → lo = false
  | .astore_n _ => o = [] → lo = false
  | .lstore _ => lo = true
  | .lstore_n _ => lo = true
  | .ireturn => ((o = [] ∧ ret = some .int) ∨ ret = some .boolean) ∧ (o = [] → ret = some .int)
  | .lreturn => ret = some .long
  | .areturn => ∃ rt, ret = some rt ∧ ((∃ n, rt = .object n) ∨ ∃ t, rt = .array t)
  | .return_ => ret = none
  | .baload => o = [2] ∨ o = [4]
  | .bastore => o = [2] ∨ o = [4]
  | .aaload => o = [10] ∨ o = [12] ∨ o = [13] ∨ o = [11]
  | .ldc idx => sm_lop own idx o
  | .ldc_w idx => sm_lop own idx o
  | .ldc2_w idx => o.getD 0 0 < 2147483648 ∧ Cond.constantLong own idx (Int64.ofInt (o.getD 0 0)) ∈ sm_tbl
  | .arraylength => (∃ t, o = [0, t] ∧ (t = 1 ∨ t = 3 ∨ t = 10 ∨ t = 11)) ∨ o = [1]
  | .getstatic idx => ∃ j n, o = [am_ns + j] ∧ sm_sn[j]? = some n ∧ Cond.fieldLink own idx "TowerComputerModel" n "[C" ∈ sm_tbl
  | .invokestatic idx => sm_cop mi own 0 idx o ∨ 3 ≤ o.getD 0 0
  | .invokevirtual idx => sm_cop mi own 1 idx o ∨ 3 ≤ o.getD 0 0
  | .invokespecial idx => sm_cop mi own 2 idx o ∨ 3 ≤ o.getD 0 0
  | _ => True
section
variable {p : Program} {l : Launch} {e : Env} {R : Room} {s : State} {m : MethodId} {args : Array Value} {below : List Frame} {meth : Method} {c : Code} {Q : State → Prop}
variable {G : sm_G} {L : Nat} {xs : Nat → Int32} {own : String} {cc : ByteArray} {maxL : Nat} {ret : Option FieldType} {lo : Bool} {n0 t0 : Nat} {out : am_O} {F : am_F}
variable {ls : List (Option am_V)} {st : List am_V} {σ : am_S} {H : Heap} {locs : List Loc} {cells slots pc len : Nat} {J : Array Slot} {r : List am_A}
theorem si_ldrow (hx : p.tables.exec = Jvm.exec) (hb : c.code = cc) {i : Nat} {n : Fin 4} (hi : (n : Nat) = i) (hd : decode cc pc = .ok (.aload_n n, 1)) {rest : List Value} (X : Option Nat) (h : J[i]? = some (.val (va_rf X))) (k : W p l e R s m args below meth c H locs cells slots Q (F0 m (pc + 1) J (va_rf X :: rest))) : W p l e R s m args below meth c H locs cells slots Q (F0 m pc J rest) := by
  cases X with
  | none => exact lv_aload_nN hx hb hd hi h k
  | some a => exact lv_aload_n hx hb hd hi h k
theorem si_ldrow2 (hx : p.tables.exec = Jvm.exec) (hb : c.code = cc) {i : Nat} (hd : decode cc pc = .ok (.aload i, 2)) {rest : List Value} (X : Option Nat) (h : J[i]? = some (.val (va_rf X))) (k : W p l e R s m args below meth c H locs cells slots Q (F0 m (pc + 2) J (va_rf X :: rest))) : W p l e R s m args below meth c H locs cells slots Q (F0 m pc J rest) := by
  cases X with
  | none => exact lv_aloadN hx hb hd h k
  | some a => exact lv_aload hx hb hd h k
theorem si_strow (hx : p.tables.exec = Jvm.exec) (hb : c.code = cc) {i : Nat} {n : Fin 4} (hi : (n : Nat) = i) (hd : decode cc pc = .ok (.astore_n n, 1)) (X : Option Nat) (rest : List Value) (lv : List (Nat × Value)) (h : lv_has J maxL lv) (hn : i < maxL) (k : ∀ J' : Array Slot, lv_has J' maxL ((i, va_rf X) :: lv.filter (fun q => !(q.1 == i) && !(q.1 + 1 == i && q.2.category == 2))) → W p l e R s m args below meth c H locs cells slots Q (F0 m (pc + 1) J' rest)) : W p l e R s m args below meth c H locs cells slots Q (F0 m pc J (va_rf X :: rest)) := by
  cases X with
  | none => exact lv_astore_nN hx hb hd hi h hn rfl k
  | some a => exact lv_astore_n hx hb hd hi h hn rfl k
theorem si_strow2 (hx : p.tables.exec = Jvm.exec) (hb : c.code = cc) {i : Nat} (hd : decode cc pc = .ok (.astore i, 2)) (X : Option Nat) (rest : List Value) (lv : List (Nat × Value)) (h : lv_has J maxL lv) (hn : i < maxL) (k : ∀ J' : Array Slot, lv_has J' maxL ((i, va_rf X) :: lv.filter (fun q => !(q.1 == i) && !(q.1 + 1 == i && q.2.category == 2))) → W p l e R s m args below meth c H locs cells slots Q (F0 m (pc + 2) J' rest)) : W p l e R s m args below meth c H locs cells slots Q (F0 m pc J (va_rf X :: rest)) := by
  cases X with
  | none => exact lv_astoreN hx hb hd h hn rfl k
  | some a => exact lv_astore hx hb hd h hn rfl k
end
