/-! SIMULATION, 14: the step -/
/-- how long an instruction is -/
def sm_len (i : Instr) : Option Nat := match i with
  | .iload _ | .lload _ | .aload _ | .istore _ | .lstore _ | .astore _ | .bipush _ | .ldc _ | .newarray _ => some 2
  | .sipush _ | .ldc_w _ | .ldc2_w _ | .iinc _ _ | .ifCond _ _ | .if_icmp _ _ | .if_acmp _ _ | .ifnull _ | .ifnonnull _ | .goto _ | .getfield _ | .putfield _ | .getstatic _ | .invokevirtual _ | .invokespecial _ | .invokestatic _ | .new _ | .anewarray _ => some 3
  | .multianewarray _ _ => some 4
  | .tableswitch _ _ _ _ | .lookupswitch _ _ => none
  | _ => some 1
section
variable {p : Program} {l : Launch} {e : Env} {R : Room} {s : State} {m : MethodId} {args : Array Value} {below : List Frame} {meth : Method} {c : Code} {Q : State → Prop}
variable {G : sm_G} {L : Nat} {xs : Nat → Int32} {own : String} {cc : ByteArray} {maxL : Nat} {ret : Option FieldType} {lo : Bool} {n0 t0 : Nat} {out : am_O} {F : am_F} {Γ : am_G}
variable {ls : List (Option am_V)} {st : List am_V} {σ : am_S} {H : Heap} {locs : List Loc} {cells slots pc len : Nat} {J : Array Slot} {r : List am_A} {o : List Nat}
theorem si_L2 {f : Int → Int → Int} {g : Int64 → Int64 → Int64} (hk : sm_K p l e R s m args below meth c Q G L xs maxL lo n0 t0 out F (.inr r) (pc + 1)) (I : sm_inv s G L xs maxL lo n0 t0 ls st σ H locs cells slots J)
    (row : ∀ (x y : Int64) (rest : List Value), W p l e R s m args below meth c H locs cells slots Q (F0 m (pc + 1) J (.long (g x y) :: rest)) → W p l e R s m args below meth c H locs cells slots Q (F0 m pc J (.long y :: .long x :: rest)))
    (hi : ∀ x y, sm_l x → sm_l y → sm_l (f x y) ∧ g (Int64.ofInt x) (Int64.ofInt y) = Int64.ofInt (f x y))
    (h : am_l2 st (fun x y st => F (.inr r) ls (am_l (f x y) :: st) σ) = some out) : W p l e R s m args below meth c H locs cells slots Q (F0 m pc J (st.map (sm_v G))) := by
  obtain ⟨x, y, st', rfl, h1⟩ := iv_l2 h
  have hx : sm_l x := I.top (v := .inr (.inl x)) (by simp)
  have hy : sm_l y := I.top (v := .inr (.inl y)) (by simp)
  obtain ⟨h3, h2⟩ := hi x y hx hy
  refine row (Int64.ofInt x) (Int64.ofInt y) (st'.map (sm_v G)) ?_
  rw [h2]
  exact hk _ _ _ _ _ _ _ _ (I.p1 (st' := st') (v := am_l (f x y)) (fun v hv => by simp [hv]) h3) h1
theorem si_aldT {cc : ByteArray} {D : va_G} {cl : List vw_C} {tys : List (ClassId × FieldType)} {ws : va_W} {a : Nat} {rest : List Value} (hexec : p.tables.exec = Jvm.exec) (hb : c.code = cc) (hK : va_K D cl tys s) (hP : va_P D cl ws H) (q0 t0 : Nat) {ty : FieldType} (hty : ty.isReference = true) {cA : ClassId} {n : Nat} {f : Nat → Option Nat} (ha : ws[q0]? = some (a, .inl (cA, n, .inr (.inr (.inr (.inr f)))))) (ht : tys[t0]? = some (cA, ty)) {i : Int32} (hin : vp_in i n) (hdg : decode cc pc = .ok (.aaload, 1))
    (kk : W p l e R s m args below meth c H locs cells slots Q (F0 m (pc + 1) J (va_rf (f i.toNatClampNeg) :: rest))) : W p l e R s m args below meth c H locs cells slots Q (F0 m pc J (.int i :: .ref a :: rest)) := by
  have hlt : i.toNatClampNeg < n := Nat.not_le.mp fun q => hin (Or.inr q)
  exact W.aald (v := va_rf (f i.toNatClampNeg)) (ty := ty) hexec hb (hP q0 _ ha) ((hK.2 t0 _ ht).1 n (fun j => va_rf (f j))) hty (fun q => by cases q) (by show ¬ (i < 0 ∨ (arrV _ _ _).slots.size ≤ _); rw [arrV_size]; exact hin) (by show (arrV _ _ _).slots[_]? = _; rw [arrV_read _ _ hlt]) rfl rfl hdg kk
theorem sm_co_inj {G : sm_G} (h : G.2.1 < G.1) (x y : Option Nat) : sm_co G (.inl x) = sm_co G (.inl y) ↔ x = y := by
  constructor
  · intro e
    rcases x with _ | a <;> rcases y with _ | b
    · rfl
    · cases e
    · cases e
    · have e : sm_ad G a = sm_ad G b := Option.some.inj e
      unfold sm_ad at e
      congr 1
      split at e <;> split at e <;> omega
  · intro e; rw [e]
theorem sm_chr {U : State} {A : Heap} (h : sm_cst G U A) {j : Nat} (h1 : am_ns ≤ j) (h2 : j < am_nc) : ∃ q, sm_sn[j - am_ns]? = some q ∧ va_Z "TowerComputerModel" q "[C" (.ref (G.2.2.1 j)) (sm_A G) U A ∧ va_T .char (G.2.2.1 j) (am_cl j) (fun k => .int (Int32.ofInt (am_cc j k))) (sm_A G) U A := by
  have h3 : j - am_ns < sm_sn.length := by
    have : sm_sn.length = 8 := rfl
    have : am_ns = 168 := rfl
    have : am_nc = 176 := rfl
    omega
  have h4 := h.2.2.1 (j - am_ns) _ (List.getElem?_eq_getElem h3)
  rw [show am_ns + (j - am_ns) = j by omega] at h4
  exact ⟨_, List.getElem?_eq_getElem h3, h4⟩
theorem sm_cl_lt {j : Nat} (h1 : am_ns ≤ j) (h2 : j < am_nc) : am_cl j < 2147483648 := by
  have hh : ∀ i : Fin 8, am_cl (168 + i) < 2147483648 := by decide +kernel
  have := hh ⟨j - 168, by have : am_ns = 168 := rfl; have : am_nc = 176 := rfl; omega⟩
  rw [show 168 + (j - 168) = j by have : am_ns = 168 := rfl; omega] at this
  exact this
theorem sm_cl_i {j : Nat} (h1 : am_ns ≤ j) (h2 : j < am_nc) : sm_i (am_cl j) := by
  have := sm_cl_lt h1 h2
  exact ⟨by omega, by omega⟩
theorem si_ldcwS {cc : ByteArray} {rest : List Value} (hexec : p.tables.exec = Jvm.exec) (hb : c.code = cc) {own tx : String} {index q : Nat} (hown : s.vm.findClass own = some m.cls) (hZ : vk_R own index tx q s) (hdg : decode cc pc = .ok (.ldc_w index, 3))
    (k : W p l e R s m args below meth c H locs cells slots Q (F0 m (pc + 3) J (.ref q :: rest))) : W p l e R s m args below meth c H locs cells slots Q (F0 m pc J rest) := by
  intro T hT X
  obtain ⟨t, a1, b1⟩ := k T hT X
  refine ⟨t, ?_, b1⟩
  obtain ⟨kC, cf, i, a', hk, hcf, hcp, -, hr, hev'⟩ := Cond.stringRef_spec hown hZ.1
  cases hZ.2.symm.trans hev'
  obtain ⟨k', hk', he⟩ := X.warmed.alike.2.2 _ _ hk
  have hr' : k'.resolved[index]? = some (some (.string q)) := by
    rcases X.warmed.entry hk hk' index with h | ⟨h, -⟩
    · rw [h]; exact hr
    · rw [hr] at h; cases h
  have hdg : decode c.code pc = .ok (.ldc_w index, 3) := by rw [hb]; exact hdg
  jvm_step X.here [hexec, hdg, ldc_w.wp_string (e := e) (s := T) (f := F0 m pc J rest) X.here.top hk' (by rw [he]; exact hcf) hcp hr']
  exact a1
theorem sm_lk_off (F : Nat → Option am_O) (x : Int) {ps : List Nat} {pc : Nat} {dflt : Int} {d : Nat} (hd : sm_jmp ps pc dflt d) : ∀ (prs : List (Int × Int)) (ts : List Nat), ts.length = prs.length → (∀ (i t : Nat) (q : Int × Int), ts[i]? = some t → prs[i]? = some q → sm_jmp ps pc q.2 t) →
    ∃ b, am_lk F x prs ts d = F b ∧ sm_jmp ps pc (Op.lookupswitch.offset prs dflt x) b
  | [], _, _, _ => ⟨d, rfl, hd⟩
  | q :: prs, [], h, _ => by simp at h
  | (a, o) :: prs, t :: ts, h, hh => by
    rw [Op.lookupswitch.offset_cons]
    unfold am_lk
    by_cases e : x = a
    · rw [if_pos e, if_pos e.symm]
      exact ⟨t, rfl, hh 0 t (a, o) rfl rfl⟩
    · rw [if_neg e, if_neg (fun z => e z.symm)]
      exact sm_lk_off F x hd prs ts (by simpa using h) (fun i t q h1 h2 => hh (i + 1) t q h1 h2)
theorem si_lsw (hx0 : p.tables.exec = Jvm.exec) (hb : c.code = cc) {dflt : Int} {prs : Array (Int × Int)} {ln : Nat} (hd : decode cc pc = .ok (.lookupswitch dflt prs, ln)) (hp : (prs.toList.zip (prs.toList.drop 1)).all (fun (a, next) => a.1 < next.1) = true) {ts : List Nat} {d : Nat} (hlen : ts.length = prs.toList.length)
    {ps : List Nat} (hdt : sm_jmp ps pc dflt d) (hts : ∀ (i t : Nat) (q : Int × Int), ts[i]? = some t → prs.toList[i]? = some q → sm_jmp ps pc q.2 t)
    (hj : ∀ (k tgt : Nat), ps[k]? = some tgt → sm_K p l e R s m args below meth c Q G L xs maxL lo n0 t0 out F (.inl k) tgt) (I : sm_inv s G L xs maxL lo n0 t0 ls st σ H locs cells slots J)
    (h : am_p1 st (fun x st => am_lk (fun b => F (.inl b) ls st σ) x prs.toList ts d) = some out) : W p l e R s m args below meth c H locs cells slots Q (F0 m pc J (st.map (sm_v G))) := by
  obtain ⟨x, s1, rfl, h1⟩ := iv_p1 h
  have hx : sm_i x := I.top (v := .inl x) (by simp)
  have I' := I.p0 (st' := s1) (fun v hv => by simp [hv])
  obtain ⟨b, g1, tgt, g2, g3⟩ := sm_lk_off (fun b => F (.inl b) ls s1 σ) x hdt prs.toList ts hlen hts
  rw [g1] at h1
  exact lv_lookup hx0 hb hd hp (by rw [sm_toI hx]) g3 (hj _ _ g2 _ _ _ _ _ _ _ _ I' h1)
theorem sm_all_i {b : Int} {C : List (List Int)} (hh : C.all (fun l => l.all fun x => decide (0 ≤ x) && decide (x ≤ b)) = true) (hb : 0 ≤ b) (j k : Nat) : 0 ≤ (C.getD j []).getD k 0 ∧ (C.getD j []).getD k 0 ≤ b := by
  have key : ∀ q : List Int, q.all (fun x => decide (0 ≤ x) && decide (x ≤ b)) = true → 0 ≤ q.getD k 0 ∧ q.getD k 0 ≤ b := by
    intro q hq
    rw [List.getD_eq_getElem?_getD]
    cases e2 : q[k]? with
    | none => exact ⟨Int.le_refl 0, hb⟩
    | some x =>
      have h4 := List.all_eq_true.mp hq x (List.mem_of_getElem? e2)
      simp only [Bool.and_eq_true, decide_eq_true_eq] at h4
      exact h4
  apply key
  rw [List.getD_eq_getElem?_getD]
  cases e : C[j]? with
  | none => rfl
  | some q => exact List.all_eq_true.mp hh q (List.mem_of_getElem? e)
theorem sm_cc_i {j : Nat} (_h1 : am_ns ≤ j) (_h2 : j < am_nc) (k : Nat) : sm_i (am_cc j k) := by
  have h := sm_all_i (b := 65535) (C := am_chs) (by decide +kernel) (by omega) (j - 168) k
  exact ⟨by show -2147483648 ≤ (am_chs.getD (j - 168) []).getD k 0; omega, by show (am_chs.getD (j - 168) []).getD k 0 < _; omega⟩
/-- what the simulation of these instructions still owes -/
def sm_later (i : Instr) (o : List Nat) : Prop := match i with
  | .aastore | .new _ | .newarray _ | .anewarray _ | .multianewarray _ _ | .athrow => True
  | .invokestatic _ | .invokevirtual _ | .invokespecial _ => True
  | _ => False
theorem sm_step1 {mi : Nat → Nat → Option sm_I} {nm : String} {ps : List Nat} (X : sm_cx p s m args meth c G L xs own cc maxL ret) (hnm : meth.name = nm) {i : Instr} (hd : decode cc pc = .ok (i, len)) (hlen : ∀ n, sm_len i = some n → len = n) (hop : sm_op mi own nm lo ret ps pc i o) (hlt : ¬ sm_later i o)
    (hk : sm_K p l e R s m args below meth c (sm_Q below s G L xs n0 t0 out) G L xs maxL lo n0 t0 out F (.inr r) (pc + len)) (hj : ∀ (k tgt : Nat), ps[k]? = some tgt → sm_K p l e R s m args below meth c (sm_Q below s G L xs n0 t0 out) G L xs maxL lo n0 t0 out F (.inl k) tgt)
    (I : sm_inv s G L xs maxL lo n0 t0 ls st σ H locs cells slots J) (hi0 : i ≠ .nop) (h : am_ins Γ F i o r ls st σ = some out) : W p l e R s m args below meth c H locs cells slots (sm_Q below s G L xs n0 t0 out) (F0 m pc J (st.map (sm_v G))) := by
  have X0 := X
  obtain ⟨hx, hb, hre, hml, hown, hts, hlocks, hKn, hXs, hb1, hb2, hLL, hcst⟩ := X
  have hbs : G.2.1 < s.heap.size := by omega
  have hbA : ¬ sm_A G G.2.1 := by unfold sm_A; omega
  cases i
  case iconst =>
    obtain rfl : len = 1 := hlen 1 rfl
    obtain ⟨h1, h2⟩ := iv_cd1 h
    simp only [Bool.and_eq_true, decide_eq_true_eq] at h1
    exact si_push (v := am_i _) hk I (fun k => lv_iconst hx hb hd rfl k) ⟨by omega, by omega⟩ h2
  case bipush =>
    obtain rfl : len = 2 := hlen 2 rfl
    obtain ⟨h1, h2⟩ := iv_cd1 h
    simp only [Bool.and_eq_true, decide_eq_true_eq] at h1
    exact si_push (v := am_i _) hk I (fun k => lv_bipush hx hb hd (sm_8 h1) k) ⟨by omega, by omega⟩ h2
  case sipush =>
    obtain rfl : len = 3 := hlen 3 rfl
    obtain ⟨h1, h2⟩ := iv_cd1 h
    simp only [Bool.and_eq_true, decide_eq_true_eq] at h1
    exact si_push (v := am_i _) hk I (fun k => lv_sipush hx hb hd (sm_16 h1) k) ⟨by omega, by omega⟩ h2
  case lconst n =>
    obtain rfl : len = 1 := hlen 1 rfl
    have hn := n.isLt
    exact si_push (v := am_l _) hk I (fun k => lv_lconst hx hb hd Int64.ofInt_eq_ofNat.symm k) ⟨by omega, by omega⟩ h
  case aconst_null =>
    obtain rfl : len = 1 := hlen 1 rfl
    exact si_push (v := am_r am_n) hk I (fun k => lv_null hx hb hd k) trivial h
  case iload =>
    obtain rfl : len = 2 := hlen 2 rfl
    exact si_ldi hk I (fun x hj k => lv_iload hx hb hd hj k) h
  case iload_n =>
    obtain rfl : len = 1 := hlen 1 rfl
    exact si_ldi hk I (fun x hj k => lv_iload_n hx hb hd rfl hj k) h
  case lload =>
    obtain rfl : len = 2 := hlen 2 rfl
    exact si_ldl hk I (fun x hj k => lv_lload hx hb hd hj k) h
  case lload_n =>
    obtain rfl : len = 1 := hlen 1 rfl
    exact si_ldl hk I (fun x hj k => lv_lload_n hx hb hd rfl hj k) h
  case aload =>
    obtain rfl : len = 2 := hlen 2 rfl
    exact si_ldr hk I (fun x hj k => si_ldrow2 hx hb hd x hj k) h
  case aload_n =>
    obtain rfl : len = 1 := hlen 1 rfl
    exact si_ldr hk I (fun x hj k => si_ldrow hx hb rfl hd x hj k) h
  case istore =>
    obtain rfl : len = 2 := hlen 2 rfl
    exact si_sti hop hk I (fun x rest lv hl hn k => lv_istore hx hb hd hl hn rfl k) h
  case istore_n =>
    obtain rfl : len = 1 := hlen 1 rfl
    exact si_sti hop hk I (fun x rest lv hl hn k => lv_istore_n hx hb hd rfl hl hn rfl k) h
  case lstore =>
    obtain rfl : len = 2 := hlen 2 rfl
    exact si_stl hop hk I (fun x rest lv hl hn k => lv_lstore hx hb hd hl hn rfl k) h
  case lstore_n =>
    obtain rfl : len = 1 := hlen 1 rfl
    exact si_stl hop hk I (fun x rest lv hl hn k => lv_lstore_n hx hb hd rfl hl hn rfl k) h
  case astore =>
    obtain rfl : len = 2 := hlen 2 rfl
    exact si_str hop hk I (fun x rest lv hl hn k => si_strow2 hx hb hd x rest lv hl hn k) h
  case astore_n =>
    obtain rfl : len = 1 := hlen 1 rfl
    exact si_str hop hk I (fun x rest lv hl hn k => si_strow hx hb rfl hd x rest lv hl hn k) h
  case iinc =>
    obtain rfl : len = 3 := hlen 3 rfl
    exact si_iinc hk I (fun x k lv hl hkk hn kk => lv_iinc hx hb hd hl hkk rfl hn rfl kk) h
  case iadd =>
    obtain rfl : len = 1 := hlen 1 rfl
    exact si_2 hk I (fun x y rest k => lv_iadd hx hb hd k) (fun x y _ _ => ⟨sm_w_i _, by rw [sm_w_o, Int32.ofInt_add]⟩) h
  case isub =>
    obtain rfl : len = 1 := hlen 1 rfl
    exact si_2 hk I (fun x y rest k => lv_isub hx hb hd k) (fun x y _ _ => ⟨sm_w_i _, by rw [sm_w_o, Int32.ofInt_sub]⟩) h
  case imul =>
    obtain rfl : len = 1 := hlen 1 rfl
    exact si_2 hk I (fun x y rest k => lv_imul hx hb hd k) (fun x y _ _ => ⟨sm_w_i _, by rw [sm_w_o, Int32.ofInt_mul]⟩) h
  case iand =>
    obtain rfl : len = 1 := hlen 1 rfl
    exact si_2 hk I (fun x y rest k => lv_iand hx hb hd k) (fun x y _ _ => ⟨sm_and_i _ _, (sm_oI _).symm⟩) h
  case ior =>
    obtain rfl : len = 1 := hlen 1 rfl
    exact si_2 hk I (fun x y rest k => lv_ior hx hb hd k) (fun x y _ _ => ⟨sm_or_i _ _, (sm_oI _).symm⟩) h
  case ixor =>
    obtain rfl : len = 1 := hlen 1 rfl
    exact si_2 hk I (fun x y rest k => lv_ixor hx hb hd k) (fun x y _ _ => ⟨sm_xor_i _ _, (sm_oI _).symm⟩) h
  case ishl =>
    obtain rfl : len = 1 := hlen 1 rfl
    exact si_2 hk I (fun x y rest k => lv_ishl hx hb hd k) (fun x y _ _ => ⟨sm_shl_i _ _, (sm_oI _).symm⟩) h
  case ishr =>
    obtain rfl : len = 1 := hlen 1 rfl
    exact si_2 hk I (fun x y rest k => lv_ishr hx hb hd k) (fun x y _ _ => ⟨sm_shr_i _ _, (sm_oI _).symm⟩) h
  case ineg =>
    obtain rfl : len = 1 := hlen 1 rfl
    exact si_1 hk I (fun x rest k => lv_ineg hx hb hd k) (fun x _ => ⟨sm_w_i _, by rw [sm_w_o, Int32.ofInt_neg]⟩) h
  case i2s =>
    obtain rfl : len = 1 := hlen 1 rfl
    exact si_1 hk I (fun x rest k => lv_i2s hx hb hd rfl k) (fun x hx => ⟨sm_s16_i _, sm_s16_o hx⟩) h
  case i2b =>
    obtain rfl : len = 1 := hlen 1 rfl
    exact si_1 hk I (fun x rest k => lv_i2b hx hb hd rfl k) (fun x hx => ⟨sm_s8_i _, sm_s8_o hx⟩) h
  case idiv =>
    obtain rfl : len = 1 := hlen 1 rfl
    obtain ⟨x, y, st', rfl, h1⟩ := iv_p2 h
    have hx1 : sm_i x := I.top (v := .inl x) (by simp)
    have hy1 : sm_i y := I.top (v := .inl y) (by simp)
    split at h1
    · cases h1
    · rename_i hne
      refine lv_idiv hx hb hd (fun z => hne ((sm_eq0 hy1).mp z)) ?_
      rw [sm_div hx1 hy1]
      exact hk _ _ _ _ _ _ _ _ (I.p1 (st' := st') (v := am_i _) (fun v hv => by simp [hv]) (sm_w_i _)) h1
  case irem =>
    obtain rfl : len = 1 := hlen 1 rfl
    obtain ⟨x, y, st', rfl, h1⟩ := iv_p2 h
    have hx1 : sm_i x := I.top (v := .inl x) (by simp)
    have hy1 : sm_i y := I.top (v := .inl y) (by simp)
    split at h1
    · cases h1
    · rename_i hne
      refine lv_irem hx hb hd (fun z => hne ((sm_eq0 hy1).mp z)) ?_
      rw [sm_rem hx1 hy1 hne]
      exact hk _ _ _ _ _ _ _ _ (I.p1 (st' := st') (v := am_i _) (fun v hv => by simp [hv]) (sm_rem_i hx1)) h1
  case ladd =>
    obtain rfl : len = 1 := hlen 1 rfl
    exact si_L2 hk I (fun x y rest k => lv_ladd hx hb hd k) (fun x y _ _ => ⟨sm_W_l _, by rw [sm_W_o, Int64.ofInt_add]⟩) h
  case land =>
    obtain rfl : len = 1 := hlen 1 rfl
    exact si_L2 hk I (fun x y rest k => lv_land hx hb hd k) (fun x y _ _ => ⟨sm_l_64 _, (sm_oL _).symm⟩) h
  case lor =>
    obtain rfl : len = 1 := hlen 1 rfl
    exact si_L2 hk I (fun x y rest k => lv_lor hx hb hd k) (fun x y _ _ => ⟨sm_l_64 _, (sm_oL _).symm⟩) h
  case lshl =>
    obtain rfl : len = 1 := hlen 1 rfl
    obtain ⟨y, s1, rfl, h1⟩ := iv_p1 h
    obtain ⟨x, s2, rfl, h2⟩ := iv_l1 h1
    refine lv_lshl hx hb hd (sm_oL _).symm ?_
    exact hk _ _ _ _ _ _ _ _ (I.p1 (st' := s2) (v := am_l (am_Lshl x y)) (fun v hv => by simp [hv]) (sm_l_64 _)) h2
  case lcmp =>
    obtain rfl : len = 1 := hlen 1 rfl
    obtain ⟨x, y, s1, rfl, h1⟩ := iv_l2 h
    have hx1 : sm_l x := I.top (v := .inr (.inl x)) (by simp)
    have hy1 : sm_l y := I.top (v := .inr (.inl y)) (by simp)
    refine W.lcmp hx hb hd ?_
    rw [sm_cmp hx1 hy1]
    exact hk _ _ _ _ _ _ _ _ (I.p1 (st' := s1) (v := am_i _) (fun v hv => by simp [hv]) (sm_lcmp_i _ _)) h1
  case i2l =>
    obtain rfl : len = 1 := hlen 1 rfl
    obtain ⟨x, s1, rfl, h1⟩ := iv_p1 h
    have hx1 : sm_i x := I.top (v := .inl x) (by simp)
    refine lv_i2l hx hb hd (sm_i2l hx1) ?_
    exact hk _ _ _ _ _ _ _ _ (I.p1 (st' := s1) (v := am_l x) (fun v hv => by simp [hv]) (sm_i_l hx1)) h1
  case ifCond =>
    obtain rfl : len = 3 := hlen 3 rfl
    obtain ⟨tgt, h1, h2⟩ := hop
    exact si_if hx hb hd h2 hk (hj _ _ h1) I h
  case if_icmp =>
    obtain rfl : len = 3 := hlen 3 rfl
    obtain ⟨tgt, h1, h2⟩ := hop
    exact si_cmp hx hb hd h2 hk (hj _ _ h1) I h
  case goto =>
    obtain rfl : len = 3 := hlen 3 rfl
    obtain ⟨tgt, h1, h2⟩ := hop
    exact lv_goto hx hb hd h2 (hj _ _ h1 _ _ _ _ _ _ _ _ I h)
  case dup =>
    obtain rfl : len = 1 := hlen 1 rfl
    unfold am_ins at h; dsimp only at h; split at h
    · exact lv_dup hx hb hd rfl (hk _ _ _ _ _ _ _ _ (I.p1 (v := am_i _) (fun v hv => hv) (I.top (v := am_i _) (by simp))) h)
    · exact lv_dup hx hb hd (sm_cat1 (v := am_r _) (fun x z => by cases z)) (hk _ _ _ _ _ _ _ _ (I.p1 (v := am_r _) (fun v hv => hv) trivial) h)
    · cases h
  case dup2 =>
    obtain rfl : len = 1 := hlen 1 rfl
    unfold am_ins at h; dsimp only at h; split at h
    · exact lv_dup2_11 hx hb hd rfl (sm_cat1 (v := am_r _) (fun x z => by cases z)) (hk _ _ _ _ _ _ _ _ (I.push (vs := [am_i _, am_r _]) (fun v hv => hv) (fun v hv => I.top (by simp at hv ⊢; rcases hv with hv | hv <;> simp [hv]))) h)
    · cases h
  case pop =>
    obtain rfl : len = 1 := hlen 1 rfl
    unfold am_ins at h; dsimp only at h; split at h
    · exact lv_pop hx hb hd rfl (hk _ _ _ _ _ _ _ _ (I.p0 (fun v hv => by simp [hv])) h)
    · exact lv_pop hx hb hd (sm_cat1 (v := am_r _) (fun x z => by cases z)) (hk _ _ _ _ _ _ _ _ (I.p0 (fun v hv => by simp [hv])) h)
    · cases h
  case getfield =>
    obtain rfl : len = 3 := hlen 3 rfl
    obtain ⟨cn, k, rc, rfl, h1, h2, h3, -⟩ := hop
    exact si_getf X0 hd h1 h2 h3 rfl hk I h
  case putfield =>
    obtain rfl : len = 3 := hlen 3 rfl
    obtain ⟨cn, k, rc, rfl, h1, h2, h3, h4⟩ := hop
    exact si_putf X0 hd h1 h2 h3 rfl (by rw [hnm]; exact h4) hk I h
  case iaload =>
    obtain rfl : len = 1 := hlen 1 rfl
    exact si_ald (t := 1) (Or.inl rfl) hk I (fun q0 a n f i rest hw hin k => va_iald hx hb hKn I.1.1 q0 0 hw rfl hin hd k) (fun _ i rest hin k => va_sld hx hb hXs hbs hbA I.2.1 hin hd k) h
  case saload =>
    obtain rfl : len = 1 := hlen 1 rfl
    exact si_ald (t := 3) (by omega) hk I (fun q0 a n f i rest hw hin k => va_sald hx hb hKn I.1.1 q0 2 hw rfl hin hd k) (fun z => by omega) h
  case baload =>
    obtain rfl : len = 1 := hlen 1 rfl
    rcases hop with rfl | rfl
    · exact si_ald (t := 2) (by omega) hk I (fun q0 a n f i rest hw hin k => va_bald hx hb hKn I.1.1 q0 1 hw rfl hin hd k) (fun z => by omega) h
    · exact si_ald (t := 4) (by omega) hk I (fun q0 a n f i rest hw hin k => va_zald hx hb hKn I.1.1 q0 3 hw rfl hin hd k) (fun z => by omega) h
  case laload =>
    obtain rfl : len = 1 := hlen 1 rfl
    exact si_lald hk I (fun q0 a n f i rest hw hin k => va_lald hx hb hKn I.1.1 q0 4 hw rfl hin hd k) h
  case iastore =>
    obtain rfl : len = 1 := hlen 1 rfl
    exact si_ast (t := 1) (w := id) (nar := id) (by omega) hk I (fun v _ _ hv => ⟨hv, rfl⟩) (fun q0 a n f i x rest hw hin k => va_iast hx hb hKn I.1.1 (sm_ws_D G σ) I.2.1 q0 0 hw rfl hin hd (fun H1 l1 hP _ hS => k H1 l1 hP hS)) h
  case sastore =>
    obtain rfl : len = 1 := hlen 1 rfl
    exact si_ast (t := 3) (w := am_s16) (nar := vp_nar .short) (by omega) hk I (fun v _ _ hv => ⟨sm_s16_i _, sm_s16_o hv⟩) (fun q0 a n f i x rest hw hin k => va_sast hx hb hKn I.1.1 (sm_ws_D G σ) I.2.1 q0 2 hw rfl hin hd (fun H1 l1 hP _ hS => k H1 l1 hP hS)) h
  case bastore =>
    obtain rfl : len = 1 := hlen 1 rfl
    rcases hop with rfl | rfl
    · exact si_ast (t := 2) (w := am_s8) (nar := vp_nar .byte) (by omega) hk I (fun v _ _ hv => ⟨sm_s8_i _, sm_s8_o hv⟩) (fun q0 a n f i x rest hw hin k => va_bast hx hb hKn I.1.1 (sm_ws_D G σ) I.2.1 q0 1 hw rfl hin hd (fun H1 l1 hP _ hS => k H1 l1 hP hS)) h
    · have h9 : ∃ v s1, st = .inl v :: s1 ∧ am_bit v (am_ast F 4 id r ls st σ) = some out := by
        unfold am_ins at h; dsimp only at h; split at h
        · rename_i z; cases z
        · split at h
          · exact ⟨_, _, rfl, h⟩
          · cases h
      obtain ⟨v, s1, hst, h1⟩ := h9
      obtain ⟨hv, h2⟩ := iv_bit h1
      exact si_ast (t := 4) (w := id) (nar := vp_nar .boolean) (by omega) hk I (fun v2 s2 e hv2 => ⟨hv2, by rw [hst] at e; cases e; exact (sm_bit32 hv).2.2⟩) (fun q0 a n f i x rest hw hin k => va_zast hx hb hKn I.1.1 (sm_ws_D G σ) I.2.1 q0 3 hw rfl hin hd (fun H1 l1 hP _ hS => k H1 l1 hP hS)) h2
  case lastore =>
    obtain rfl : len = 1 := hlen 1 rfl
    exact si_last hk I (fun q0 a n f i x rest hw hin k => va_last hx hb hKn I.1.1 (sm_ws_D G σ) I.2.1 q0 4 hw rfl hin hd (fun H1 l1 hP _ hS => k H1 l1 hP hS)) h
  case ireturn =>
    obtain rfl : len = 1 := hlen 1 rfl
    exact si_iret X0 hd hop.1 hop.2 I h
  case lreturn =>
    obtain rfl : len = 1 := hlen 1 rfl
    exact si_lret X0 hd hop I h
  case areturn =>
    obtain rfl : len = 1 := hlen 1 rfl
    obtain ⟨rt, h1, h2⟩ := hop
    exact si_aret X0 hd h1 h2 I h
  case return_ =>
    obtain rfl : len = 1 := hlen 1 rfl
    exact si_vret X0 hd hop I h
  case if_acmp cd off =>
    obtain rfl : len = 3 := hlen 3 rfl
    obtain ⟨tgt, h1, h2⟩ := hop
    obtain ⟨Y, Z, s1, rfl, h3⟩ := iv_rr h
    have I' := I.p0 (st' := s1) (fun v hv => by simp [hv])
    unfold am_acmp at h3
    split at h3
    · rename_i x y
      have key : sm_co G (.inl x) = sm_co G (.inl y) ↔ x = y := sm_co_inj hb1 x y
      cases cd
      · refine lv_acmp_eq hx hb hd h2 (fun q => ?_) (fun q => ?_)
        · dsimp only at h3; rw [if_pos (key.mp q)] at h3; exact hj _ _ h1 _ _ _ _ _ _ _ _ I' h3
        · dsimp only at h3; rw [if_neg (fun z => q (key.mpr z))] at h3; exact hk _ _ _ _ _ _ _ _ I' h3
      · refine lv_acmp_ne hx hb hd h2 (fun q => ?_) (fun q => ?_)
        · dsimp only at h3; rw [if_neg (fun z => q (key.mpr z))] at h3; exact hj _ _ h1 _ _ _ _ _ _ _ _ I' h3
        · dsimp only at h3; rw [if_pos (key.mp q)] at h3; exact hk _ _ _ _ _ _ _ _ I' h3
    · cases h3
  case ifnull off =>
    obtain rfl : len = 3 := hlen 3 rfl
    obtain ⟨tgt, h1, h2⟩ := hop
    obtain ⟨Y, s1, rfl, h3⟩ := iv_pr h
    have I' := I.p0 (st' := s1) (fun v hv => by simp [hv])
    rcases Y with (_ | a) | j
    · exact lv_ifnullN hx hb hd h2 (hj _ _ h1 _ _ _ _ _ _ _ _ I' h3)
    · exact lv_ifnull hx hb hd (hk _ _ _ _ _ _ _ _ I' h3)
    · exact lv_ifnull hx hb hd (hk _ _ _ _ _ _ _ _ I' h3)
  case ifnonnull off =>
    obtain rfl : len = 3 := hlen 3 rfl
    obtain ⟨tgt, h1, h2⟩ := hop
    obtain ⟨Y, s1, rfl, h3⟩ := iv_pr h
    have I' := I.p0 (st' := s1) (fun v hv => by simp [hv])
    rcases Y with (_ | a) | j
    · exact lv_ifnonnullN hx hb hd (hk _ _ _ _ _ _ _ _ I' h3)
    · exact lv_ifnonnull hx hb hd h2 (hj _ _ h1 _ _ _ _ _ _ _ _ I' h3)
    · exact lv_ifnonnull hx hb hd h2 (hj _ _ h1 _ _ _ _ _ _ _ _ I' h3)
  case tableswitch d lw hi offs =>
    obtain ⟨h1, ⟨tgt, h2, h3⟩, h4⟩ := hop
    refine si_tsw hx hb hd h1 ⟨tgt, h2, h3⟩ (fun i t ht => ?_) hj I h
    obtain ⟨off, g1, tg, g2, g3⟩ := h4 i t ht
    exact ⟨tg, off, g1, g2, g3⟩
  case lookupswitch d prs =>
    obtain ⟨h1, h2, ⟨tgt, h3, h4⟩, h5⟩ := hop
    exact si_lsw hx hb hd h1 h2 ⟨tgt, h3, h4⟩ h5 hj I h
  case aaload =>
    obtain rfl : len = 1 := hlen 1 rfl
    have row : ∀ (t k0 : Nat) (ty : FieldType), 10 ≤ t → ty.isReference = true → (sm_tys G)[k0]? = some (G.2.2.2.2 t, ty) → o.getD 0 0 = t → W p l e R s m args below meth c H locs cells slots (sm_Q below s G L xs n0 t0 out) (F0 m pc J (st.map (sm_v G))) := by
      intro t k0 ty h10 hty hts0 ho
      unfold am_ins at h; dsimp only at h; rw [ho] at h
      exact si_aald (t := t) h10 hk I (fun q0 a n f i rest hw hin k => si_aldT hx hb hKn I.1.1 q0 k0 hty hw hts0 hin hd k) h
    rcases hop with rfl | rfl | rfl | rfl
    · exact row 10 5 _ (by omega) rfl rfl rfl
    · exact row 12 6 _ (by omega) rfl rfl rfl
    · exact row 13 8 _ (by omega) rfl rfl rfl
    · exact row 11 7 _ (by omega) rfl rfl rfl
  case arraylength =>
    obtain rfl : len = 1 := hlen 1 rfl
    rcases hop with ⟨t, rfl, ht⟩ | rfl
    · have row : ∀ (k0 : Nat) (ty : FieldType), t ≠ 0 → (sm_tys G)[k0]? = some (G.2.2.2.2 t, ty) → W p l e R s m args below meth c H locs cells slots (sm_Q below s G L xs n0 t0 out) (F0 m pc J (st.map (sm_v G))) := by
        intro k0 ty h0 hts0
        exact si_alen (t := t) h0 hk I (fun q0 a x v rest hw hv k => va_alen hx hb hKn I.1.1 q0 k0 hw hts0 hv hd k) (fun _ rest k => va_slen hx hb hXs hbs hbA I.2.1 hd (by rw [show Int32.ofNat L = Int32.ofInt L from Int32.ofInt_eq_ofNat.symm]; exact k)) h
      rcases ht with rfl | rfl | rfl | rfl
      · exact row 0 _ (by omega) rfl
      · exact row 2 _ (by omega) rfl
      · exact row 5 _ (by omega) rfl
      · exact row 7 _ (by omega) rfl
    · obtain ⟨Y, s2, rfl, h2⟩ := iv_pr h
      obtain ⟨j, rfl, h3⟩ := iv_ct h2
      obtain ⟨h4, h5⟩ := iv_cd1 h3
      simp only [Bool.and_eq_true, Nat.ble_eq, Nat.blt_eq] at h4
      obtain ⟨q, hq, hT⟩ := sm_chr hcst h4.1 h4.2
      exact va_tlen hx hb hT.2 I.2.1 (Int32.ofInt_eq_ofNat).symm hd (hk _ _ _ _ _ _ _ _ (I.p1 (st' := s2) (v := am_i (am_cl j)) (fun v hv => by simp [hv]) (sm_cl_i h4.1 h4.2)) h5)
  case caload =>
    obtain rfl : len = 1 := hlen 1 rfl
    obtain ⟨x, s1, rfl, h1⟩ := iv_p1 h
    obtain ⟨Y, s2, rfl, h2⟩ := iv_pr h1
    obtain ⟨j, rfl, h3⟩ := iv_ct h2
    obtain ⟨h4, h5⟩ := iv_cd1 h3
    simp only [Bool.and_eq_true, Nat.ble_eq, Nat.blt_eq] at h4
    obtain ⟨hxi, h6⟩ := iv_idx h5
    obtain ⟨q, hq, hT⟩ := sm_chr hcst h4.1 h4.2
    obtain ⟨hin, hcl⟩ := sm_in hxi (sm_cl_lt h4.1 h4.2)
    refine va_tc hx hb hT.2 I.2.1 hin rfl hd ?_
    rw [hcl]
    exact hk _ _ _ _ _ _ _ _ (I.p1 (st' := s2) (v := am_i (am_cc j x.toNat)) (fun v hv => by simp [hv]) (sm_cc_i h4.1 h4.2 _)) h6
  case getstatic idx =>
    obtain rfl : len = 3 := hlen 3 rfl
    obtain ⟨j, n, rfl, h1, h2⟩ := hop
    exact va_gets hx hb (hcst.2.2.1 j n h1).1 I.2.1 hown (hts _ h2) (fun x h => h) hd (hk _ _ _ _ _ _ _ _ (I.p1 (v := am_r (am_k (am_ns + j))) (fun v hv => hv) trivial) h)
  case ldc idx =>
    obtain rfl : len = 2 := hlen 2 rfl
    rcases hop with ⟨v, rfl, h1, h2⟩ | ⟨j, tx, rfl, h1⟩
    · exact si_push (v := am_i v) hk I (fun k => lv_ldc hx hb hown (hts _ h2) hd k) ⟨by omega, by omega⟩ h
    · exact si_push (v := am_r (am_k j)) hk I (fun k => va_ldcS hx hb hown (hcst.1 j _ h1) hd k) trivial h
  case ldc_w idx =>
    obtain rfl : len = 3 := hlen 3 rfl
    rcases hop with ⟨v, rfl, h1, h2⟩ | ⟨j, tx, rfl, h1⟩
    · exact si_push (v := am_i v) hk I (fun k => lv_ldcw hx hb hown (hts _ h2) hd k) ⟨by omega, by omega⟩ h
    · exact si_push (v := am_r (am_k j)) hk I (fun k => si_ldcwS hx hb hown (hcst.1 j _ h1) hd k) trivial h
  case ldc2_w idx =>
    obtain rfl : len = 3 := hlen 3 rfl
    obtain ⟨h1, h2⟩ := hop
    exact si_push (v := am_l (o.getD 0 0 : Nat)) hk I (fun k => lv_ldc2 hx hb hown (hts _ h2) hd k) ⟨by omega, by omega⟩ h
  case nop => exact absurd rfl hi0
  all_goals first | exact absurd trivial hlt | (cases h)
end
