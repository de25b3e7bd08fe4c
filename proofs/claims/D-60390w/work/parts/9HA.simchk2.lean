/-! SIMULATION, 29: the code check: instructions, blocks, methods -/
def sm_cj (ps : List Nat) (pc : Nat) (off : Int) (k : Nat) : Bool := match ps[k]? with
  | some t => decide ((pc : Int) + off = (t : Int))
  | none => false
theorem sm_cj_ok {ps : List Nat} {pc k : Nat} {off : Int} (h : sm_cj ps pc off k = true) : sm_jmp ps pc off k := by
  unfold sm_cj at h
  split at h
  · rename_i t ht; exact ⟨t, ht, of_decide_eq_true h⟩
  · cases h
def sm_cjs (ps : List Nat) (pc : Nat) : List Int → List Nat → Bool
  | [], [] => true
  | off :: offs, k :: ks => sm_cj ps pc off k && sm_cjs ps pc offs ks
  | _, _ => false
theorem sm_cjs_ok {ps : List Nat} {pc : Nat} : ∀ {offs : List Int} {ks : List Nat}, sm_cjs ps pc offs ks = true → ks.length = offs.length ∧ ∀ (i t : Nat), ks[i]? = some t → ∃ off : Int, offs[i]? = some off ∧ sm_jmp ps pc off t
  | [], [], _ => ⟨rfl, fun i t h => by cases h⟩
  | off :: offs, [], h => by cases h
  | [], k :: ks, h => by cases h
  | off :: offs, k :: ks, h => by
    unfold sm_cjs at h
    simp only [Bool.and_eq_true] at h
    obtain ⟨h1, h2⟩ := sm_cjs_ok h.2
    refine ⟨by rw [List.length_cons, List.length_cons, h1], fun i t hi => ?_⟩
    cases i with
    | zero => cases hi; exact ⟨off, rfl, sm_cj_ok h.1⟩
    | succ i => exact h2 i t hi
def sm_ckh (tab : List sm_P) (hh : List (Nat × Nat × Nat × Nat)) (ps : List Nat) (pc h : Nat) : Bool := match h with
  | 0 => hh.all fun x => !(Nat.ble x.1 pc && Nat.blt pc x.2.1)
  | k + 1 => (match hh with
    | [x] => Nat.ble x.1 pc && Nat.blt pc x.2.1 && decide (ps[k]? = some x.2.2.1) && !(Nat.beq x.2.2.2 0) && (sm_lu tab 9 x.2.2.2).isSome
    | _ => false)
theorem sm_ckh_ok {mi : Nat → Nat → Option sm_I} {own : String} {tab : List sm_P} (H : ∀ e ∈ tab, sm_pok mi own e.1 e.2.1 e.2.2.1) {hh : List (Nat × Nat × Nat × Nat)} {ps : List Nat} {pc h : Nat} (hc : sm_ckh tab hh ps pc h = true) : sm_hop own hh ps pc h := by
  cases h with
  | zero =>
    intro x hx hz
    have := List.all_eq_true.mp hc x hx
    simp only [Bool.not_eq_true', Bool.and_eq_false_iff] at this
    rcases this with h | h
    · rw [Nat.ble_eq.mpr hz.1] at h; cases h
    · rw [Nat.blt_eq.mpr hz.2] at h; cases h
  | succ k =>
    unfold sm_ckh at hc
    split at hc
    · rename_i e; cases e
    · rename_i k' e
      cases e
      split at hc
      · rename_i x
        simp only [Bool.and_eq_true, Nat.ble_eq, Nat.blt_eq, decide_eq_true_eq, Bool.not_eq_true', Option.isSome_iff_exists] at hc
        obtain ⟨⟨⟨⟨h1, h2⟩, h3⟩, h4⟩, d, h5⟩ := hc
        exact ⟨x, rfl, h1, h2, h3, Nat.ne_of_beq_eq_false h4, sm_lu_ok H h5⟩
      · cases hc
def sm_ckc (tab : List sm_P) (hh : List (Nat × Nat × Nat × Nat)) (ps : List Nat) (pc kind idx : Nat) (o : List Nat) : Bool := match o with
  | [kd, c, i, n, _, h, _] => Nat.beq kd kind && decide (sm_lu tab 3 idx = some [kind, c, i, n]) && sm_ckh tab hh ps pc h
  | _ => false
theorem sm_ckc_ok {mi : Nat → Nat → Option sm_I} {own : String} {tab : List sm_P} (H : ∀ e ∈ tab, sm_pok mi own e.1 e.2.1 e.2.2.1) {hh : List (Nat × Nat × Nat × Nat)} {ps : List Nat} {pc kind idx : Nat} {o : List Nat} (hc : sm_ckc tab hh ps pc kind idx o = true) :
    ∃ cn i n rt h x, o = [kind, cn, i, n, rt, h, x] ∧ sm_cop mi own kind idx o ∧ sm_hop own hh ps pc h := by
  unfold sm_ckc at hc
  split at hc
  · rename_i kd c i n rt h x
    simp only [Bool.and_eq_true, decide_eq_true_eq] at hc
    obtain ⟨⟨h1, h2⟩, h3⟩ := hc
    cases Nat.eq_of_beq_eq_true h1
    obtain ⟨k', c', i', n', e, hall⟩ := sm_lu_ok H h2
    cases e
    exact ⟨c, i, n, rt, h, x, rfl, hall rt h x, sm_ckh_ok H h3⟩
  · cases hc
def sm_lib1 (tab : List sm_P) (idx b : Nat) : Bool := decide (sm_lu tab 13 idx = some [b])
theorem sm_lib1_ok {mi : Nat → Nat → Option sm_I} {own : String} {tab : List sm_P} (H : ∀ e ∈ tab, sm_pok mi own e.1 e.2.1 e.2.2.1) {idx b : Nat} (h : sm_lib1 tab idx b = true) : Cond.methodLink own idx (sm_lib b) ∈ sm_tbl := by
  obtain ⟨b', e, h1⟩ := sm_lu_ok H (of_decide_eq_true h)
  cases e
  exact h1
def sm_atag : ArrayType → Nat
  | .int => 1
  | .byte => 2
  | .short => 3
  | .boolean => 4
  | .long => 6
  | _ => 0
def sm_ckl (tab : List sm_P) (idx : Nat) (o : List Nat) : Bool := match o with
  | [k, v] => cond (Nat.beq k 0) (decide (sm_lu tab 5 idx = some [v])) (Nat.beq k 1 && decide (sm_lu tab 4 idx = some [v]))
  | _ => false
theorem sm_ckl_ok {mi : Nat → Nat → Option sm_I} {own : String} {tab : List sm_P} (H : ∀ e ∈ tab, sm_pok mi own e.1 e.2.1 e.2.2.1) {idx : Nat} {o : List Nat} (h : sm_ckl tab idx o = true) : sm_lop own idx o := by
  unfold sm_ckl at h
  split at h
  · rename_i k v
    cases hk : Nat.beq k 0 with
    | true =>
      rw [hk] at h
      cases Nat.eq_of_beq_eq_true hk
      obtain ⟨v', e, h1⟩ := sm_lu_ok H (of_decide_eq_true h)
      cases e
      exact Or.inl ⟨v, rfl, h1⟩
    | false =>
      rw [hk] at h
      simp only [cond_false, Bool.and_eq_true, decide_eq_true_eq] at h
      cases Nat.eq_of_beq_eq_true h.1
      obtain ⟨j, tx, e, h1⟩ := sm_lu_ok H h.2
      cases e
      exact Or.inr ⟨v, tx, rfl, h1⟩
  · cases h
def sm_ckf (tab : List sm_P) (kd idx : Nat) (o : List Nat) : Bool := match o with
  | [cn, k, f] => decide (sm_lu tab kd idx = some [cn, k]) && Nat.beq f (sm_fk cn k)
  | _ => false
/-- the check of an instruction -/
def sm_ck (tab : List sm_P) (ini lo : Bool) (ret : Option FieldType) (hh : List (Nat × Nat × Nat × Nat)) (ps : List Nat) (pc : Nat) (i : Instr) (o : List Nat) : Bool := match i with
  | .ifCond _ off => sm_cj ps pc off (o.getD 0 0)
  | .if_icmp _ off => sm_cj ps pc off (o.getD 0 0)
  | .if_acmp _ off => sm_cj ps pc off (o.getD 0 0)
  | .ifnull off => sm_cj ps pc off (o.getD 0 0)
  | .ifnonnull off => sm_cj ps pc off (o.getD 0 0)
  | .goto off => sm_cj ps pc off (o.getD 0 0)
  | .tableswitch d lw hi offs => decide (lw + ((o.drop 1).length : Nat) = hi + 1) && sm_cj ps pc d (o.getD 0 0) && sm_cjs ps pc offs.toList (o.drop 1)
  | .lookupswitch d prs => (prs.toList.zip (prs.toList.drop 1)).all (fun (a, next) => a.1 < next.1) && sm_cj ps pc d (o.getD 0 0) && sm_cjs ps pc (prs.toList.map (·.2)) (o.drop 1)
  | .getfield idx => sm_ckf tab 0 idx o
  | .putfield idx => sm_ckf tab 1 idx o || (ini && sm_ckf tab 2 idx o)
  | .istore _ => !(o.isEmpty && lo)
  | .istore_n _ => !(o.isEmpty && lo)
  | .astore _ => !(o.isEmpty && lo)
  | .astore_n _ => !(o.isEmpty && lo)
  | .lstore _ => lo
  | .lstore_n _ => lo
  | .ireturn => (match ret with
    | some .int => o.isEmpty
    | some .boolean => !o.isEmpty
    | _ => false)
  | .lreturn => decide (ret = some .long)
  | .areturn => (match ret with
    | some (.object _) => true
    | some (.array _) => true
    | _ => false)
  | .return_ => decide (ret = none)
  | .baload => decide (o = [2]) || decide (o = [4])
  | .bastore => decide (o = [2]) || decide (o = [4])
  | .aaload => decide (o = [10]) || decide (o = [12]) || decide (o = [13]) || decide (o = [11])
  | .ldc idx => sm_ckl tab idx o
  | .ldc_w idx => sm_ckl tab idx o
  | .ldc2_w idx => decide (sm_lu tab 6 idx = some [o.getD 0 0])
  | .arraylength => (match o with
    | [a, t] => Nat.beq a 0 && (Nat.beq t 1 || Nat.beq t 3 || Nat.beq t 10 || Nat.beq t 11)
    | [a] => Nat.beq a 1
    | _ => false)
  | .getstatic idx => (match o with
    | [v] => Nat.ble am_ns v && decide (sm_lu tab 7 idx = some [v - am_ns])
    | _ => false)
  | .newarray at_ => !(Nat.beq (sm_atag at_) 0) && decide (o = [sm_atag at_])
  | .anewarray idx => (decide (o = [10]) && decide (sm_lu tab 10 idx = some [10])) || (decide (o = [12]) && decide (sm_lu tab 11 idx = some [12])) || (decide (o = [11]) && decide (sm_lu tab 12 idx = some [11]))
  | .new idx => (match o with
    | [cn] => decide (sm_lu tab 8 idx = some [cn])
    | _ => false)
  | .aastore => decide (o = [10]) || decide (o = [11]) || decide (o = [12])
  | .athrow => hh.all fun x => !(Nat.ble x.1 pc && Nat.blt pc x.2.1)
  | .multianewarray idx d => Nat.beq d 2 && decide (o = [13, 1]) && (sm_lu tab 14 idx).isSome
  | .invokestatic idx => sm_ckc tab hh ps pc 0 idx o || (decide (o = [4, 0, 0, 2, 0, 0, 0]) && sm_lib1 tab idx 4) || (decide (o = [5, 0, 0, 2, 0, 0, 0]) && sm_lib1 tab idx 5)
  | .invokevirtual idx => sm_ckc tab hh ps pc 1 idx o || (decide (o = [6, 0, 0, 1, 0, 0, 0]) && sm_lib1 tab idx 6) || (decide (o = [7, 0, 0, 2, 0, 0, 0]) && sm_lib1 tab idx 7)
  | .invokespecial idx => sm_ckc tab hh ps pc 2 idx o || (decide (o = [3, 0, 0, 1, 0, 0, 0]) && sm_lib1 tab idx 3)
  | _ => true
def sm_arrs : Prop := Cond.arrayClass (newarray.typeOf .int) ∈ sm_tbl ∧ Cond.arrayClass (newarray.typeOf .byte) ∈ sm_tbl ∧ Cond.arrayClass (newarray.typeOf .short) ∈ sm_tbl ∧ Cond.arrayClass (newarray.typeOf .boolean) ∈ sm_tbl ∧ Cond.arrayClass (newarray.typeOf .long) ∈ sm_tbl ∧ Cond.arrayOver (.array (.object "java/lang/String")) ∈ sm_tbl
theorem sm_ckf_ok {mi : Nat → Nat → Option sm_I} {own : String} {tab : List sm_P} (H : ∀ e ∈ tab, sm_pok mi own e.1 e.2.1 e.2.2.1) {idx : Nat} {o : List Nat} (h : sm_ckf tab 0 idx o = true) : sm_fop own idx o (fun _ _ => True) := by
  unfold sm_ckf at h
  split at h
  · simp only [Bool.and_eq_true, decide_eq_true_eq] at h
    obtain ⟨cn, k, rc, e, h1, h2, h3⟩ := sm_lu_ok H h.1
    cases e
    cases Nat.eq_of_beq_eq_true h.2
    exact ⟨_, _, rc, rfl, h1, h2, h3, trivial⟩
  · cases h
theorem sm_ckf_1 {mi : Nat → Nat → Option sm_I} {own nm : String} {tab : List sm_P} (H : ∀ e ∈ tab, sm_pok mi own e.1 e.2.1 e.2.2.1) {idx : Nat} {o : List Nat} (h : sm_ckf tab 1 idx o = true) : sm_fop own idx o (sm_fin nm own idx) := by
  unfold sm_ckf at h
  split at h
  · simp only [Bool.and_eq_true, decide_eq_true_eq] at h
    obtain ⟨cn, k, rc, e, h1, h2, h3, h4⟩ := sm_lu_ok H h.1
    cases e
    cases Nat.eq_of_beq_eq_true h.2
    exact ⟨_, _, rc, rfl, h1, h2, h3, Or.inl h4⟩
  · cases h
theorem sm_ckf_2 {mi : Nat → Nat → Option sm_I} {own nm : String} (hnm : nm = "<init>") {tab : List sm_P} (H : ∀ e ∈ tab, sm_pok mi own e.1 e.2.1 e.2.2.1) {idx : Nat} {o : List Nat} (h : sm_ckf tab 2 idx o = true) : sm_fop own idx o (sm_fin nm own idx) := by
  unfold sm_ckf at h
  split at h
  · simp only [Bool.and_eq_true, decide_eq_true_eq] at h
    obtain ⟨cn, k, rc, e, h1, h2, h3, h4, h5, h6⟩ := sm_lu_ok H h.1
    cases e
    cases Nat.eq_of_beq_eq_true h.2
    exact ⟨_, _, rc, rfl, h1, h2, h3, Or.inr ⟨h4, hnm, h5, h6⟩⟩
  · cases h
theorem sm_cov {hh : List (Nat × Nat × Nat × Nat)} {pc : Nat} (h : (hh.all fun x => !(Nat.ble x.1 pc && Nat.blt pc x.2.1)) = true) : ∀ x ∈ hh, ¬ (x.1 ≤ pc ∧ pc < x.2.1) := by
  intro x hx hz
  have := List.all_eq_true.mp h x hx
  simp only [Bool.not_eq_true', Bool.and_eq_false_iff] at this
  rcases this with h | h
  · rw [Nat.ble_eq.mpr hz.1] at h; cases h
  · rw [Nat.blt_eq.mpr hz.2] at h; cases h
theorem sm_emp {o : List Nat} {lo : Bool} (h : (!(o.isEmpty && lo)) = true) : o = [] → lo = false := by
  rintro rfl
  cases lo
  · rfl
  · cases h
theorem sm_ck_ok {mi : Nat → Nat → Option sm_I} {own nm : String} {tab : List sm_P} (H : ∀ e ∈ tab, sm_pok mi own e.1 e.2.1 e.2.2.1) (HA : sm_arrs) {ini lo : Bool} (hini : ini = true → nm = "<init>") {ret : Option FieldType} {hh : List (Nat × Nat × Nat × Nat)} {ps : List Nat} {pc : Nat} {i : Instr} {o : List Nat} (h : sm_ck tab ini lo ret hh ps pc i o = true) :
    sm_op mi own nm lo ret ps pc i o ∧ sm_op2 mi own hh ps pc i o := by
  cases i
  case ifCond => exact ⟨sm_cj_ok h, trivial⟩
  case if_icmp => exact ⟨sm_cj_ok h, trivial⟩
  case if_acmp => exact ⟨sm_cj_ok h, trivial⟩
  case ifnull => exact ⟨sm_cj_ok h, trivial⟩
  case ifnonnull => exact ⟨sm_cj_ok h, trivial⟩
  case goto => exact ⟨sm_cj_ok h, trivial⟩
  case tableswitch d lw hi offs =>
    have h : (decide (lw + ((o.drop 1).length : Nat) = hi + 1) && sm_cj ps pc d (o.getD 0 0) && sm_cjs ps pc offs.toList (o.drop 1)) = true := h
    simp only [Bool.and_eq_true, decide_eq_true_eq] at h
    refine ⟨⟨h.1.1, sm_cj_ok h.1.2, fun i t hi => ?_⟩, trivial⟩
    obtain ⟨off, h1, h2⟩ := (sm_cjs_ok h.2).2 i t hi
    exact ⟨off, by rw [← Array.getElem?_toList]; exact h1, h2⟩
  case lookupswitch d prs =>
    have h : ((prs.toList.zip (prs.toList.drop 1)).all (fun (a, next) => a.1 < next.1) && sm_cj ps pc d (o.getD 0 0) && sm_cjs ps pc (prs.toList.map (·.2)) (o.drop 1)) = true := h
    rw [Bool.and_eq_true, Bool.and_eq_true] at h
    obtain ⟨g1, g2⟩ := sm_cjs_ok h.2
    refine ⟨⟨h.1.1, by rw [g1, List.length_map], sm_cj_ok h.1.2, fun i t q hi hq => ?_⟩, trivial⟩
    obtain ⟨off, h1, h2⟩ := g2 i t hi
    rw [List.getElem?_map, hq] at h1
    cases h1
    exact h2
  case getfield => exact ⟨sm_ckf_ok H h, trivial⟩
  case putfield idx =>
    have h : (sm_ckf tab 1 idx o || (ini && sm_ckf tab 2 idx o)) = true := h
    rw [Bool.or_eq_true, Bool.and_eq_true] at h
    rcases h with h | h
    · exact ⟨sm_ckf_1 H h, trivial⟩
    · exact ⟨sm_ckf_2 (hini h.1) H h.2, trivial⟩
  case istore => exact ⟨sm_emp h, trivial⟩
  case istore_n => exact ⟨sm_emp h, trivial⟩
  case astore => exact ⟨sm_emp h, trivial⟩
  case astore_n => exact ⟨sm_emp h, trivial⟩
  case lstore => exact ⟨h, trivial⟩
  case lstore_n => exact ⟨h, trivial⟩
  case ireturn =>
    refine ⟨?_, trivial⟩
    unfold sm_ck at h
    dsimp only at h
    split at h
    · have e : o = [] := List.isEmpty_iff.mp h
      exact ⟨Or.inl ⟨e, rfl⟩, fun _ => rfl⟩
    · refine ⟨Or.inr rfl, fun e => ?_⟩
      rw [e] at h; cases h
    · cases h
  case lreturn =>
    have h2 : decide (ret = some FieldType.long) = true := h
    exact ⟨show ret = some FieldType.long from of_decide_eq_true h2, trivial⟩
  case areturn =>
    refine ⟨?_, trivial⟩
    unfold sm_ck at h
    dsimp only at h
    split at h
    · exact ⟨_, rfl, Or.inl ⟨_, rfl⟩⟩
    · exact ⟨_, rfl, Or.inr ⟨_, rfl⟩⟩
    · cases h
  case return_ =>
    have h2 : decide (ret = none) = true := h
    exact ⟨show ret = none from of_decide_eq_true h2, trivial⟩
  case baload =>
    have h : (decide (o = [2]) || decide (o = [4])) = true := h
    simp only [Bool.or_eq_true, decide_eq_true_eq] at h
    exact ⟨h, trivial⟩
  case bastore =>
    have h : (decide (o = [2]) || decide (o = [4])) = true := h
    simp only [Bool.or_eq_true, decide_eq_true_eq] at h
    exact ⟨h, trivial⟩
  case aaload =>
    have h : (decide (o = [10]) || decide (o = [12]) || decide (o = [13]) || decide (o = [11])) = true := h
    simp only [Bool.or_eq_true, decide_eq_true_eq, or_assoc] at h
    exact ⟨h, trivial⟩
  case ldc => exact ⟨sm_ckl_ok H h, trivial⟩
  case ldc_w => exact ⟨sm_ckl_ok H h, trivial⟩
  case ldc2_w =>
    obtain ⟨v, e, h1, h2⟩ := sm_lu_ok H (of_decide_eq_true h)
    have e : o.getD 0 0 = v := (List.cons.inj e).1
    exact ⟨⟨by rw [e]; exact h1, by rw [e]; exact h2⟩, trivial⟩
  case arraylength =>
    refine ⟨?_, trivial⟩
    unfold sm_ck at h
    dsimp only at h
    split at h
    · rename_i a t
      simp only [Bool.and_eq_true, Bool.or_eq_true] at h
      cases Nat.eq_of_beq_eq_true h.1
      refine Or.inl ⟨t, rfl, ?_⟩
      rcases h.2 with ((h | h) | h) | h
      · exact Or.inl (Nat.eq_of_beq_eq_true h)
      · exact Or.inr (Or.inl (Nat.eq_of_beq_eq_true h))
      · exact Or.inr (Or.inr (Or.inl (Nat.eq_of_beq_eq_true h)))
      · exact Or.inr (Or.inr (Or.inr (Nat.eq_of_beq_eq_true h)))
    · cases Nat.eq_of_beq_eq_true h
      exact Or.inr rfl
    · cases h
  case getstatic idx =>
    refine ⟨?_, trivial⟩
    unfold sm_ck at h
    dsimp only at h
    split at h
    · rename_i v
      simp only [Bool.and_eq_true, Nat.ble_eq, decide_eq_true_eq] at h
      obtain ⟨j, n, e, h1, h2⟩ := sm_lu_ok H h.2
      obtain rfl : v - am_ns = j := (List.cons.inj e).1
      exact ⟨v - am_ns, n, by rw [Nat.add_sub_cancel' h.1], h1, h2⟩
    · cases h
  case newarray at_ =>
    refine ⟨trivial, ?_⟩
    have h : (!(Nat.beq (sm_atag at_) 0) && decide (o = [sm_atag at_])) = true := h
    rw [Bool.and_eq_true, decide_eq_true_eq] at h
    obtain ⟨a1, a2, a3, a4, a5, -⟩ := HA
    cases at_
    case int => exact ⟨1, h.2, Or.inl ⟨rfl, rfl⟩, a1⟩
    case byte => exact ⟨2, h.2, Or.inr (Or.inl ⟨rfl, rfl⟩), a2⟩
    case short => exact ⟨3, h.2, Or.inr (Or.inr (Or.inl ⟨rfl, rfl⟩)), a3⟩
    case boolean => exact ⟨4, h.2, Or.inr (Or.inr (Or.inr (Or.inl ⟨rfl, rfl⟩))), a4⟩
    case long => exact ⟨6, h.2, Or.inr (Or.inr (Or.inr (Or.inr ⟨rfl, rfl⟩))), a5⟩
    all_goals exact absurd h.1 (by decide)
  case anewarray idx =>
    refine ⟨trivial, ?_⟩
    have h : ((decide (o = [10]) && decide (sm_lu tab 10 idx = some [10])) || (decide (o = [12]) && decide (sm_lu tab 11 idx = some [12])) || (decide (o = [11]) && decide (sm_lu tab 12 idx = some [11]))) = true := h
    simp only [Bool.or_eq_true, Bool.and_eq_true, decide_eq_true_eq] at h
    rcases h with (⟨rfl, g⟩ | ⟨rfl, g⟩) | ⟨rfl, g⟩
    · obtain ⟨-, h1, h2⟩ := sm_lu_ok H g
      exact Or.inl ⟨10, 5, _, rfl, Or.inl ⟨rfl, rfl, rfl⟩, h1, h2⟩
    · obtain ⟨-, h1, h2⟩ := sm_lu_ok H g
      exact Or.inl ⟨12, 6, _, rfl, Or.inr ⟨rfl, rfl, rfl⟩, h1, h2⟩
    · obtain ⟨-, h1, h2⟩ := sm_lu_ok H g
      exact Or.inr ⟨rfl, h1, h2⟩
  case new idx =>
    refine ⟨trivial, ?_⟩
    unfold sm_ck at h
    dsimp only at h
    split at h
    · obtain ⟨cn, rc, e, h1⟩ := sm_lu_ok H (of_decide_eq_true h)
      cases e
      exact ⟨_, rc, rfl, h1⟩
    · cases h
  case aastore =>
    refine ⟨trivial, ?_⟩
    have h : (decide (o = [10]) || decide (o = [11]) || decide (o = [12])) = true := h
    simp only [Bool.or_eq_true, decide_eq_true_eq] at h
    rcases h with (h | h) | h
    · exact Or.inl h
    · exact Or.inr (Or.inl ⟨h, HA.2.2.2.2.2⟩)
    · exact Or.inr (Or.inr h)
  case athrow => exact ⟨trivial, sm_cov h⟩
  case multianewarray idx d =>
    refine ⟨trivial, ?_⟩
    have h : (Nat.beq d 2 && decide (o = [13, 1]) && (sm_lu tab 14 idx).isSome) = true := h
    simp only [Bool.and_eq_true, decide_eq_true_eq, Option.isSome_iff_exists] at h
    obtain ⟨⟨h1, h2⟩, d', h3⟩ := h
    obtain ⟨w1, w2⟩ := sm_lu_ok H h3
    exact ⟨Nat.eq_of_beq_eq_true h1, h2, w1, w2, HA.1⟩
  case invokestatic idx =>
    have h : (sm_ckc tab hh ps pc 0 idx o || (decide (o = [4, 0, 0, 2, 0, 0, 0]) && sm_lib1 tab idx 4) || (decide (o = [5, 0, 0, 2, 0, 0, 0]) && sm_lib1 tab idx 5)) = true := h
    simp only [Bool.or_eq_true, Bool.and_eq_true, decide_eq_true_eq] at h
    rcases h with (g | ⟨rfl, g⟩) | ⟨rfl, g⟩
    · obtain ⟨cn, i, n, rt, hn, x, e, h1, h2⟩ := sm_ckc_ok H g
      exact ⟨Or.inl h1, Or.inl ⟨cn, i, n, rt, hn, x, e, h1, h2⟩⟩
    · exact ⟨Or.inr (by decide), Or.inr (Or.inl ⟨rfl, sm_lib1_ok H g⟩)⟩
    · exact ⟨Or.inr (by decide), Or.inr (Or.inr ⟨rfl, sm_lib1_ok H g⟩)⟩
  case invokevirtual idx =>
    have h : (sm_ckc tab hh ps pc 1 idx o || (decide (o = [6, 0, 0, 1, 0, 0, 0]) && sm_lib1 tab idx 6) || (decide (o = [7, 0, 0, 2, 0, 0, 0]) && sm_lib1 tab idx 7)) = true := h
    simp only [Bool.or_eq_true, Bool.and_eq_true, decide_eq_true_eq] at h
    rcases h with (g | ⟨rfl, g⟩) | ⟨rfl, g⟩
    · obtain ⟨cn, i, n, rt, hn, x, e, h1, h2⟩ := sm_ckc_ok H g
      exact ⟨Or.inl h1, Or.inl ⟨cn, i, n, rt, hn, x, e, h1, h2⟩⟩
    · exact ⟨Or.inr (by decide), Or.inr (Or.inl ⟨rfl, sm_lib1_ok H g⟩)⟩
    · exact ⟨Or.inr (by decide), Or.inr (Or.inr ⟨rfl, sm_lib1_ok H g⟩)⟩
  case invokespecial idx =>
    have h : (sm_ckc tab hh ps pc 2 idx o || (decide (o = [3, 0, 0, 1, 0, 0, 0]) && sm_lib1 tab idx 3)) = true := h
    simp only [Bool.or_eq_true, Bool.and_eq_true, decide_eq_true_eq] at h
    rcases h with g | ⟨rfl, g⟩
    · obtain ⟨cn, i, n, rt, hn, x, e, h1, h2⟩ := sm_ckc_ok H g
      exact ⟨Or.inl h1, Or.inl ⟨cn, i, n, rt, hn, x, e, h1, h2⟩⟩
    · exact ⟨Or.inr (by decide), Or.inr ⟨rfl, sm_lib1_ok H g⟩⟩
  all_goals exact ⟨trivial, trivial⟩
def sm_isnop (i : Instr) : Bool := match i with
  | .nop => true
  | _ => false
def sm_isise (q : am_A) : Bool := match q.1 with
  | .new _ => decide (q.2 = [20])
  | _ => false
def sm_lnok (i : Instr) (len : Nat) : Bool := match sm_len i with
  | some n => Nat.beq len n
  | none => true
/-- the making of the exception: new; dup; ldc; <init> -/
def sm_ckise (tab : List sm_P) (cc : ByteArray) (pc : Nat) (q : am_A) (r : List am_A) : Bool := match q.1 with
  | .new idx => (match r[0]?, r[1]?, r[2]? with
    | some q1, some q2, some q3 => (match q2.1, q3.1, q2.2 with
      | .ldc k, .invokespecial ic, [one, j] => decide (q1 = (.dup, [])) && Nat.beq one 1 && decide (q3.2 = [8, 0, 0, 2, 0, 0, 0]) && (sm_lu tab 9 idx).isSome && sm_lib1 tab ic 8 && decide (sm_lu tab 4 k = some [j]) &&
          decide (decode cc pc = .ok (.new idx, 3)) && decide (decode cc (pc + 3) = .ok (.dup, 1)) && decide (decode cc (pc + 4) = .ok (.ldc k, 2)) && decide (decode cc (pc + 6) = .ok (.invokespecial ic, 3))
      | _, _, _ => false)
    | _, _, _ => false)
  | _ => false
/-- a block from a place on; k: instructions still within the exception's making -/
def sm_cb (tab : List sm_P) (ini lo : Bool) (ret : Option FieldType) (hh : List (Nat × Nat × Nat × Nat)) (ps : List Nat) (cc : ByteArray) : List am_A → Nat → Nat → Bool
  | [], _, _ => true
  | _ :: r, pc, k + 1 => sm_cb tab ini lo ret hh ps cc r pc k
  | q :: r, pc, 0 => cond (sm_isnop q.1) (decide (ps[q.2.getD 0 0]? = some pc)) (cond (sm_isise q) (sm_ckise tab cc pc q r && sm_cb tab ini lo ret hh ps cc r (pc + 9) 3) (match decode cc pc with
    | .ok (j, len) => decide (j = q.1) && sm_lnok j len && sm_ck tab ini lo ret hh ps pc q.1 q.2 && sm_cb tab ini lo ret hh ps cc r (pc + len) 0
    | .error _ => false))
def sm_qs (cc : ByteArray) : List am_A → Nat → Nat → List (Option Nat)
  | [], pc, _ => [some pc]
  | _ :: r, pc, k + 1 => none :: sm_qs cc r pc k
  | q :: r, pc, 0 => some pc :: cond (sm_isnop q.1) [] (cond (sm_isise q) (sm_qs cc r (pc + 9) 3) (match decode cc pc with
    | .ok (_, len) => sm_qs cc r (pc + len) 0
    | .error _ => []))
theorem sm_qs_0 (cc : ByteArray) : ∀ (is : List am_A) (pc : Nat), (sm_qs cc is pc 0)[0]? = some (some pc)
  | [], pc => rfl
  | q :: r, pc => rfl
theorem sm_qs_k (cc : ByteArray) : ∀ (k : Nat) (is : List am_A) (pc : Nat), k ≤ is.length → (sm_qs cc is pc k)[k]? = some (some pc)
  | 0, is, pc, _ => sm_qs_0 cc is pc
  | k + 1, [], pc, h => by cases h
  | k + 1, q :: r, pc, h => by
    show (none :: sm_qs cc r pc k)[k + 1]? = _
    rw [List.getElem?_cons_succ]
    exact sm_qs_k cc k r pc (Nat.le_of_succ_le_succ h)
theorem sm_cb_ok {mi : Nat → Nat → Option sm_I} {own nm : String} {tab : List sm_P} (H : ∀ e ∈ tab, sm_pok mi own e.1 e.2.1 e.2.2.1) (HA : sm_arrs) {ini lo : Bool} (hini : ini = true → nm = "<init>") {ret : Option FieldType} {hh : List (Nat × Nat × Nat × Nat)} {ps : List Nat} {cc : ByteArray} :
    ∀ (is : List am_A) (pc k : Nat), sm_cb tab ini lo ret hh ps cc is pc k = true → ∀ n, sm_one mi own nm lo ret hh ps cc is (sm_qs cc is pc k) n
  | [], pc, k, _, n => by intro i o pc' h; cases h
  | q :: r, pc, k + 1, h, n => by
    intro i o pc' h1 h2
    cases n with
    | zero => cases h2
    | succ n =>
      have := sm_cb_ok H HA hini r pc k h n i o pc' (by rw [List.getElem?_cons_succ] at h1; exact h1) (by rw [sm_qs, List.getElem?_cons_succ] at h2; exact h2)
      simpa only [sm_qs, List.getElem?_cons_succ] using this
  | q :: r, pc, 0, h, n => by
    intro i o pc' h1 h2
    unfold sm_cb at h
    cases hn : sm_isnop q.1 with
    | true =>
      rw [hn] at h
      cases n with
      | succ n => simp only [sm_qs, hn, cond_true, List.getElem?_cons_succ] at h2; cases h2
      | zero =>
        cases h1
        have e : pc = pc' := by rw [sm_qs_0] at h2; exact Option.some.inj (Option.some.inj h2)
        subst e
        refine Or.inl ⟨?_, of_decide_eq_true h⟩
        dsimp only at hn
        unfold sm_isnop at hn
        split at hn
        · rfl
        · cases hn
    | false =>
      rw [hn] at h
      cases hi : sm_isise q with
      | true =>
        rw [hi] at h
        simp only [cond_false, cond_true, Bool.and_eq_true] at h
        cases n with
        | succ n =>
          have := sm_cb_ok H HA hini r (pc + 9) 3 h.2 n i o pc' (by rw [List.getElem?_cons_succ] at h1; exact h1) (by simp only [sm_qs, hn, hi, cond_true, cond_false, List.getElem?_cons_succ] at h2; exact h2)
          simpa only [sm_qs, hn, hi, cond_true, cond_false, List.getElem?_cons_succ] using this
        | zero =>
          have e : pc = pc' := by rw [sm_qs_0] at h2; exact Option.some.inj (Option.some.inj h2)
          subst e
          obtain ⟨qi, qo⟩ := q
          cases h1
          have h3 := h.1
          unfold sm_ckise at h3
          split at h3
          · rename_i idx e1
            dsimp only at e1
            subst e1
            split at h3
            · rename_i q1 q2 q3 r1 r2 r3
              split at h3
              · rename_i k ic one j e2 e3 e4
                simp only [Bool.and_eq_true, decide_eq_true_eq, Option.isSome_iff_exists] at h3
                obtain ⟨⟨⟨⟨⟨⟨⟨⟨⟨g1, g2⟩, g3⟩, d5, g4⟩, g5⟩, g6⟩, g7⟩, g8⟩, g9⟩, g10⟩ := h3
                cases Nat.eq_of_beq_eq_true g2
                obtain ⟨j', tx, ej, hj⟩ := sm_lu_ok H g6
                cases ej
                have ho : o = [20] := of_decide_eq_true hi
                subst ho
                obtain ⟨q21, q22⟩ := q2
                obtain ⟨q31, q32⟩ := q3
                dsimp only at e2 e3 e4 g3
                subst e2 e3 e4 g3 g1
                have hlen : 3 ≤ r.length := by
                  have := (List.getElem?_eq_some_iff.mp r3).1
                  omega
                refine Or.inr (Or.inr ⟨idx, k, ic, j, tx, rfl, rfl, ?_, ?_, ?_, ?_, g7, g8, g9, g10, sm_lu_ok H g4, sm_lib1_ok H g5, hj⟩)
                · rw [List.getElem?_cons_succ]; exact r1
                · rw [List.getElem?_cons_succ]; exact r2
                · rw [List.getElem?_cons_succ]; exact r3
                · simp only [sm_qs, hn, hi, cond_true, cond_false, List.getElem?_cons_succ]
                  exact sm_qs_k cc 3 r (pc + 9) hlen
              · cases h3
            · cases h3
          · cases h3
      | false =>
        rw [hi] at h
        simp only [cond_false] at h
        split at h
        · rename_i j len hd
          simp only [Bool.and_eq_true, decide_eq_true_eq] at h
          obtain ⟨⟨⟨rfl, h3⟩, h4⟩, h5⟩ := h
          cases n with
          | succ n =>
            have := sm_cb_ok H HA hini r (pc + len) 0 h5 n i o pc' (by rw [List.getElem?_cons_succ] at h1; exact h1) (by simp only [sm_qs, hn, hi, cond_false, hd, List.getElem?_cons_succ] at h2; exact h2)
            simpa only [sm_qs, hn, hi, cond_false, hd, List.getElem?_cons_succ] using this
          | zero =>
            have e : pc = pc' := by rw [sm_qs_0] at h2; exact Option.some.inj (Option.some.inj h2)
            subst e
            cases h1
            obtain ⟨g1, g2⟩ := sm_ck_ok H HA hini h4
            refine Or.inr (Or.inl ⟨fun e => ?_, len, hd, fun n hn => ?_, g1, g2, ?_⟩)
            · dsimp only at hn; rw [e] at hn; cases hn
            · unfold sm_lnok at h3
              dsimp only at h3
              rw [hn] at h3
              exact Nat.eq_of_beq_eq_true h3
            · simp only [sm_qs, hn, hi, cond_false, hd, List.getElem?_cons_succ]
              exact sm_qs_0 cc r (pc + len)
        · cases h
/-- a method's blocks, with their starts -/
def sm_cbs (tab : List sm_P) (ini lo : Bool) (ret : Option FieldType) (hh : List (Nat × Nat × Nat × Nat)) (ps : List Nat) (cc : ByteArray) : List am_B → List Nat → Bool
  | [], [] => true
  | b :: bl, s :: ss => sm_cb tab ini lo ret hh ps cc b.2 s 0 && sm_cbs tab ini lo ret hh ps cc bl ss
  | _, _ => false
theorem sm_cbs_ok {tab : List sm_P} {ini lo : Bool} {ret : Option FieldType} {hh : List (Nat × Nat × Nat × Nat)} {ps : List Nat} {cc : ByteArray} : ∀ {bl : List am_B} {ss : List Nat}, sm_cbs tab ini lo ret hh ps cc bl ss = true → ∀ (k : Nat) (b : am_B), bl[k]? = some b → ∃ s, ss[k]? = some s ∧ sm_cb tab ini lo ret hh ps cc b.2 s 0 = true
  | [], [], _, k, b, h => by cases h
  | [], _ :: _, h, _, _, _ => by cases h
  | _ :: _, [], h, _, _, _ => by cases h
  | b :: bl, s :: ss, h, k, b', hb => by
    unfold sm_cbs at h
    rw [Bool.and_eq_true] at h
    cases k with
    | zero => cases hb; exact ⟨s, rfl, h.1⟩
    | succ k => exact sm_cbs_ok h.2 k b' hb
def sm_lo (bl : List am_B) : Bool := bl.any fun b => b.2.any fun q => match q.1 with
  | .lstore _ => true
  | .lstore_n _ => true
  | _ => false
def sm_cm (tab : List sm_P) (q : Nat × List am_B) (x : sm_X) : Bool := Nat.beq x.1.2.2.2.2.1 q.1 && decide (x.2.1[0]? = some 0) && sm_cbs tab (decide (x.1.2.2.1.name = "<init>")) (sm_lo q.2) x.1.2.2.2.2.2.1 x.1.2.2.2.2.2.2 x.2.1 x.1.2.2.2.1 q.2 x.2.1
theorem sm_cm_ok {mi : Nat → Nat → Option sm_I} {c : Nat} {x : sm_X} {q : Nat × List am_B} {tab : List sm_P} (H : ∀ e ∈ tab, sm_pok mi x.1.2.2.1.cls e.1 e.2.1 e.2.2.1) (HA : sm_arrs) (hx : sm_xok c x = true) (h : sm_cm tab q x = true) : sm_good mi q (sm_xi x) := by
  unfold sm_cm at h
  simp only [Bool.and_eq_true, decide_eq_true_eq] at h
  obtain ⟨⟨h1, h2⟩, h3⟩ := h
  have hp : plainName x.1.2.2.1.cls = true := by
    unfold sm_xok at hx
    simp only [Bool.and_eq_true] at hx
    exact hx.1.1.1.1.1.2
  refine ⟨sm_xi_cw x, hp, Nat.eq_of_beq_eq_true h1, sm_lo q.2, x.2.1, (q.2.zip x.2.1).map (fun z => sm_qs x.1.2.2.2.1 z.1.2 z.2 0), h2, fun k pc b hk hb => ?_, fun k b qs hb hqs n => ?_⟩
  · refine ⟨sm_qs x.1.2.2.2.1 b.2 pc 0, ?_, sm_qs_0 _ _ _⟩
    rw [List.getElem?_map, (List.getElem?_zip_eq_some (z := (b, pc))).mpr ⟨hb, hk⟩]
    rfl
  · obtain ⟨s, hs, hc⟩ := sm_cbs_ok h3 k b hb
    rw [List.getElem?_map, (List.getElem?_zip_eq_some (z := (b, s))).mpr ⟨hb, hs⟩] at hqs
    cases hqs
    exact sm_cb_ok H HA of_decide_eq_true b.2 s 0 hc n
/-- a class -/
def sm_cc (tab : List sm_P) : List (Nat × List am_B) → List sm_X → Prop
  | [], [] => True
  | q :: qs, x :: xs => sm_cm tab q x = true ∧ sm_cc tab qs xs
  | _, _ => False
theorem sm_cc_ok {mi : Nat → Nat → Option sm_I} {c : Nat} {own : String} {tab : List sm_P} (hc : (sm_cl[c]?).map (·.1) = some own) (H : ∀ e ∈ tab, sm_pok mi own e.1 e.2.1 e.2.2.1) (HA : sm_arrs) : ∀ {qs : List (Nat × List am_B)} {xs : List sm_X}, (∀ x ∈ xs, sm_xok c x = true) → sm_cc tab qs xs → ∀ (i : Nat) (q : Nat × List am_B) (x : sm_X), qs[i]? = some q → xs[i]? = some x → sm_good mi q (sm_xi x)
  | [], [], _, _, i, q, x, h, _ => by cases h
  | [], _ :: _, _, h, _, _, _, _, _ => by cases h
  | _ :: _, [], _, h, _, _, _, _, _ => by cases h
  | q :: qs, x :: xs, hX, h, i, q', x', hq, hx => by
    obtain ⟨h2, h3⟩ := h
    have h1 := hX x List.mem_cons_self
    cases i with
    | zero =>
      cases hq; cases hx
      have e : x.1.2.2.1.cls = own := by
        have h4 := h1
        unfold sm_xok at h4
        simp only [Bool.and_eq_true] at h4
        have h5 := h4.1.2
        split at h5
        · rename_i rc hrc
          rw [hrc] at hc
          rw [← of_decide_eq_true h5]
          exact Option.some.inj hc
        · cases h5
      exact sm_cm_ok (by rw [e]; exact H) HA h1 h2
    | succ i => exact sm_cc_ok hc H HA (fun y hy => hX y (List.mem_cons_of_mem _ hy)) h3 i q' x' hq hx
