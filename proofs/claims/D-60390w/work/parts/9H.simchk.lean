/-! SIMULATION, 28: the code check: a Bool program over the printed tables, and that what it passes is good -/
def sm_chs : List (List Cond) := [tables_1_1, tables_1_2, tables_1_3, tables_1_4, tables_1_5, tables_1_6, tables_1_7, tables_1_8, tables_1_9, tables_1_10, tables_1_11, tables_1_12, tables_1_13, tables_1_14, tables_1_15, k2_sels lw_privs]
theorem sm_chs_mem {L : List Cond} (h : L ∈ sm_chs) {w : Cond} (hw : w ∈ L) : w ∈ lw_tbl := by
  unfold lw_tbl tables_1
  simp only [sm_chs, List.mem_cons, List.not_mem_nil, or_false] at h
  simp only [List.mem_append]
  rcases h with rfl | rfl | rfl | rfl | rfl | rfl | rfl | rfl | rfl | rfl | rfl | rfl | rfl | rfl | rfl | rfl <;> simp only [hw, true_or, or_true]
/-- the word at a place of the tables -/
def sm_wat (q : Nat × Nat) : Option Cond := match sm_chs[q.1]? with
  | some L => L[q.2]?
  | none => none
theorem sm_wat_mem {q : Nat × Nat} {w : Cond} (h : sm_wat q = some w) (h2 : sm_wok w = true) : w ∈ sm_tbl := by
  unfold sm_wat at h
  split at h
  · rename_i L hL
    exact List.mem_filter.mpr ⟨sm_chs_mem (List.mem_of_getElem? hL) (List.mem_of_getElem? h), h2⟩
  · cases h
def sm_hav : List Cond → List (Nat × Nat) → Bool
  | [], _ => true
  | w :: ws, q :: qs => decide (sm_wat q = some w) && sm_wok w && sm_hav ws qs
  | _ :: _, [] => false
theorem sm_hav_mem : ∀ {ws : List Cond} {qs : List (Nat × Nat)}, sm_hav ws qs = true → ∀ w ∈ ws, w ∈ sm_tbl
  | [], _, _, w, hw => by cases hw
  | v :: ws, [], h, w, hw => by cases h
  | v :: ws, q :: qs, h, w, hw => by
    unfold sm_hav at h
    simp only [Bool.and_eq_true, decide_eq_true_eq] at h
    rcases List.mem_cons.mp hw with rfl | hw
    · exact sm_wat_mem h.1.1 h.1.2
    · exact sm_hav_mem h.2 w hw
/-- a method as it is printed: way of its call (0 static, 1 instance, 2 constructor), arguments, name, bytes, locals, answer, handlers; starts of its blocks; places of its words -/
abbrev sm_X : Type := (Nat × Nat × MethodName × ByteArray × Nat × Option FieldType × List (Nat × Nat × Nat × Nat)) × List Nat × List (Nat × Nat)
def sm_xi (x : sm_X) : sm_I := (x.1.2.2.1, (match x.1.2.2.2.2.2.2 with
  | [] => .code x.1.2.2.1 x.1.2.2.2.1 x.1.2.2.2.2.1 x.1.2.2.2.2.2.1
  | hh => .codeWith x.1.2.2.1 x.1.2.2.2.1 x.1.2.2.2.2.1 x.1.2.2.2.2.2.1 hh), x.1.2.2.2.1, x.1.2.2.2.2.1, x.1.2.2.2.2.2.1, x.1.2.2.2.2.2.2)
def sm_xw (x : sm_X) : List Cond := (sm_xi x).2.1 :: Cond.initialized x.1.2.2.1.cls :: (match x.1.1 with
  | 0 => [Cond.static x.1.2.2.1]
  | 1 => [Cond.instanceMethod x.1.2.2.1, Cond.selects x.1.2.2.1.cls x.1.2.2.1 x.1.2.2.1]
  | _ => [Cond.instanceMethod x.1.2.2.1])
def sm_dn (d : String) (n : Nat) : Bool := match parseMethodDescriptor d with
  | some sig => Nat.beq sig.parameters.length n
  | none => true
def sm_xok (c : Nat) (x : sm_X) : Bool := sm_hav (sm_xw x) x.2.2 && plainName x.1.2.2.1.cls && Nat.ble x.1.2.2.2.2.1 41 && decide (x.1.2.2.1.cls ≠ "java/lang/invoke/MethodHandle") && decide (x.1.2.2.1.cls ≠ "java/lang/invoke/VarHandle") &&
  (match sm_cl[c]? with
   | some rc => decide (rc.1 = x.1.2.2.1.cls)
   | none => false) &&
  (match x.1.1 with
   | 0 => sm_dn x.1.2.2.1.desc x.1.2.1
   | 1 => Nat.ble 1 x.1.2.1 && sm_dn x.1.2.2.1.desc (x.1.2.1 - 1)
   | 2 => Nat.ble 1 x.1.2.1 && sm_dn x.1.2.2.1.desc (x.1.2.1 - 1) && decide (x.1.2.2.1.name = "<init>") && decide (x.1.2.2.2.2.2.1 = none) && decide (x.1.2.2.2.2.2.2 = [])
   | _ => false)
theorem sm_dn_le {d : String} {n : Nat} (h : sm_dn d n = true) : ∀ sig, parseMethodDescriptor d = some sig → sig.parameters.length = n := by
  intro sig hs
  unfold sm_dn at h
  rw [hs] at h
  exact Nat.eq_of_beq_eq_true h
theorem sm_xi_cw (x : sm_X) : sm_cw (sm_xi x).1 (sm_xi x).2.1 (sm_xi x).2.2.1 (sm_xi x).2.2.2.1 (sm_xi x).2.2.2.2.1 (sm_xi x).2.2.2.2.2 := by
  obtain ⟨⟨st, n, y, cc, mL, ret, hh⟩, ps, qs⟩ := x
  cases hh with
  | nil => exact Or.inl ⟨rfl, rfl⟩
  | cons a r => exact Or.inr rfl
/-- what a method's row gives to a call of it -/
theorem sm_xok_cop {mi : Nat → Nat → Option sm_I} {c i idx : Nat} {own : String} {x : sm_X} (hm : mi c i = some (sm_xi x)) (h : sm_xok c x = true) (hl : sm_mlk own idx x.1.2.2.1) (rty hn f : Nat) : sm_cop mi own x.1.1 idx [x.1.1, c, i, x.1.2.1, rty, hn, f] := by
  obtain ⟨⟨st, n, y, cc, mL, ret, hh⟩, ps, qs⟩ := x
  unfold sm_xok at h
  dsimp only at h hl ⊢
  simp only [Bool.and_eq_true, decide_eq_true_eq, Nat.ble_eq] at h
  obtain ⟨⟨⟨⟨⟨⟨h1, h2⟩, h3⟩, h4⟩, h5⟩, h6⟩, h7⟩ := h
  have hmem := sm_hav_mem h1
  have hcw := sm_xi_cw ((st, n, y, cc, mL, ret, hh), ps, qs)
  have hrc : ∃ rc, sm_cl[c]? = some rc ∧ rc.1 = y.cls := by
    split at h6
    · rename_i rc hrc; exact ⟨rc, hrc, of_decide_eq_true h6⟩
    · cases h6
  have w1 : (sm_xi ((st, n, y, cc, mL, ret, hh), ps, qs)).2.1 ∈ sm_tbl := hmem _ List.mem_cons_self
  have w2 : Cond.initialized y.cls ∈ sm_tbl := hmem _ (List.mem_cons_of_mem _ List.mem_cons_self)
  match st, h7 with
  | 0, h7 =>
    have w3 : Cond.static y ∈ sm_tbl := hmem _ (List.mem_cons_of_mem _ (List.mem_cons_of_mem _ List.mem_cons_self))
    exact ⟨c, i, n, rty, hn, f, _, _, _, _, _, _, rfl, hm, hcw, w1, ⟨hl, w2, ⟨h4, h5⟩, w3⟩, h3, fun sig hs => by rw [sm_dn_le h7 sig hs]; rfl, hrc, fun z => by cases z⟩
  | 1, h7 =>
    simp only [Bool.and_eq_true, Nat.ble_eq] at h7
    have w3 : Cond.instanceMethod y ∈ sm_tbl := hmem _ (List.mem_cons_of_mem _ (List.mem_cons_of_mem _ List.mem_cons_self))
    have w4 : Cond.selects y.cls y y ∈ sm_tbl := hmem _ (List.mem_cons_of_mem _ (List.mem_cons_of_mem _ (List.mem_cons_of_mem _ List.mem_cons_self)))
    exact ⟨c, i, n, rty, hn, f, _, _, _, _, _, _, rfl, hm, hcw, w1, ⟨hl, w2, ⟨h4, h5⟩, w3, w4⟩, h3, fun sig hs => by rw [sm_dn_le h7.2 sig hs, if_neg (by decide)]; exact Nat.sub_add_cancel h7.1, hrc, fun z => by cases z⟩
  | 2, h7 =>
    simp only [Bool.and_eq_true, Nat.ble_eq, decide_eq_true_eq] at h7
    obtain ⟨⟨⟨⟨g1, g2⟩, g3⟩, g4⟩, g5⟩ := h7
    subst g4 g5
    have w3 : Cond.instanceMethod y ∈ sm_tbl := hmem _ (List.mem_cons_of_mem _ (List.mem_cons_of_mem _ List.mem_cons_self))
    exact ⟨c, i, n, rty, hn, f, _, _, _, _, _, _, rfl, hm, hcw, w1, ⟨hl, w2, ⟨h4, h5⟩, w3, g3⟩, h3, fun sig hs => by rw [sm_dn_le g2 sig hs, if_neg (by decide)]; exact Nat.sub_add_cancel g1, hrc, fun _ => rfl⟩
  | n + 3, h7 => cases h7
/-- an entry of a class's pool as it is printed: kind, index, what it is, places of its words -/
abbrev sm_P : Type := Nat × Nat × List Nat × List (Nat × Nat)
def sm_lib : Nat → MethodName
  | 3 => Lib.objectInit
  | 4 => Lib.Math.min.name
  | 5 => Lib.Math.max.name
  | 6 => Lib.Str.length.name
  | 7 => Lib.Str.charAt.name
  | _ => Bundle.initS "java/lang/IllegalStateException"
def sm_pok (mi : Nat → Nat → Option sm_I) (own : String) (kd idx : Nat) (d : List Nat) : Prop := match kd with
  | 0 => ∃ cn k rc, d = [cn, k] ∧ sm_cl[cn]? = some rc ∧ k < rc.2.2 ∧ sm_lnk own idx rc k
  | 1 => ∃ cn k rc, d = [cn, k] ∧ sm_cl[cn]? = some rc ∧ k < rc.2.2 ∧ sm_lnk own idx rc k ∧ (rc.2.1 k).2.2.2 = false
  | 2 => ∃ cn k rc, d = [cn, k] ∧ sm_cl[cn]? = some rc ∧ k < rc.2.2 ∧ sm_lnk own idx rc k ∧ (rc.2.1 k).2.2.2 = true ∧ (rc.2.1 k).1 = own ∧ Cond.fieldLink own idx (rc.2.1 k).1 (rc.2.1 k).2.1 (rc.2.1 k).2.2.1 ∈ sm_tbl
  | 3 => ∃ kind c i n, d = [kind, c, i, n] ∧ ∀ rty h x, sm_cop mi own kind idx [kind, c, i, n, rty, h, x]
  | 4 => ∃ j tx, d = [j] ∧ sm_sk[j]? = some (own, idx, tx)
  | 5 => ∃ v : Nat, d = [v] ∧ v < 2147483648 ∧ Cond.constant own idx (Int32.ofInt v) ∈ sm_tbl
  | 6 => ∃ v : Nat, d = [v] ∧ v < 2147483648 ∧ Cond.constantLong own idx (Int64.ofInt v) ∈ sm_tbl
  | 7 => ∃ j n, d = [j] ∧ sm_sn[j]? = some n ∧ Cond.fieldLink own idx "TowerComputerModel" n "[C" ∈ sm_tbl
  | 8 => ∃ cn rc, d = [cn] ∧ cn < 20 ∧ sm_cl[cn]? = some rc ∧ Cond.classLink own idx rc.1 ∈ sm_tbl ∧ Cond.instantiable rc.1 (am_sfs.getD cn 0) ∈ sm_tbl ∧ Cond.initialized rc.1 ∈ sm_tbl
  | 9 => Cond.classLink own idx "java/lang/IllegalStateException" ∈ sm_tbl
  | 10 => d = [10] ∧ Cond.classLink own idx "java/lang/String" ∈ sm_tbl ∧ Cond.arrayOver (.object "java/lang/String") ∈ sm_tbl
  | 11 => d = [12] ∧ Cond.classLink own idx "TowerComputer$Chip" ∈ sm_tbl ∧ Cond.arrayOver (.object "TowerComputer$Chip") ∈ sm_tbl
  | 12 => d = [11] ∧ Cond.classLink own idx (FieldType.array (.object "java/lang/String")).toString ∈ sm_tbl ∧ Cond.arrayOver (.array (.object "java/lang/String")) ∈ sm_tbl
  | 13 => ∃ b, d = [b] ∧ Cond.methodLink own idx (sm_lib b) ∈ sm_tbl
  | 14 => Cond.classLink own idx "[[I" ∈ sm_tbl ∧ Cond.arrayOver (.array .int) ∈ sm_tbl
  | _ => False
/-- a field's link -/
def sm_fck (own : String) (idx : Nat) (rc : vw_C) (k : Nat) (qs : List (Nat × Nat)) : Nat := match qs with
  | [q] => (match sm_wat q with
    | some (.fieldLink o i a b d) => cond (decide (o = own) && Nat.beq i idx && decide (a = (rc.2.1 k).1) && decide (b = (rc.2.1 k).2.1) && decide (d = (rc.2.1 k).2.2.1) && sm_wok (.fieldLink o i a b d)) 1 0
    | some (.fieldLinkNest o i a b d h) => cond (decide (o = own) && Nat.beq i idx && decide (a = (rc.2.1 k).1) && decide (b = (rc.2.1 k).2.1) && decide (d = (rc.2.1 k).2.2.1) && sm_wok (.fieldLinkNest o i a b d h)) 2 0
    | _ => 0)
  | _ => 0
theorem sm_fck_1 {own : String} {idx : Nat} {rc : vw_C} {k : Nat} {qs : List (Nat × Nat)} (h : sm_fck own idx rc k qs = 1) : Cond.fieldLink own idx (rc.2.1 k).1 (rc.2.1 k).2.1 (rc.2.1 k).2.2.1 ∈ sm_tbl := by
  unfold sm_fck at h
  split at h
  · split at h
    · rename_i o i a b d hq
      cases hc : (decide (o = own) && Nat.beq i idx && decide (a = (rc.2.1 k).1) && decide (b = (rc.2.1 k).2.1) && decide (d = (rc.2.1 k).2.2.1) && sm_wok (.fieldLink o i a b d)) with
      | false => rw [hc] at h; cases h
      | true =>
        simp only [Bool.and_eq_true, decide_eq_true_eq] at hc
        obtain ⟨⟨⟨⟨⟨rfl, h2⟩, rfl⟩, rfl⟩, rfl⟩, h6⟩ := hc
        cases Nat.eq_of_beq_eq_true h2
        exact sm_wat_mem hq h6
    · rename_i o i a b d hh hq
      cases hc : (decide (o = own) && Nat.beq i idx && decide (a = (rc.2.1 k).1) && decide (b = (rc.2.1 k).2.1) && decide (d = (rc.2.1 k).2.2.1) && sm_wok (.fieldLinkNest o i a b d hh)) with
      | false => rw [hc] at h; cases h
      | true => rw [hc] at h; cases h
    · cases h
  · cases h
theorem sm_fck_2 {own : String} {idx : Nat} {rc : vw_C} {k : Nat} {qs : List (Nat × Nat)} (h : sm_fck own idx rc k qs = 2) : ∃ host, Cond.fieldLinkNest own idx (rc.2.1 k).1 (rc.2.1 k).2.1 (rc.2.1 k).2.2.1 host ∈ sm_tbl := by
  unfold sm_fck at h
  split at h
  · split at h
    · rename_i o i a b d hq
      cases hc : (decide (o = own) && Nat.beq i idx && decide (a = (rc.2.1 k).1) && decide (b = (rc.2.1 k).2.1) && decide (d = (rc.2.1 k).2.2.1) && sm_wok (.fieldLink o i a b d)) with
      | false => rw [hc] at h; cases h
      | true => rw [hc] at h; cases h
    · rename_i o i a b d hh hq
      cases hc : (decide (o = own) && Nat.beq i idx && decide (a = (rc.2.1 k).1) && decide (b = (rc.2.1 k).2.1) && decide (d = (rc.2.1 k).2.2.1) && sm_wok (.fieldLinkNest o i a b d hh)) with
      | false => rw [hc] at h; cases h
      | true =>
        simp only [Bool.and_eq_true, decide_eq_true_eq] at hc
        obtain ⟨⟨⟨⟨⟨rfl, h2⟩, rfl⟩, rfl⟩, rfl⟩, h6⟩ := hc
        cases Nat.eq_of_beq_eq_true h2
        exact ⟨hh, sm_wat_mem hq h6⟩
    · cases h
  · cases h
theorem sm_fck_lnk {own : String} {idx : Nat} {rc : vw_C} {k : Nat} {qs : List (Nat × Nat)} (h : sm_fck own idx rc k qs ≠ 0) (h2 : sm_fck own idx rc k qs ≤ 2) : sm_lnk own idx rc k := by
  rcases (show sm_fck own idx rc k qs = 1 ∨ sm_fck own idx rc k qs = 2 by omega) with h | h
  · exact Or.inl (sm_fck_1 h)
  · exact Or.inr (sm_fck_2 h)
/-- a method's link -/
def sm_mck (own : String) (idx : Nat) (y : MethodName) (qs : List (Nat × Nat)) : Bool := match qs with
  | [q] => (match sm_wat q with
    | some (.methodLink o i z) => decide (o = own) && Nat.beq i idx && decide (z = y) && sm_wok (.methodLink o i z)
    | some (.methodLinkNest o i z h) => decide (o = own) && Nat.beq i idx && decide (z = y) && sm_wok (.methodLinkNest o i z h)
    | _ => false)
  | _ => false
theorem sm_mck_mlk {own : String} {idx : Nat} {y : MethodName} {qs : List (Nat × Nat)} (h : sm_mck own idx y qs = true) : sm_mlk own idx y := by
  unfold sm_mck at h
  split at h
  · split at h
    · rename_i hq
      simp only [Bool.and_eq_true, decide_eq_true_eq] at h
      obtain ⟨⟨⟨rfl, h2⟩, rfl⟩, h4⟩ := h
      cases Nat.eq_of_beq_eq_true h2
      exact Or.inl (sm_wat_mem hq h4)
    · rename_i hq
      simp only [Bool.and_eq_true, decide_eq_true_eq] at h
      obtain ⟨⟨⟨rfl, h2⟩, rfl⟩, h4⟩ := h
      cases Nat.eq_of_beq_eq_true h2
      exact Or.inr ⟨_, sm_wat_mem hq h4⟩
    · cases h
  · cases h
/-- the check of an entry; mt: the printed methods by class -/
def sm_pck (mt : List (List sm_X)) (own : String) (e : sm_P) : Bool := match e with
  | (kd, idx, d, qs) => (match kd with
    | 0 => (match d with
      | [cn, k] => (match sm_cl[cn]? with
        | some rc => Nat.blt k rc.2.2 && Nat.ble 1 (sm_fck own idx rc k qs) && Nat.ble (sm_fck own idx rc k qs) 2
        | none => false)
      | _ => false)
    | 1 => (match d with
      | [cn, k] => (match sm_cl[cn]? with
        | some rc => Nat.blt k rc.2.2 && Nat.ble 1 (sm_fck own idx rc k qs) && Nat.ble (sm_fck own idx rc k qs) 2 && !(rc.2.1 k).2.2.2
        | none => false)
      | _ => false)
    | 2 => (match d with
      | [cn, k] => (match sm_cl[cn]? with
        | some rc => Nat.blt k rc.2.2 && Nat.beq (sm_fck own idx rc k qs) 1 && (rc.2.1 k).2.2.2 && decide ((rc.2.1 k).1 = own)
        | none => false)
      | _ => false)
    | 3 => (match d with
      | [kind, c, i, n] => (match (mt.getD c [])[i]? with
        | some x => Nat.beq x.1.1 kind && Nat.beq x.1.2.1 n && sm_mck own idx x.1.2.2.1 qs
        | none => false)
      | _ => false)
    | 4 => (match d with
      | [j] => (match sm_sk[j]? with
        | some q => decide (q.1 = own) && Nat.beq q.2.1 idx
        | none => false)
      | _ => false)
    | 5 => (match d with
      | [v] => Nat.blt v 2147483648 && sm_hav [Cond.constant own idx (Int32.ofInt v)] qs
      | _ => false)
    | 6 => (match d with
      | [v] => Nat.blt v 2147483648 && sm_hav [Cond.constantLong own idx (Int64.ofInt v)] qs
      | _ => false)
    | 7 => (match d with
      | [j] => (match sm_sn[j]? with
        | some n => sm_hav [Cond.fieldLink own idx "TowerComputerModel" n "[C"] qs
        | none => false)
      | _ => false)
    | 8 => (match d with
      | [cn] => (match sm_cl[cn]? with
        | some rc => Nat.blt cn 20 && sm_hav [Cond.classLink own idx rc.1, Cond.instantiable rc.1 (am_sfs.getD cn 0), Cond.initialized rc.1] qs
        | none => false)
      | _ => false)
    | 9 => sm_hav [Cond.classLink own idx "java/lang/IllegalStateException"] qs
    | 10 => decide (d = [10]) && sm_hav [Cond.classLink own idx "java/lang/String", Cond.arrayOver (.object "java/lang/String")] qs
    | 11 => decide (d = [12]) && sm_hav [Cond.classLink own idx "TowerComputer$Chip", Cond.arrayOver (.object "TowerComputer$Chip")] qs
    | 12 => decide (d = [11]) && sm_hav [Cond.classLink own idx (FieldType.array (.object "java/lang/String")).toString, Cond.arrayOver (.array (.object "java/lang/String"))] qs
    | 13 => (match d with
      | [b] => sm_hav [Cond.methodLink own idx (sm_lib b)] qs
      | _ => false)
    | 14 => sm_hav [Cond.classLink own idx "[[I", Cond.arrayOver (.array .int)] qs
    | _ => false)
theorem sm_hav1 {w : Cond} {qs : List (Nat × Nat)} (h : sm_hav [w] qs = true) : w ∈ sm_tbl := sm_hav_mem h w List.mem_cons_self
theorem sm_hav2 {v w : Cond} {qs : List (Nat × Nat)} (h : sm_hav [v, w] qs = true) : v ∈ sm_tbl ∧ w ∈ sm_tbl := ⟨sm_hav_mem h v List.mem_cons_self, sm_hav_mem h w (List.mem_cons_of_mem _ List.mem_cons_self)⟩
theorem sm_pck_ok {mt : List (List sm_X)} {mi : Nat → Nat → Option sm_I} (hmi : ∀ c i x, (mt.getD c [])[i]? = some x → mi c i = some (sm_xi x)) (hX : ∀ (c i : Nat) (x : sm_X), (mt.getD c [])[i]? = some x → sm_xok c x = true) {own : String} {e : sm_P} (h : sm_pck mt own e = true) : sm_pok mi own e.1 e.2.1 e.2.2.1 := by
  obtain ⟨kd, idx, d, qs⟩ := e
  unfold sm_pck at h
  dsimp only at h ⊢
  split at h
  · split at h
    · rename_i cn k
      split at h
      · rename_i rc hrc
        simp only [Bool.and_eq_true, Nat.ble_eq, Nat.blt_eq] at h
        exact ⟨cn, k, rc, rfl, hrc, h.1.1, sm_fck_lnk (by omega) h.2⟩
      · cases h
    · cases h
  · split at h
    · rename_i cn k
      split at h
      · rename_i rc hrc
        simp only [Bool.and_eq_true, Nat.ble_eq, Nat.blt_eq, Bool.not_eq_true'] at h
        exact ⟨cn, k, rc, rfl, hrc, h.1.1.1, sm_fck_lnk (by omega) h.1.2, h.2⟩
      · cases h
    · cases h
  · split at h
    · rename_i cn k
      split at h
      · rename_i rc hrc
        simp only [Bool.and_eq_true, Nat.blt_eq, decide_eq_true_eq] at h
        have h1 := Nat.eq_of_beq_eq_true h.1.1.2
        exact ⟨cn, k, rc, rfl, hrc, h.1.1.1, Or.inl (sm_fck_1 h1), h.1.2, h.2, sm_fck_1 h1⟩
      · cases h
    · cases h
  · split at h
    · rename_i kind c i n
      split at h
      · rename_i x hx
        simp only [Bool.and_eq_true] at h
        obtain ⟨⟨h1, h2⟩, h4⟩ := h
        cases Nat.eq_of_beq_eq_true h1
        cases Nat.eq_of_beq_eq_true h2
        exact ⟨_, c, i, _, rfl, fun rty hn f => sm_xok_cop (hmi c i x hx) (hX c i x hx) (sm_mck_mlk h4) rty hn f⟩
      · cases h
    · cases h
  · split at h
    · rename_i j
      split at h
      · rename_i q hq
        simp only [Bool.and_eq_true, decide_eq_true_eq] at h
        obtain ⟨a, b, tx⟩ := q
        obtain ⟨rfl, h2⟩ := h
        cases Nat.eq_of_beq_eq_true h2
        exact ⟨j, tx, rfl, hq⟩
      · cases h
    · cases h
  · split at h
    · simp only [Bool.and_eq_true, Nat.blt_eq] at h
      exact ⟨_, rfl, h.1, sm_hav1 h.2⟩
    · cases h
  · split at h
    · simp only [Bool.and_eq_true, Nat.blt_eq] at h
      exact ⟨_, rfl, h.1, sm_hav1 h.2⟩
    · cases h
  · split at h
    · rename_i j
      split at h
      · rename_i n hn
        exact ⟨j, n, rfl, hn, sm_hav1 h⟩
      · cases h
    · cases h
  · split at h
    · rename_i cn
      split at h
      · rename_i rc hrc
        simp only [Bool.and_eq_true, Nat.blt_eq] at h
        exact ⟨cn, rc, rfl, h.1, hrc, sm_hav_mem h.2 _ List.mem_cons_self, sm_hav_mem h.2 _ (List.mem_cons_of_mem _ List.mem_cons_self), sm_hav_mem h.2 _ (List.mem_cons_of_mem _ (List.mem_cons_of_mem _ List.mem_cons_self))⟩
      · cases h
    · cases h
  · exact sm_hav1 h
  · simp only [Bool.and_eq_true, decide_eq_true_eq] at h
    exact ⟨h.1, sm_hav2 h.2⟩
  · simp only [Bool.and_eq_true, decide_eq_true_eq] at h
    exact ⟨h.1, sm_hav2 h.2⟩
  · simp only [Bool.and_eq_true, decide_eq_true_eq] at h
    exact ⟨h.1, sm_hav2 h.2⟩
  · split at h
    · exact ⟨_, rfl, sm_hav1 h⟩
    · cases h
  · exact sm_hav2 h
  · cases h
/-- looked up -/
def sm_lu : List sm_P → Nat → Nat → Option (List Nat)
  | [], _, _ => none
  | e :: r, kd, idx => cond (Nat.beq e.2.1 idx && Nat.beq e.1 kd) (some e.2.2.1) (sm_lu r kd idx)
theorem sm_lu_ok {mi : Nat → Nat → Option sm_I} {own : String} : ∀ {tab : List sm_P}, (∀ e ∈ tab, sm_pok mi own e.1 e.2.1 e.2.2.1) → ∀ {kd idx : Nat} {d : List Nat}, sm_lu tab kd idx = some d → sm_pok mi own kd idx d
  | [], _, kd, idx, d, h => by cases h
  | e :: r, H, kd, idx, d, h => by
    unfold sm_lu at h
    cases hc : Nat.beq e.2.1 idx && Nat.beq e.1 kd with
    | true =>
      rw [hc] at h
      simp only [Bool.and_eq_true] at hc
      cases Nat.eq_of_beq_eq_true hc.1
      cases Nat.eq_of_beq_eq_true hc.2
      cases Option.some.inj h
      exact H e List.mem_cons_self
    | false =>
      rw [hc] at h
      exact sm_lu_ok (fun e he => H e (List.mem_cons_of_mem _ he)) h
