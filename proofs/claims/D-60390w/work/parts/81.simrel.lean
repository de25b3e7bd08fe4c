/-! SIMULATION, 2: what of the machine's heap shows a state of AM. G: the address of the first new cell; the script's; those of constants; classes and slots; array classes by tag -/
abbrev sm_G : Type := Nat × Nat × (Nat → Nat) × va_G × (Nat → ClassId)
def sm_ad (G : sm_G) (a : Nat) : Nat := if a = 0 then G.2.1 else G.1 + (a - 1)
def sm_co (G : sm_G) (X : am_R) : Option Nat := match X with
  | .inl none => none
  | .inl (some a) => some (sm_ad G a)
  | .inr j => some (G.2.2.1 j)
def sm_v (G : sm_G) (v : am_V) : Value := match v with
  | .inl x => .int (Int32.ofInt x)
  | .inr (.inl x) => .long (Int64.ofInt x)
  | .inr (.inr X) => va_rf (sm_co G X)
def sm_rg (v : am_V) : Prop := match v with
  | .inl x => sm_i x
  | .inr (.inl x) => sm_l x
  | .inr (.inr _) => True
def sm_fv (G : sm_G) (h : am_H) (a : Nat) (rs : List am_R) (c k : Nat) : Value :=
  if sm_fk c k = 1 then va_rf (sm_co G (rs.getD k am_n)) else if sm_fk c k = 2 then va_rf (sm_co G (am_dec (h a k))) else .int (Int32.ofInt (h a k))
def sm_fs (G : sm_G) (h : am_H) (a : Nat) (rs : List am_R) (c : Nat) : List Value := (List.range (am_nf c)).map (sm_fv G h a rs c)
def sm_arr (G : sm_G) (h : am_H) (a : Nat) (q : am_C) : vp_A := (q.2.1,
  if q.1 = 6 then .inr (.inl fun k => Int64.ofInt (h a k)) else if 10 ≤ q.1 then .inr (.inr (.inr (.inr fun k => sm_co G (q.2.2.getD k am_n)))) else .inl fun k => Int32.ofInt (h a k))
def sm_ent (G : sm_G) (h : am_H) (a : Nat) (q : am_C) : va_E := if q.1 = 0 then .inr (q.2.1, sm_fs G h a q.2.2 q.2.1) else .inl (G.2.2.2.2 q.1, sm_arr G h a q)
def sm_ws (G : sm_G) (σ : am_S) : va_W := (σ.1.drop 1).mapIdx fun i q => (G.1 + i, sm_ent G σ.2 (i + 1) q)
theorem sm_ws_at (G : sm_G) {σ : am_S} {a : Nat} {q : am_C} (h0 : a ≠ 0) (h : σ.1[a]? = some q) : (sm_ws G σ)[a - 1]? = some (G.1 + (a - 1), sm_ent G σ.2 a q) := by
  unfold sm_ws
  rw [List.getElem?_mapIdx, List.getElem?_drop, show 1 + (a - 1) = a by omega, h]
  simp only [Option.map_some]
  rw [show a - 1 + 1 = a by omega]
theorem sm_ws_len (G : sm_G) (σ : am_S) : (sm_ws G σ).length = σ.1.length - 1 := by simp [sm_ws]
theorem sm_ws_of (G : sm_G) {σ : am_S} {i : Nat} {x : Nat × va_E} (h : (sm_ws G σ)[i]? = some x) : ∃ q, σ.1[i + 1]? = some q ∧ x = (G.1 + i, sm_ent G σ.2 (i + 1) q) := by
  unfold sm_ws at h
  rw [List.getElem?_mapIdx, List.getElem?_drop, Nat.add_comm 1 i] at h
  cases hq : σ.1[i + 1]? with
  | none => rw [hq] at h; simp at h
  | some q => rw [hq] at h; simp only [Option.map_some] at h; exact ⟨q, rfl, (Option.some.inj h).symm⟩
/-- one cell's numbers or references have changed -/
theorem sm_ws_set (G : sm_G) {σ τ : am_S} {a : Nat} {q : am_C} (h0 : a ≠ 0) (hl : τ.1.length = σ.1.length) (hq : τ.1[a]? = some q) (h1 : ∀ b, b ≠ a → τ.1[b]? = σ.1[b]?) (h2 : ∀ b, b ≠ a → τ.2 b = σ.2 b) :
    sm_ws G τ = (sm_ws G σ).set (a - 1) (G.1 + (a - 1), sm_ent G τ.2 a q) := by
  have hlt : a < σ.1.length := by rw [← hl]; exact (List.getElem?_eq_some_iff.mp hq).1
  apply List.ext_getElem?
  intro i
  rw [List.getElem?_set]
  by_cases hi : a - 1 = i
  · rw [if_pos hi, if_pos (by rw [sm_ws_len]; omega), ← hi, sm_ws_at G h0 hq]
  · rw [if_neg hi]
    unfold sm_ws
    rw [List.getElem?_mapIdx, List.getElem?_mapIdx, List.getElem?_drop, List.getElem?_drop, h1 (1 + i) (by omega)]
    cases hx : σ.1[1 + i]? with
    | none => rfl
    | some x =>
      simp only [Option.map_some]
      have : ∀ (x : am_C), sm_ent G τ.2 (i + 1) x = sm_ent G σ.2 (i + 1) x := fun x => by
        have e := h2 (i + 1) (by omega)
        unfold sm_ent sm_fs sm_fv sm_arr
        rw [e]
      rw [this]
def sm_A (G : sm_G) (q : Nat) : Prop := G.1 ≤ q
theorem sm_ws_D (G : sm_G) (σ : am_S) : va_D (sm_A G) (sm_ws G σ) := by
  constructor
  · intro i j x y hx hy e
    obtain ⟨q, -, rfl⟩ := sm_ws_of G hx
    obtain ⟨q', -, rfl⟩ := sm_ws_of G hy
    dsimp only at e
    omega
  · intro k x hx
    obtain ⟨q, -, rfl⟩ := sm_ws_of G hx
    show G.1 ≤ G.1 + k
    omega
/-- the fields of a String, as the tables find them -/
def sm_sf1 (U : State) (n d : String) : Prop := ∃ sC c k i f, U.vm.findClass "java/lang/String" = some sC ∧ U.fieldFound? "java/lang/String" n d = some (c, k, i, f) ∧ U.vm.assignable sC c = true
theorem sm_sf1.next {U V : State} {n d : String} (hv : U.vm.Alike V.vm) (h : sm_sf1 U n d) : sm_sf1 V n d := by
  obtain ⟨sC, c, k, i, f, h1, h2, h3⟩ := h
  obtain ⟨k', hk', -⟩ := State.fieldFound?_setVm hv h2
  exact ⟨sC, c, k', i, f, by rw [hv.findClass]; exact h1, hk', by rw [hv.assignable]; exact h3⟩
/-- a static field of Throwable -/
def sm_ls1 (n d : String) (A : Nat → Prop) (U : State) (H : Heap) : Prop := ∃ c k i f a, ∃ cell : Cell, U.vm.findClass "java/lang/Throwable" = some c ∧ U.fieldFound? "java/lang/Throwable" n d = some (c, k, i, f) ∧ f.isStatic = true ∧ k.statics = some a ∧ H[a]? = some cell ∧ cell.vm.isStatics = true ∧ cell.cls = c ∧ f.slot < cell.slots.size ∧ k.staticTypes[f.slot]? = some f.type ∧ ¬ A a
theorem sm_ls1.next {n d : String} {A : Nat → Prop} {U V : State} {H H1 : Heap} (hv : U.vm.Alike V.vm) (hq : ∀ a : Nat, a < H.size → ¬ A a → H1[a]? = H[a]?) (h : sm_ls1 n d A U H) : sm_ls1 n d A V H1 := by
  obtain ⟨c, k, i, f, a, cell, h1, h2, h3, h4, h5, h6, h7, h8, h9, h10⟩ := h
  obtain ⟨k', hk', he⟩ := State.fieldFound?_setVm hv h2
  exact ⟨c, k', i, f, a, cell, by rw [hv.findClass]; exact h1, hk', h3, by rw [he]; exact h4, by rw [hq a (Array.getElem?_eq_some_iff.mp h5).1 h10]; exact h5, h6, h7, h8, by rw [he]; exact h9, h10⟩
/-- a String's cell is one of that class, exactly -/
def sm_ex (t : Nat) (A : Nat → Prop) (U : State) (H : Heap) : Prop := ∃ (cell : Cell) (k : Class), H[t]? = some cell ∧ cell.vm.isStatics = false ∧ U.vm.findClass "java/lang/String" = some cell.cls ∧ U.vm.classes[cell.cls]? = some k ∧ (match k.kind with | .ordinary => cell.slots.size == k.instanceTypes.size | _ => true) = true ∧ ¬ A t
theorem sm_ex.next {t : Nat} {A : Nat → Prop} {U V : State} {H H1 : Heap} (hv : U.vm.Alike V.vm) (hq : ∀ a : Nat, a < H.size → ¬ A a → H1[a]? = H[a]?) (h : sm_ex t A U H) : sm_ex t A V H1 := by
  obtain ⟨cell, k, h1, h2, h3, h4, h5, h6⟩ := h
  obtain ⟨k', hk', he⟩ := hv.2.2 _ _ h4
  exact ⟨cell, k', by rw [hq t (Array.getElem?_eq_some_iff.mp h1).1 h6]; exact h1, h2, by rw [hv.findClass]; exact h3, hk', by rw [he]; exact h5, h6⟩
/-- the constants: string constants (their byte arrays at 1000 and more), static arrays, statics of the JDK -/
def sm_cst (G : sm_G) (U : State) (H : Heap) : Prop :=
  (∀ (j : Nat) (q : String × Nat × String), sm_sk[j]? = some q → vk_R q.1 q.2.1 q.2.2 (G.2.2.1 j) U) ∧
  (∀ j : Nat, j < am_ns → va_O "java/lang/String" (G.2.2.1 j) (sm_A G) U H ∧ va_OF "java/lang/String" "coder" "B" (.int 0) (G.2.2.1 j) (sm_A G) U H ∧ va_OF "java/lang/String" "value" "[B" (.ref (G.2.2.1 (1000 + j))) (G.2.2.1 j) (sm_A G) U H ∧ va_T .byte (G.2.2.1 (1000 + j)) (am_sl j) (fun k => .int (Int32.ofInt (am_sc j k))) (sm_A G) U H ∧ sm_ex (G.2.2.1 j) (sm_A G) U H) ∧
  (∀ (j : Nat) (q : String), sm_sn[j]? = some q → va_Z "TowerComputerModel" q "[C" (.ref (G.2.2.1 (am_ns + j))) (sm_A G) U H ∧ va_T .char (G.2.2.1 (am_ns + j)) (am_cl (am_ns + j)) (fun k => .int (Int32.ofInt (am_cc (am_ns + j) k))) (sm_A G) U H) ∧
  va_Z "java/lang/String" "COMPACT_STRINGS" "Z" (.int 1) (sm_A G) U H ∧ va_Zq "jdk/internal/util/Preconditions" "SIOOBE_FORMATTER" "Ljava/util/function/BiFunction;" (sm_A G) U H ∧
  va_Zq "java/lang/Throwable" "UNASSIGNED_STACK" "[Ljava/lang/StackTraceElement;" (sm_A G) U H ∧ va_Zq "java/lang/Throwable" "SUPPRESSED_SENTINEL" "Ljava/util/List;" (sm_A G) U H ∧ sm_sf1 U "value" "[B" ∧ sm_sf1 U "coder" "B" ∧
  sm_ls1 "UNASSIGNED_STACK" "[Ljava/lang/StackTraceElement;" (sm_A G) U H ∧ sm_ls1 "SUPPRESSED_SENTINEL" "Ljava/util/List;" (sm_A G) U H
theorem va_Zq_next {C n d : String} {A : Nat → Prop} {u U : State} {H H1 : Heap} (hvm : u.vm.Alike U.vm) (hq : ∀ a : Nat, a < H.size → ¬ A a → H1[a]? = H[a]?) (h : va_Zq C n d A u H) : va_Zq C n d A U H1 := by
  rcases h with h | ⟨t, h⟩
  · exact Or.inl ((h.moved hvm).kept hq)
  · exact Or.inr ⟨t, (h.moved hvm).kept hq⟩
theorem sm_cst.next {G : sm_G} {s U : State} {H H1 : Heap} (hW : s.WarmedH U.vm) (hq : ∀ a : Nat, a < H.size → ¬ sm_A G a → H1[a]? = H[a]?) (h : sm_cst G s H) : sm_cst G U H1 :=
  ⟨fun j q hj => (h.1 j q hj).warm hW,
   fun j hj => ⟨((h.2.1 j hj).1.moved hW.alike).kept hq, ((h.2.1 j hj).2.1.moved hW.alike).kept hq, ((h.2.1 j hj).2.2.1.moved hW.alike).kept hq, ((h.2.1 j hj).2.2.2.1.moved hW.alike).kept hq, (h.2.1 j hj).2.2.2.2.next hW.alike hq⟩,
   fun j q hj => ⟨((h.2.2.1 j q hj).1.moved hW.alike).kept hq, ((h.2.2.1 j q hj).2.moved hW.alike).kept hq⟩,
   (h.2.2.2.1.moved hW.alike).kept hq, va_Zq_next hW.alike hq h.2.2.2.2.1, va_Zq_next hW.alike hq h.2.2.2.2.2.1, va_Zq_next hW.alike hq h.2.2.2.2.2.2.1, h.2.2.2.2.2.2.2.1.next hW.alike, h.2.2.2.2.2.2.2.2.1.next hW.alike, h.2.2.2.2.2.2.2.2.2.1.next hW.alike hq, h.2.2.2.2.2.2.2.2.2.2.next hW.alike hq⟩
def sm_tys (G : sm_G) : List (ClassId × FieldType) := [(G.2.2.2.2 1, .int), (G.2.2.2.2 2, .byte), (G.2.2.2.2 3, .short), (G.2.2.2.2 4, .boolean), (G.2.2.2.2 6, .long), (G.2.2.2.2 10, .object "java/lang/String"), (G.2.2.2.2 12, .object "TowerComputer$Chip"), (G.2.2.2.2 11, .array (.object "java/lang/String")), (G.2.2.2.2 13, .array .int)]
def sm_shp (q : am_C) : Prop := (q.1 = 0 → q.2.2.length = am_nf q.2.1 ∧ q.2.1 < 21) ∧ (q.1 ≠ 0 → q.2.1 < 2147483648) ∧ (10 ≤ q.1 → q.2.2.length = q.2.1)
def sm_num (q : am_C) (x : Int) : Prop := if q.1 = 6 then sm_l x else sm_i x
/-- the heap shows the state -/
def sm_ok (G : sm_G) (L : Nat) (xs : Nat → Int32) (σ : am_S) (H : Heap) : Prop :=
  va_P G.2.2.2.1 sm_cl (sm_ws G σ) H ∧ (∃ rs, σ.1[0]? = some (1, L, rs)) ∧ (∀ k, k < L → σ.2 0 k = (xs k).toInt) ∧
  ∀ a q, σ.1[a]? = some q → sm_shp q ∧ ∀ k, sm_num q (σ.2 a k)
/-- locals -/
def sm_prs (G : sm_G) : Nat → List (Option am_V) → List (Nat × Value)
  | _, [] => []
  | i, none :: r => sm_prs G (i + 1) r
  | i, some v :: r => (i, sm_v G v) :: sm_prs G (i + 1) r
theorem sm_prs_mem (G : sm_G) : ∀ (ls : List (Option am_V)) (i : Nat) (x : Nat × Value), x ∈ sm_prs G i ls ↔ ∃ j v, ls[j]? = some (some v) ∧ x = (i + j, sm_v G v)
  | [], i, x => by simp [sm_prs]
  | none :: r, i, x => by
    unfold sm_prs
    rw [sm_prs_mem G r (i + 1) x]
    constructor
    · rintro ⟨j, v, h, rfl⟩; exact ⟨j + 1, v, h, by rw [Nat.add_assoc, Nat.add_comm 1 j]⟩
    · rintro ⟨j, v, h, rfl⟩
      cases j with
      | zero => simp at h
      | succ j => exact ⟨j, v, h, by rw [Nat.add_assoc, Nat.add_comm 1 j]⟩
  | some w :: r, i, x => by
    unfold sm_prs
    rw [List.mem_cons, sm_prs_mem G r (i + 1) x]
    constructor
    · rintro (rfl | ⟨j, v, h, rfl⟩)
      · exact ⟨0, w, rfl, rfl⟩
      · exact ⟨j + 1, v, h, by rw [Nat.add_assoc, Nat.add_comm 1 j]⟩
    · rintro ⟨j, v, h, rfl⟩
      cases j with
      | zero => left; simp at h; rw [h]; rfl
      | succ j => right; exact ⟨j, v, h, by rw [Nat.add_assoc, Nat.add_comm 1 j]⟩
theorem lv_has_mono {ls : Array Slot} {n : Nat} {l l' : List (Nat × Value)} (h : lv_has ls n l) (hs : ∀ q ∈ l', q ∈ l) : lv_has ls n l' := ⟨h.1, h.2.1, fun q hq => h.2.2 q (hs q hq)⟩
/-- the locals show -/
def sm_ls (G : sm_G) (n : Nat) (lo : Bool) (ls : List (Option am_V)) (J : Array Slot) : Prop := lv_has J n (sm_prs G 0 ls) ∧ ls.length = n ∧ (∀ v, some v ∈ ls → sm_rg v) ∧ (lo = false → ∀ v, some v ∈ ls → ∀ x, v ≠ am_l x)
theorem sm_ls_at {G : sm_G} {n : Nat} {lo : Bool} {ls : List (Option am_V)} {J : Array Slot} (h : sm_ls G n lo ls J) {i : Nat} {v : am_V} (hv : ls[i]? = some (some v)) : J[i]? = some (.val (sm_v G v)) ∧ sm_rg v :=
  ⟨h.1.2.2 (i, sm_v G v) ((sm_prs_mem G ls 0 _).mpr ⟨i, v, hv, by rw [Nat.zero_add]⟩), h.2.2.1 v (List.mem_of_getElem? hv)⟩
theorem sm_cat {G : sm_G} {v : am_V} : (sm_v G v).category = 2 → ∃ x, v = am_l x := by
  rcases v with x | x | X
  · intro h; simp [sm_v, Value.category] at h
  · intro _; exact ⟨x, rfl⟩
  · intro h
    have : (sm_v G (.inr (.inr X))).category = 1 := by
      show (va_rf (sm_co G X)).category = 1
      cases sm_co G X <;> rfl
    omega
theorem sm_cat1 {G : sm_G} {v : am_V} (h : ∀ x, v ≠ am_l x) : (sm_v G v).category = 1 := by
  rcases lv_cat (sm_v G v) with h1 | h1
  · exact h1
  · obtain ⟨x, rfl⟩ := sm_cat h1
    exact absurd rfl (h x)
