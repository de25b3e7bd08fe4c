/-! SIMULATION, 3: how AM's helpers come to an answer -/
section
variable {out : am_O}
theorem iv_ob {α : Type} {o : Option α} {k : α → Option am_O} (h : am_ob o k = some out) : ∃ x, o = some x ∧ k x = some out := by
  cases o with
  | none => cases h
  | some x => exact ⟨x, rfl, h⟩
theorem iv_p1 {st : List am_V} {k : Int → List am_V → Option am_O} (h : am_p1 st k = some out) : ∃ x st', st = .inl x :: st' ∧ k x st' = some out := by
  unfold am_p1 at h; split at h
  · exact ⟨_, _, rfl, h⟩
  · cases h
theorem iv_p2 {st : List am_V} {k : Int → Int → List am_V → Option am_O} (h : am_p2 st k = some out) : ∃ x y st', st = .inl y :: .inl x :: st' ∧ k x y st' = some out := by
  unfold am_p2 at h; split at h
  · exact ⟨_, _, _, rfl, h⟩
  · cases h
theorem iv_l1 {st : List am_V} {k : Int → List am_V → Option am_O} (h : am_l1 st k = some out) : ∃ x st', st = .inr (.inl x) :: st' ∧ k x st' = some out := by
  unfold am_l1 at h; split at h
  · exact ⟨_, _, rfl, h⟩
  · cases h
theorem iv_l2 {st : List am_V} {k : Int → Int → List am_V → Option am_O} (h : am_l2 st k = some out) : ∃ x y st', st = .inr (.inl y) :: .inr (.inl x) :: st' ∧ k x y st' = some out := by
  unfold am_l2 at h; split at h
  · exact ⟨_, _, _, rfl, h⟩
  · cases h
theorem iv_pr {st : List am_V} {k : am_R → List am_V → Option am_O} (h : am_pr st k = some out) : ∃ X st', st = .inr (.inr X) :: st' ∧ k X st' = some out := by
  unfold am_pr at h; split at h
  · exact ⟨_, _, rfl, h⟩
  · cases h
theorem iv_rr {st : List am_V} {k : am_R → am_R → List am_V → Option am_O} (h : am_rr st k = some out) : ∃ X Y st', st = .inr (.inr Y) :: .inr (.inr X) :: st' ∧ k X Y st' = some out := by
  unfold am_rr at h; split at h
  · exact ⟨_, _, _, rfl, h⟩
  · cases h
theorem iv_hp {X : am_R} {k : Nat → Option am_O} (h : am_hp X k = some out) : ∃ a, X = am_a a ∧ k a = some out := by
  unfold am_hp at h; split at h
  · exact ⟨_, rfl, h⟩
  · cases h
theorem iv_ct {X : am_R} {k : Nat → Option am_O} (h : am_ct X k = some out) : ∃ j, X = am_k j ∧ k j = some out := by
  unfold am_ct at h; split at h
  · exact ⟨_, rfl, h⟩
  · cases h
theorem iv_cd {b : Bool} {x y : Option am_O} (h : cond b x y = some out) : (b = true ∧ x = some out) ∨ (b = false ∧ y = some out) := by
  cases b
  · exact Or.inr ⟨rfl, h⟩
  · exact Or.inl ⟨rfl, h⟩
theorem iv_cd1 {b : Bool} {x : Option am_O} (h : cond b x none = some out) : b = true ∧ x = some out := by
  cases b
  · cases h
  · exact ⟨rfl, h⟩
theorem iv_cd0 {b : Bool} {x : Option am_O} (h : cond b none x = some out) : b = false ∧ x = some out := by
  cases b
  · exact ⟨rfl, h⟩
  · cases h
theorem iv_obj {σ : am_S} {X : am_R} {c : Nat} {k : Nat → List am_R → Option am_O} (h : am_obj σ X c k = some out) : ∃ a rs, X = am_a a ∧ σ.1[a]? = some (0, c, rs) ∧ k a rs = some out := by
  obtain ⟨a, rfl, h⟩ := iv_hp h
  obtain ⟨⟨t, n, rs⟩, hq, h1⟩ := iv_ob h
  obtain ⟨hb, h2⟩ := iv_cd1 h1
  simp only [Bool.and_eq_true, Nat.beq_eq] at hb
  obtain ⟨rfl, rfl⟩ := hb
  exact ⟨a, rs, rfl, hq, h2⟩
theorem iv_arr {σ : am_S} {X : am_R} {t : Nat} {k : Nat → Nat → List am_R → Option am_O} (h : am_arr σ X t k = some out) : ∃ a n rs, X = am_a a ∧ σ.1[a]? = some (t, n, rs) ∧ k a n rs = some out := by
  obtain ⟨a, rfl, h⟩ := iv_hp h
  obtain ⟨⟨t', n, rs⟩, hq, h1⟩ := iv_ob h
  obtain ⟨hb, h2⟩ := iv_cd1 h1
  simp only [Nat.beq_eq] at hb
  subst hb
  exact ⟨a, n, rs, rfl, hq, h2⟩
theorem iv_idx {i : Int} {n : Nat} {k : Nat → Option am_O} (h : am_idx i n k = some out) : (0 ≤ i ∧ i < n) ∧ k i.toNat = some out := by
  unfold am_idx at h; split at h
  · exact ⟨by assumption, h⟩
  · cases h
theorem iv_bit {v : Int} {k : Option am_O} (h : am_bit v k = some out) : (v = 0 ∨ v = 1) ∧ k = some out := by
  unfold am_bit at h; split at h
  · exact ⟨by assumption, h⟩
  · cases h
theorem iv_ldi {ls : List (Option am_V)} {i : Nat} {k : Int → Option am_O} (h : am_ldi ls i k = some out) : ∃ x, ls[i]? = some (some (am_i x)) ∧ k x = some out := by
  unfold am_ldi at h; split at h
  · exact ⟨_, by assumption, h⟩
  · cases h
theorem iv_ldl {ls : List (Option am_V)} {i : Nat} {k : Int → Option am_O} (h : am_ldl ls i k = some out) : ∃ x, ls[i]? = some (some (am_l x)) ∧ k x = some out := by
  unfold am_ldl at h; split at h
  · exact ⟨_, by assumption, h⟩
  · cases h
theorem iv_ldr {ls : List (Option am_V)} {i : Nat} {k : am_R → Option am_O} (h : am_ldr ls i k = some out) : ∃ X, ls[i]? = some (some (am_r X)) ∧ k X = some out := by
  unfold am_ldr at h; split at h
  · exact ⟨_, by assumption, h⟩
  · cases h
end
/-- what holds at a point of a walk: the heap shows σ, nothing old has changed, locals and stack show, the room that is used -/
def sm_inv (s : State) (G : sm_G) (L : Nat) (xs : Nat → Int32) (maxL : Nat) (lo : Bool) (n0 t0 : Nat) (ls : List (Option am_V)) (st : List am_V) (σ : am_S) (H : Heap) (locs : List Loc) (cells slots : Nat) (J : Array Slot) : Prop :=
  sm_ok G L xs σ H ∧ va_S (sm_A G) s.heap H locs ∧ sm_ls G maxL lo ls J ∧ (∀ v ∈ st, sm_rg v) ∧ cells + n0 = σ.1.length ∧ slots + t0 = am_tot σ.1
/-- what holds all through a method's walk -/
def sm_cx (p : Program) (s : State) (m : MethodId) (args : Array Value) (meth : Method) (c : Code) (G : sm_G) (L : Nat) (xs : Nat → Int32) (own : String) (cc : ByteArray) (maxL : Nat) (ret : Option FieldType) : Prop :=
  p.tables.exec = Jvm.exec ∧ c.code = cc ∧ meth.sig.returnType = ret ∧ c.maxLocals = maxL ∧ s.vm.findClass own = some m.cls ∧ (∀ w ∈ sm_tbl, w.before args s = true) ∧ meth.locks = false ∧
  va_K G.2.2.2.1 sm_cl (sm_tys G) s ∧ va_X G.2.1 L xs s s.heap ∧ G.2.1 < G.1 ∧ G.1 ≤ s.heap.size ∧ L < 2147483648 ∧ sm_cst G s s.heap
section
variable {p : Program} {l : Launch} {e : Env} {R : Room} {s : State} {m : MethodId} {args : Array Value} {below : List Frame} {meth : Method} {c : Code} {Q : State → Prop}
variable {G : sm_G} {L : Nat} {xs : Nat → Int32} {own : String} {cc : ByteArray} {maxL : Nat} {ret : Option FieldType} {lo : Bool} {n0 t0 : Nat} {out : am_O} {F : am_F}
variable {ls : List (Option am_V)} {st : List am_V} {σ : am_S} {H : Heap} {locs : List Loc} {cells slots pc : Nat} {J : Array Slot} {r : List am_A}
/-- from a place on the walk comes to its end -/
def sm_K (p : Program) (l : Launch) (e : Env) (R : Room) (s : State) (m : MethodId) (args : Array Value) (below : List Frame) (meth : Method) (c : Code) (Q : State → Prop) (G : sm_G) (L : Nat) (xs : Nat → Int32) (maxL : Nat) (lo : Bool) (n0 t0 : Nat) (out : am_O) (F : am_F) (pos : Nat ⊕ List am_A) (pc : Nat) : Prop :=
  ∀ ls st σ H locs cells slots J, sm_inv s G L xs maxL lo n0 t0 ls st σ H locs cells slots J → F pos ls st σ = some out → W p l e R s m args below meth c H locs cells slots Q (F0 m pc J (st.map (sm_v G)))
theorem sm_inv.push (I : sm_inv s G L xs maxL lo n0 t0 ls st σ H locs cells slots J) {st' : List am_V} {vs : List am_V} (hs : ∀ v ∈ st', v ∈ st) (h : ∀ v ∈ vs, sm_rg v) : sm_inv s G L xs maxL lo n0 t0 ls (vs ++ st') σ H locs cells slots J :=
  ⟨I.1, I.2.1, I.2.2.1, fun v hv => by
    rcases List.mem_append.mp hv with hv | hv
    · exact h v hv
    · exact I.2.2.2.1 v (hs v hv), I.2.2.2.2⟩
theorem sm_inv.p1 (I : sm_inv s G L xs maxL lo n0 t0 ls st σ H locs cells slots J) {st' : List am_V} {v : am_V} (hs : ∀ v ∈ st', v ∈ st) (h : sm_rg v) : sm_inv s G L xs maxL lo n0 t0 ls (v :: st') σ H locs cells slots J :=
  I.push (vs := [v]) hs (fun w hw => by rw [List.mem_singleton.mp hw]; exact h)
theorem sm_inv.p0 (I : sm_inv s G L xs maxL lo n0 t0 ls st σ H locs cells slots J) {st' : List am_V} (hs : ∀ v ∈ st', v ∈ st) : sm_inv s G L xs maxL lo n0 t0 ls st' σ H locs cells slots J :=
  I.push (vs := []) hs (fun w hw => by cases hw)
theorem sm_inv.top (I : sm_inv s G L xs maxL lo n0 t0 ls st σ H locs cells slots J) {v : am_V} (h : v ∈ st) : sm_rg v := I.2.2.2.1 v h
/-- two ints become one -/
theorem si_2 {f : Int → Int → Int} {g : Int32 → Int32 → Int32} (hk : sm_K p l e R s m args below meth c Q G L xs maxL lo n0 t0 out F (.inr r) (pc + 1)) (I : sm_inv s G L xs maxL lo n0 t0 ls st σ H locs cells slots J)
    (row : ∀ (x y : Int32) (rest : List Value), W p l e R s m args below meth c H locs cells slots Q (F0 m (pc + 1) J (.int (g x y) :: rest)) → W p l e R s m args below meth c H locs cells slots Q (F0 m pc J (.int y :: .int x :: rest)))
    (hi : ∀ x y, sm_i x → sm_i y → sm_i (f x y) ∧ g (Int32.ofInt x) (Int32.ofInt y) = Int32.ofInt (f x y))
    (h : am_p2 st (fun x y st => F (.inr r) ls (am_i (f x y) :: st) σ) = some out) : W p l e R s m args below meth c H locs cells slots Q (F0 m pc J (st.map (sm_v G))) := by
  obtain ⟨x, y, st', rfl, h⟩ := iv_p2 h
  have hx : sm_i x := I.top (v := .inl x) (by simp)
  have hy : sm_i y := I.top (v := .inl y) (by simp)
  obtain ⟨h1, h2⟩ := hi x y hx hy
  refine row (Int32.ofInt x) (Int32.ofInt y) (st'.map (sm_v G)) ?_
  rw [h2]
  exact hk _ _ _ _ _ _ _ _ (I.p1 (st' := st') (v := am_i (f x y)) (fun v hv => by simp [hv]) h1) h
theorem si_1 {f : Int → Int} {g : Int32 → Int32} (hk : sm_K p l e R s m args below meth c Q G L xs maxL lo n0 t0 out F (.inr r) (pc + 1)) (I : sm_inv s G L xs maxL lo n0 t0 ls st σ H locs cells slots J)
    (row : ∀ (x : Int32) (rest : List Value), W p l e R s m args below meth c H locs cells slots Q (F0 m (pc + 1) J (.int (g x) :: rest)) → W p l e R s m args below meth c H locs cells slots Q (F0 m pc J (.int x :: rest)))
    (hi : ∀ x, sm_i x → sm_i (f x) ∧ g (Int32.ofInt x) = Int32.ofInt (f x))
    (h : am_p1 st (fun x st => F (.inr r) ls (am_i (f x) :: st) σ) = some out) : W p l e R s m args below meth c H locs cells slots Q (F0 m pc J (st.map (sm_v G))) := by
  obtain ⟨x, st', rfl, h⟩ := iv_p1 h
  have hx : sm_i x := I.top (v := .inl x) (by simp)
  obtain ⟨h1, h2⟩ := hi x hx
  refine row (Int32.ofInt x) (st'.map (sm_v G)) ?_
  rw [h2]
  exact hk _ _ _ _ _ _ _ _ (I.p1 (st' := st') (v := am_i (f x)) (fun v hv => by simp [hv]) h1) h
/-- a comparison of two ints, and of one with 0 -/
theorem si_cmp (hx0 : p.tables.exec = Jvm.exec) (hb : c.code = cc) {cd : Jvm.ClassFile.Cond} {off : Int} {tgt : Nat} (hd : decode cc pc = .ok (.if_icmp cd off, 3)) (ht : (pc : Int) + off = (tgt : Int)) {kt : Nat}
    (hk : sm_K p l e R s m args below meth c Q G L xs maxL lo n0 t0 out F (.inr r) (pc + 3)) (hj : sm_K p l e R s m args below meth c Q G L xs maxL lo n0 t0 out F (.inl kt) tgt) (I : sm_inv s G L xs maxL lo n0 t0 ls st σ H locs cells slots J)
    (h : am_p2 st (fun x y st => am_cmp cd x y (F (.inl kt) ls st σ) (F (.inr r) ls st σ)) = some out) : W p l e R s m args below meth c H locs cells slots Q (F0 m pc J (st.map (sm_v G))) := by
  obtain ⟨x, y, st', rfl, h⟩ := iv_p2 h
  have hx : sm_i x := I.top (v := .inl x) (by simp)
  have hy : sm_i y := I.top (v := .inl y) (by simp)
  have I' := I.p0 (st' := st') (fun v hv => by simp [hv])
  replace h : am_cmp cd x y (F (.inl kt) ls st' σ) (F (.inr r) ls st' σ) = some out := h
  cases cd
  · refine lv_icmp_eq hx0 hb hd ht (fun q => ?_) (fun q => ?_)
    · rw [am_cmp, if_pos ((sm_eqI hx hy).mp q)] at h; exact hj _ _ _ _ _ _ _ _ I' h
    · rw [am_cmp, if_neg (fun z => q ((sm_eqI hx hy).mpr z))] at h; exact hk _ _ _ _ _ _ _ _ I' h
  · refine lv_icmp_ne hx0 hb hd ht (fun q => ?_) (fun q => ?_)
    · rw [am_cmp, if_neg (fun z => q ((sm_eqI hx hy).mpr z))] at h; exact hj _ _ _ _ _ _ _ _ I' h
    · rw [am_cmp, if_pos ((sm_eqI hx hy).mp q)] at h; exact hk _ _ _ _ _ _ _ _ I' h
  · refine lv_icmp_lt hx0 hb hd ht (fun q => ?_) (fun q => ?_)
    · rw [am_cmp, if_pos ((sm_ltI hx hy).mp q)] at h; exact hj _ _ _ _ _ _ _ _ I' h
    · rw [am_cmp, if_neg (fun z => q ((sm_ltI hx hy).mpr z))] at h; exact hk _ _ _ _ _ _ _ _ I' h
  · refine lv_icmp_ge hx0 hb hd ht (fun q => ?_) (fun q => ?_)
    · rw [am_cmp, if_neg (by have := (sm_leI hy hx).mp q; omega)] at h; exact hj _ _ _ _ _ _ _ _ I' h
    · rw [am_cmp, if_pos (Int.not_le.mp fun z => q ((sm_leI hy hx).mpr z))] at h; exact hk _ _ _ _ _ _ _ _ I' h
  · refine lv_icmp_gt hx0 hb hd ht (fun q => ?_) (fun q => ?_)
    · rw [am_cmp, if_pos ((sm_ltI hy hx).mp q)] at h; exact hj _ _ _ _ _ _ _ _ I' h
    · rw [am_cmp, if_neg (fun z => q ((sm_ltI hy hx).mpr z))] at h; exact hk _ _ _ _ _ _ _ _ I' h
  · refine lv_icmp_le hx0 hb hd ht (fun q => ?_) (fun q => ?_)
    · rw [am_cmp, if_neg (by have := (sm_leI hx hy).mp q; omega)] at h; exact hj _ _ _ _ _ _ _ _ I' h
    · rw [am_cmp, if_pos (Int.not_le.mp fun z => q ((sm_leI hx hy).mpr z))] at h; exact hk _ _ _ _ _ _ _ _ I' h
theorem si_if (hx0 : p.tables.exec = Jvm.exec) (hb : c.code = cc) {cd : Jvm.ClassFile.Cond} {off : Int} {tgt : Nat} (hd : decode cc pc = .ok (.ifCond cd off, 3)) (ht : (pc : Int) + off = (tgt : Int)) {kt : Nat}
    (hk : sm_K p l e R s m args below meth c Q G L xs maxL lo n0 t0 out F (.inr r) (pc + 3)) (hj : sm_K p l e R s m args below meth c Q G L xs maxL lo n0 t0 out F (.inl kt) tgt) (I : sm_inv s G L xs maxL lo n0 t0 ls st σ H locs cells slots J)
    (h : am_p1 st (fun x st => am_cmp cd x 0 (F (.inl kt) ls st σ) (F (.inr r) ls st σ)) = some out) : W p l e R s m args below meth c H locs cells slots Q (F0 m pc J (st.map (sm_v G))) := by
  obtain ⟨x, st', rfl, h⟩ := iv_p1 h
  have hx : sm_i x := I.top (v := .inl x) (by simp)
  have I' := I.p0 (st' := st') (fun v hv => by simp [hv])
  replace h : am_cmp cd x 0 (F (.inl kt) ls st' σ) (F (.inr r) ls st' σ) = some out := h
  cases cd
  · refine lv_if_eq hx0 hb hd ht (fun q => ?_) (fun q => ?_)
    · rw [am_cmp, if_pos ((sm_eq0 hx).mp q)] at h; exact hj _ _ _ _ _ _ _ _ I' h
    · rw [am_cmp, if_neg (fun z => q ((sm_eq0 hx).mpr z))] at h; exact hk _ _ _ _ _ _ _ _ I' h
  · refine lv_if_ne hx0 hb hd ht (fun q => ?_) (fun q => ?_)
    · rw [am_cmp, if_neg (fun z => q ((sm_eq0 hx).mpr z))] at h; exact hj _ _ _ _ _ _ _ _ I' h
    · rw [am_cmp, if_pos ((sm_eq0 hx).mp q)] at h; exact hk _ _ _ _ _ _ _ _ I' h
  · refine lv_if_lt hx0 hb hd ht (fun q => ?_) (fun q => ?_)
    · rw [am_cmp, if_pos ((sm_lt0 hx).mp q)] at h; exact hj _ _ _ _ _ _ _ _ I' h
    · rw [am_cmp, if_neg (fun z => q ((sm_lt0 hx).mpr z))] at h; exact hk _ _ _ _ _ _ _ _ I' h
  · refine lv_if_ge hx0 hb hd ht (fun q => ?_) (fun q => ?_)
    · rw [am_cmp, if_neg (by have := (sm_ge0 hx).mp q; omega)] at h; exact hj _ _ _ _ _ _ _ _ I' h
    · rw [am_cmp, if_pos (Int.not_le.mp fun z => q ((sm_ge0 hx).mpr z))] at h; exact hk _ _ _ _ _ _ _ _ I' h
  · refine lv_if_gt hx0 hb hd ht (fun q => ?_) (fun q => ?_)
    · rw [am_cmp, if_pos ((sm_gt0 hx).mp q)] at h; exact hj _ _ _ _ _ _ _ _ I' h
    · rw [am_cmp, if_neg (fun z => q ((sm_gt0 hx).mpr z))] at h; exact hk _ _ _ _ _ _ _ _ I' h
  · refine lv_if_le hx0 hb hd ht (fun q => ?_) (fun q => ?_)
    · rw [am_cmp, if_neg (by have := (sm_le0 hx).mp q; omega)] at h; exact hj _ _ _ _ _ _ _ _ I' h
    · rw [am_cmp, if_pos (Int.not_le.mp fun z => q ((sm_le0 hx).mpr z))] at h; exact hk _ _ _ _ _ _ _ _ I' h
end
