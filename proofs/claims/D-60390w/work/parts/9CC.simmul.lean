/-! SIMULATION, 23d: multianewarray in a walk: the instruction -/
theorem sm_over {args : Array Value} {first s : State} {o : Option Outcome} {idx : List Nat} {t : FieldType} (h : (Cond.arrayOver (.array t)).holds args first o s idx = true) :
    ∃ comp c k, s.vm.findClass (FieldType.array t).toString = some comp ∧ s.vm.classes[c]? = some k ∧ k.kind = .array comp (.array t) ∧ s.vm.findClass ("[" ++ (FieldType.array t).toString) = some c := by
  simp only [Cond.holds, Cond.value, beq_iff_eq] at h
  cases hc : s.vm.findClass (FieldType.array t).toString with
  | none => simp [hc] at h
  | some comp =>
    simp only [hc, Option.bind_some, Option.bind_eq_some_iff, Option.map_eq_some_iff] at h
    obtain ⟨c, hi, k, hk, hb⟩ := h
    obtain ⟨hlt, hp, -⟩ := Array.findIdx?_eq_some_iff_getElem.mp hi
    have hkk : s.vm.classes[c] = k := (Array.getElem?_eq_some_iff.mp hk).2
    rw [hkk] at hp
    cases hkind : k.kind with
    | array component ty =>
      rw [hkind] at hb hp
      simp at hb hp
      exact ⟨comp, c, k, rfl, hk, by rw [hkind, hp, hb.1], hb.2⟩
    | _ => rw [hkind] at hb; simp at hb
theorem sm_arrV_congr {c : ClassId} {n : Nat} {f g : Nat → Value} (h : ∀ j, j < n → f j = g j) : arrV c n f = arrV c n g := by
  unfold arrV
  congr 1
  apply Array.ext
  · simp
  · intro i h1 h2
    simp only [Array.getElem_ofFn]
    exact h i (by simpa using h1)
theorem sm_mi_top (T : State) (g : JFrame) (cA cI : ClassId) (nX nY : Nat) : ∀ i, sm_mi (T.setTop g) cA cI nX nY i = (sm_mi T cA cI nX nY i).setTop g
  | 0 => rfl
  | i + 1 => by
    unfold sm_mi
    rw [sm_mi_top T g cA cI nX nY i]
    rfl
section
variable {p : Program} {l : Launch} {e : Env} {R : Room} {s : State} {m : MethodId} {args : Array Value} {below : List Frame} {meth : Method} {c : Code} {T : State} {locs : List Loc} {cells slots : Nat}
theorem sm_multi (X : Stand p l e R s m args below meth c T locs cells slots) (hexec : p.tables.exec = Jvm.exec) {own : String} {index : Nat} (hown : s.vm.findClass own = some m.cls) (hclink : (Cond.classLink own index "[[I").before args s = true)
    (hover : (Cond.arrayOver (.array .int)).before args s = true) (harr : (Cond.arrayClass .int).before args s = true) {g : JFrame} (hg : g.method = m) (hdg : decode c.code g.pc = .ok (.multianewarray index 2, 4)) {n k : Int32} {rest : List Value} (hstack : g.stack = .int k :: .int n :: rest)
    (hn : ¬ n < 0) (hk : ¬ k < 0) (hb1 : n.toNatClampNeg ≤ 1000) (hb2 : k.toNatClampNeg ≤ 1000) (hcells : cells + (1 + n.toNatClampNeg) ≤ R.cells) (hslots : slots + (n.toNatClampNeg + n.toNatClampNeg * k.toNatClampNeg) ≤ R.slots) :
    ∃ (vm₁ : Vm) (cA cI : ClassId) (Ls : List Loc), s.vm.findClass "[[I" = some cA ∧ s.vm.findClass "[I" = some cI ∧ (∀ q ∈ Ls, q.base = T.heap.size) ∧
      Stand p l e R s m args below meth c (sm_mi (T.setVm vm₁) cA cI n.toNatClampNeg k.toNatClampNeg n.toNatClampNeg) (locs ++ Ls) (cells + 1 + n.toNatClampNeg) (slots + n.toNatClampNeg + n.toNatClampNeg * k.toNatClampNeg) ∧
      ∀ target, Steps p.tables e below ((sm_mi (T.setVm vm₁) cA cI n.toNatClampNeg k.toNatClampNeg n.toNatClampNeg).setTop { g with pc := g.pc + 4, stack := .ref T.heap.size :: rest }) target → Steps p.tables e below (T.setTop g) target := by
  subst hg
  have hpl : e.platform.magicAccessors = ({} : Platform).magicAccessors := by rw [X.admits.platform]
  obtain ⟨cI, cA, kA, hcomp, hkA, hkindA, hnameA⟩ := sm_over hover
  obtain ⟨cI', kI, cp, hcomp', hkI, hkindI⟩ := Cond.arrayClass_spec harr
  have ecI : cI' = cI := Option.some.inj (hcomp'.symm.trans hcomp)
  subst ecI
  obtain ⟨c0, hfc0, hcl⟩ := Cond.classLink_spec hown hclink e.platform hpl
  cases hnameA.symm.trans hfc0
  obtain ⟨hg₁, hwarm₁, hready₁⟩ := State.classEntry (e := e) X.warmed hcl
  generalize T.vm.noted g.method.cls index (.cls cA) = vm₁ at hg₁ hwarm₁ hready₁
  have hal : s.vm.Alike vm₁ := hwarm₁.alike
  obtain ⟨kA₁, hkA₁, heA⟩ := hal.2.2 _ _ hkA
  obtain ⟨kI₁, hkI₁, heI⟩ := hal.2.2 _ _ hkI
  have hkindA₁ : kA₁.kind = .array cI' (.array .int) := by rw [heA]; exact hkindA
  have hkindI₁ : kI₁.kind = .array cp .int := by rw [heI]; exact hkindI
  have X₁ := X.noted hwarm₁
  obtain ⟨hr1, hr2⟩ := X.roomAbove hcells hslots
  obtain ⟨Ls, XF, hLs⟩ := sm_mi_stand X₁ cA cI' n.toNatClampNeg k.toNatClampNeg n.toNatClampNeg
  refine ⟨vm₁, cA, cI', Ls, hnameA, hcomp, hLs, XF, fun target hrest => ?_⟩
  have hl1 : ¬ n.toNatClampNeg > e.platform.arrayLengthLimit := by rw [Launch.admits_arrayLengthLimit X.admits]; omega
  have hh1 : ¬ n.toNatClampNeg * componentBytes (.array .int) > e.platform.maxHeapBytes := by
    rw [Launch.admits_maxHeapBytes X.admits]; show ¬ n.toNatClampNeg * 4 > 536870912; omega
  have hl2 : ¬ k.toNatClampNeg > e.platform.arrayLengthLimit := by rw [Launch.admits_arrayLengthLimit X.admits]; omega
  have hh2 : ¬ k.toNatClampNeg * componentBytes .int > e.platform.maxHeapBytes := by
    rw [Launch.admits_maxHeapBytes X.admits]; show ¬ k.toNatClampNeg * 4 > 536870912; omega
  jvm_step X.here [hexec, hdg]
  simp only [multianewarray.sem, wp_bind', W.resolveClassAt_links (State.method?_setTop g X.here.top) hg₁]
  rw [W.popN, if_neg (by decide)]
  refine ⟨g, State.topJava?_setTop' (s := T.setVm vm₁) g X.here.top, [.int n, .int k], rest, rfl, hstack, ?_⟩
  simp only [List.mapM_cons, List.mapM_nil, wp_bind', wp_pure']
  have eS : ((T.setTop g).setVm vm₁).setTop { g with stack := rest } = (T.setVm vm₁).setTop { g with stack := rest } := by
    show ((T.setVm vm₁).setTop g).setTop _ = _
    rw [State.setTop_setTop]
  rw [eS]
  refine sm_make2 (s := (T.setVm vm₁).setTop { g with stack := rest }) (kA := kA₁) (kI := kI₁) (cI := cI') (cp := cp) hkA₁ hkindA₁ hkI₁ hkindI₁ hn hk ⟨hl1, hl2⟩ ⟨hh1, hh2⟩ (by show T.heap.size + 1 + _ ≤ _; omega) (by show T.slotsUsed + _ + _ ≤ _; omega) (fun d' acts' => ?_)
  rw [sm_mi_top]
  simp only [wp_bind', W.mark, W.pushRef, State.topJava?_setTop' _ XF.here.top, Option.some.injEq, exists_eq_left', State.setTop_setTop, State.heap_setTop]
  intro acts
  simp [jvm, XF.here.top]
  exact hrest
end
section
variable {p : Program} {l : Launch} {e : Env} {R : Room} {s : State} {m : MethodId} {args : Array Value} {below : List Frame} {meth : Method} {c : Code} {Q : State → Prop}
variable {G : sm_G} {L : Nat} {xs : Nat → Int32} {own : String} {cc : ByteArray} {maxL : Nat} {ret : Option FieldType} {lo : Bool} {n0 t0 : Nat} {out : am_O} {F : am_F} {Γ : am_G}
variable {ls : List (Option am_V)} {st : List am_V} {σ : am_S} {H : Heap} {locs : List Loc} {cells slots pc len : Nat} {J : Array Slot} {r : List am_A} {o : List Nat}
theorem iv_many {q c : am_C} {d : Nat} {k : am_S → Option am_O} (h : am_many σ q c d k = some out) : k (σ.1 ++ q :: List.replicate d c, fun b => if σ.1.length ≤ b ∧ b ≤ σ.1.length + d then (fun _ => 0) else σ.2 b) = some out := by
  unfold am_many at h
  exact (iv_cd1 h).2
theorem am_tot_rep (c : am_C) : ∀ d, am_tot (List.replicate d c) = d * am_siz c
  | 0 => by unfold am_tot; simp
  | d + 1 => by
    rw [List.replicate_succ, show c :: List.replicate d c = [c] ++ List.replicate d c from rfl, am_tot_app, am_tot_1, am_tot_rep c d, Nat.succ_mul]; omega
theorem si_multi (X : sm_cx p s m args meth c G L xs own cc maxL ret) (hsz : s.heap.size + 1 = G.1 + n0) (hrm : sm_room R n0 t0 out) (hF : ∀ p ls st τ o, F p ls st τ = some o → am_le τ o.2) {idx : Nat} (hw1 : Cond.classLink own idx "[[I" ∈ sm_tbl) (hw2 : Cond.arrayOver (.array .int) ∈ sm_tbl) (hw3 : Cond.arrayClass .int ∈ sm_tbl) (hd : decode cc pc = .ok (.multianewarray idx 2, 4))
    (hk : sm_K p l e R s m args below meth c Q G L xs maxL lo n0 t0 out F (.inr r) (pc + 4)) (I : sm_inv s G L xs maxL lo n0 t0 ls st σ H locs cells slots J)
    (h : am_ins Γ F (.multianewarray idx 2) [13, 1] r ls st σ = some out) : W p l e R s m args below meth c H locs cells slots Q (F0 m pc J (st.map (sm_v G))) := by
  obtain ⟨hx, hb, hre, hml, hown, hts, hlocks, hKn, hXs, hb1, hb2, hLL, hcst⟩ := X
  have h : am_p2 st (fun x y st => cond (decide (0 ≤ x) && decide (x ≤ 1000) && decide (0 ≤ y) && decide (y ≤ 1000))
      (am_many σ (13, x.toNat, (List.range x.toNat).map fun k => am_a (σ.1.length + 1 + k)) (1, y.toNat, []) x.toNat fun σ' => F (.inr r) ls (am_r (am_a σ.1.length) :: st) σ') none) = some out := h
  obtain ⟨x, y, s1, rfl, h1⟩ := iv_p2 h
  obtain ⟨h2, h3⟩ := iv_cd1 h1
  simp only [Bool.and_eq_true, decide_eq_true_eq] at h2
  obtain ⟨⟨⟨g1, g2⟩, g3⟩, g4⟩ := h2
  have h4 := iv_many h3
  have hinx := sm_in (x := x) (n := x.toNat + 1) ⟨by omega, by omega⟩ (by omega)
  have hiny := sm_in (x := y) (n := y.toNat + 1) ⟨by omega, by omega⟩ (by omega)
  have hle := hF _ _ _ _ _ h4
  intro T hT X0
  have hsize := sm_size I hb2 hsz (by rw [← hT]; exact X0.heapSize)
  have hc1 := I.2.2.2.2.1
  have hc2 := I.2.2.2.2.2
  have etot : am_tot ((13, x.toNat, (List.range x.toNat).map fun k => am_a (σ.1.length + 1 + k)) :: List.replicate x.toNat (1, y.toNat, [])) = x.toNat + x.toNat * y.toNat := by
    rw [show ∀ (a : am_C) (b : List am_C), a :: b = [a] ++ b from fun _ _ => rfl, am_tot_app, am_tot_1, am_tot_rep, am_siz_a (by decide), am_siz_a (by decide)]
  have hroom := hrm.use hle (cells := cells + (1 + x.toNat)) (slots := slots + (x.toNat + x.toNat * y.toNat)) (by show _ = (σ.1 ++ _ :: List.replicate x.toNat _).length; rw [List.length_append, List.length_cons, List.length_replicate]; omega) (by show _ = am_tot (σ.1 ++ _); rw [am_tot_app, etot]; omega)
  obtain ⟨vm₁, cA, cI, Ls, c1, c2, c3, c4, hgo⟩ := sm_multi X0 hx hown (hts _ hw1) (hts _ hw2) (hts _ hw3) (g := F0 m pc J ((.inl y :: .inl x :: s1).map (sm_v G))) rfl (by rw [hb]; exact hd) (n := Int32.ofInt x) (k := Int32.ofInt y) (rest := s1.map (sm_v G)) rfl (fun z => hinx.1 (Or.inl z)) (fun z => hiny.1 (Or.inl z))
    (by rw [hinx.2]; omega) (by rw [hiny.2]; omega) (by rw [hinx.2]; exact hroom.1) (by rw [hinx.2, hiny.2]; exact hroom.2)
  rw [hinx.2, hiny.2] at c4 hgo
  have hcA : cA = G.2.2.2.2 13 := Option.some.inj (c1.symm.trans (hKn.2 8 _ rfl).2)
  have hcI : cI = G.2.2.2.2 1 := Option.some.inj (c2.symm.trans (hKn.2 0 _ rfl).2)
  subst hcA hcI
  obtain ⟨f1, f2, f3, f4⟩ := sm_mi_f (T.setVm vm₁) (G.2.2.2.2 13) (G.2.2.2.2 1) x.toNat y.toNat x.toNat
  obtain ⟨k1, k2⟩ := sm_mi_heap (T.setVm vm₁) (G.2.2.2.2 13) (G.2.2.2.2 1) x.toNat y.toNat x.toNat
  have f1 : (sm_mi (T.setVm vm₁) (G.2.2.2.2 13) (G.2.2.2.2 1) x.toNat y.toNat x.toNat).heap.size = T.heap.size + 1 + x.toNat := f1
  have f2 : (sm_mi (T.setVm vm₁) (G.2.2.2.2 13) (G.2.2.2.2 1) x.toNat y.toNat x.toNat).heap[T.heap.size]? = some (sm_mc (G.2.2.2.2 13) x.toNat T.heap.size x.toNat) := f2
  have k1 : ∀ q, q < T.heap.size → (sm_mi (T.setVm vm₁) (G.2.2.2.2 13) (G.2.2.2.2 1) x.toNat y.toNat x.toNat).heap[q]? = T.heap[q]? := k1
  have k2 : ∀ j, j < x.toNat → (sm_mi (T.setVm vm₁) (G.2.2.2.2 13) (G.2.2.2.2 1) x.toNat y.toNat x.toNat).heap[T.heap.size + 1 + j]? = some { cls := G.2.2.2.2 1, slots := Array.replicate y.toNat (.int 0) } := k2
  rw [hT] at f1 f2 k1 k2 c3
  generalize sm_mi (T.setVm vm₁) (G.2.2.2.2 13) (G.2.2.2.2 1) x.toNat y.toNat x.toNat = B at c4 hgo f1 f2 k1 k2
  have hpos := I.1.pos
  have Inv := I.grow hsize (qs := (13, x.toNat, (List.range x.toNat).map fun k => am_a (σ.1.length + 1 + k)) :: List.replicate x.toNat (1, y.toNat, [])) (h' := fun b => if σ.1.length ≤ b ∧ b ≤ σ.1.length + x.toNat then (fun _ => 0) else σ.2 b) (H' := B.heap)
    (fun q hq => by
      rcases List.mem_cons.mp hq with rfl | hq
      · exact ⟨fun z => (by cases z), fun _ => (by show x.toNat < _; omega), fun _ => (by simp)⟩
      · rw [List.eq_of_mem_replicate hq]
        exact ⟨fun z => (by cases z), fun _ => (by show y.toNat < _; omega), fun z => (by have z : 10 ≤ 1 := z; omega)⟩)
    (fun a ha => by rw [if_neg (by omega)]) (fun a h1 h2 => by rw [List.length_cons, List.length_replicate] at h2; rw [if_pos (by omega)]) (by omega) k1
    (fun i q hq => by
      cases i with
      | zero =>
        cases hq
        rw [sm_entR G _ _ (by decide)]
        show B.heap[H.size + 0]? = some (vp_cell _ _)
        rw [Nat.add_zero, f2, vp_cell_q]
        unfold sm_mc
        congr 1
        refine sm_arrV_congr fun j hj => ?_
        rw [if_pos hj, List.getD_eq_getElem?_getD, List.getElem?_map, List.getElem?_range hj]
        show Value.ref (H.size + 1 + j) = Value.ref (sm_ad G (σ.1.length + 1 + j))
        unfold sm_ad
        rw [if_neg (by omega)]
        have e9 : H.size + 1 + j = G.1 + (σ.1.length + 1 + j - 1) := by omega
        exact congrArg Value.ref e9
      | succ i =>
        rw [List.getElem?_cons_succ, List.getElem?_replicate] at hq
        split at hq
        · rename_i hi
          cases hq
          obtain ⟨kk, -, -, -, -, -, j6⟩ := sm_nat_ty (Or.inl ⟨rfl, rfl⟩ : sm_nat .int 1) G
          obtain ⟨j1, j2⟩ := j6 (fun b => if σ.1.length ≤ b ∧ b ≤ σ.1.length + x.toNat then (fun _ => 0) else σ.2 b) (σ.1.length + (i + 1)) y.toNat (by rw [if_pos (by omega)])
          rw [j1]
          show B.heap[H.size + (i + 1)]? = some (vp_cell _ _)
          rw [j2, show H.size + (i + 1) = H.size + 1 + i by omega, k2 i hi]
          congr 1
          unfold arrV
          congr 1
          apply Array.ext
          · simp
          · intro i h1 h2
            simp [newarray.typeOf, defaultValue]
        · cases hq) (st' := s1) (fun v hv => by simp [hv])
  rw [etot, List.length_cons, List.length_replicate] at Inv
  have Inv2 : sm_inv s G L xs maxL lo n0 t0 ls (am_r (am_a σ.1.length) :: s1) (σ.1 ++ (13, x.toNat, (List.range x.toNat).map fun k => am_a (σ.1.length + 1 + k)) :: List.replicate x.toNat (1, y.toNat, []), fun b => if σ.1.length ≤ b ∧ b ≤ σ.1.length + x.toNat then (fun _ => 0) else σ.2 b) B.heap (locs ++ Ls) (cells + 1 + x.toNat) (slots + x.toNat + x.toNat * y.toNat) J := by
    have e1 : cells + (x.toNat + 1) = cells + 1 + x.toNat := by omega
    have e2 : slots + (x.toNat + x.toNat * y.toNat) = slots + x.toNat + x.toNat * y.toNat := by omega
    rw [e1, e2] at Inv
    refine ⟨Inv.1, ⟨Inv.2.1.1, Inv.2.1.2.1, fun q hq => ?_⟩, Inv.2.2⟩
    rcases List.mem_append.mp hq with hq | hq
    · exact Inv.2.1.2.2 q hq
    · show G.1 ≤ q.base
      rw [c3 q hq]
      omega
  obtain ⟨t, t1, t2⟩ := hk _ _ _ _ _ _ _ _ Inv2 h4 B rfl c4
  refine ⟨t, hgo _ ?_, t2⟩
  have e3 : Value.ref T.heap.size = sm_v G (am_r (am_a σ.1.length)) := by rw [hT]; exact sm_new_ref hsize hpos
  rw [e3]
  exact t1
end
