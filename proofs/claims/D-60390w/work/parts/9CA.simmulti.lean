/-! SIMULATION, 23b: an array of arrays of numbers is made (multianewarray, two dimensions) -/
section
variable {E : CtlPost} {e : Env} {d : Bool} {acts : List Action} {s : State}
/-- the outer array, of which i places are filled -/
def sm_mc (cA : ClassId) (X a i : Nat) : Cell := arrV cA X (fun j => if j < i then .ref (a + 1 + j) else .null)
def sm_mi (s : State) (cA cI : ClassId) (X Y : Nat) : Nat → State
  | 0 => s.pushCell (sm_mc cA X s.heap.size 0)
  | i + 1 => ((sm_mi s cA cI X Y i).pushCell { cls := cI, slots := Array.replicate Y (.int 0) }).setCell s.heap.size (sm_mc cA X s.heap.size (i + 1))
theorem sm_mc_0 (cA : ClassId) (X a : Nat) : ({ cls := cA, slots := Array.replicate X .null, vm := .none } : Cell) = sm_mc cA X a 0 := by
  unfold sm_mc arrV
  congr 1
  apply Array.ext
  · simp
  · intro i h1 h2
    simp
theorem sm_mc_s (cA : ClassId) {X a i : Nat} : (sm_mc cA X a i).setSlot i (.ref (a + 1 + i)) = sm_mc cA X a (i + 1) := by
  unfold sm_mc
  rw [arrV_store]
  congr 1
  funext j
  unfold updV
  dsimp only
  by_cases h : j = i
  · subst h; rw [if_pos rfl, if_pos (by omega)]
  · rw [if_neg h]
    by_cases h2 : j < i
    · rw [if_pos h2, if_pos (by omega)]
    · rw [if_neg h2, if_neg (by omega)]
theorem sm_mi_f (s : State) (cA cI : ClassId) (X Y : Nat) : ∀ i, (sm_mi s cA cI X Y i).heap.size = s.heap.size + 1 + i ∧ (sm_mi s cA cI X Y i).heap[s.heap.size]? = some (sm_mc cA X s.heap.size i) ∧ (sm_mi s cA cI X Y i).vm = s.vm ∧ (sm_mi s cA cI X Y i).slotsUsed = s.slotsUsed + X + i * Y
  | 0 => by
    refine ⟨?_, ?_, rfl, ?_⟩
    · show (s.heap.push _).size = _; simp
    · show (s.heap.push _)[s.heap.size]? = _; simp
    · show s.slotsUsed + (sm_mc cA X s.heap.size 0).slots.size = _; unfold sm_mc; rw [arrV_size]; omega
  | i + 1 => by
    obtain ⟨h1, h2, h3, h4⟩ := sm_mi_f s cA cI X Y i
    refine ⟨?_, ?_, h3, ?_⟩
    · show ((((sm_mi s cA cI X Y i).pushCell _).setCell _ _).heap).size = _
      rw [size_setCell]; show ((sm_mi s cA cI X Y i).heap.push _).size = _; rw [Array.size_push, h1]; omega
    · exact heapAt_setCell_self _ (by show _ < ((sm_mi s cA cI X Y i).heap.push _).size; rw [Array.size_push, h1]; omega)
    · show (sm_mi s cA cI X Y i).slotsUsed + (Array.replicate Y (Value.int 0)).size = _
      rw [h4, Array.size_replicate, Nat.succ_mul]; omega
theorem sm_make1 {cI cp : ClassId} {kI : Class} {y : Int32} {Q : Addr → Pre} (hk : s.vm.classes[cI]? = some kI) (hkind : kI.kind = .array cp .int) (hy : ¬ y < 0) (hl : ¬ y.toNatClampNeg > e.platform.arrayLengthLimit) (hh : ¬ y.toNatClampNeg * componentBytes .int > e.platform.maxHeapBytes)
    (hc : s.heap.size < e.platform.maxCells) (hs : s.slotsUsed + y.toNatClampNeg ≤ e.platform.maxSlots) (hq : ∀ acts', Q s.heap.size d acts' (s.pushCell { cls := cI, slots := Array.replicate y.toNatClampNeg (.int 0) })) : wp (multianewarray.make cI [y]) Q E e d acts s := by
  simp only [multianewarray.make, if_neg hy, wp_bind', wp_pure', W.theClass, hk]
  refine ⟨kI, rfl, ?_⟩
  rw [hkind]
  exact W.newArray_of hk hkind hl hh hc hs rfl hq
theorem sm_make2 {cA cI cp : ClassId} {kA kI : Class} {x y : Int32} {Q : Addr → Pre} (hkA : s.vm.classes[cA]? = some kA) (hkdA : kA.kind = .array cI (.array .int)) (hkI : s.vm.classes[cI]? = some kI) (hkdI : kI.kind = .array cp .int) (hx : ¬ x < 0) (hy : ¬ y < 0)
    (hl : ¬ x.toNatClampNeg > e.platform.arrayLengthLimit ∧ ¬ y.toNatClampNeg > e.platform.arrayLengthLimit) (hh : ¬ x.toNatClampNeg * componentBytes (.array .int) > e.platform.maxHeapBytes ∧ ¬ y.toNatClampNeg * componentBytes .int > e.platform.maxHeapBytes)
    (hC : s.heap.size + 1 + x.toNatClampNeg ≤ e.platform.maxCells) (hS : s.slotsUsed + x.toNatClampNeg + x.toNatClampNeg * y.toNatClampNeg ≤ e.platform.maxSlots)
    (hq : ∀ d' acts', Q s.heap.size d' acts' (sm_mi s cA cI x.toNatClampNeg y.toNatClampNeg x.toNatClampNeg)) : wp (multianewarray.make cA [x, y]) Q E e d acts s := by
  unfold multianewarray.make
  have hf : [y].find? (fun z => decide (z < 0)) = none := by simp [hy]
  simp only [if_neg hx, wp_bind', wp_pure', W.theClass, hkA]
  refine ⟨kA, rfl, ?_⟩
  rw [hkdA]
  dsimp only
  rw [hf]
  simp only [Std.Legacy.Range.forIn_eq_forIn_range']
  simp only [ite_self, wp_bind', wp_pure']
  refine W.newArray_of hkA hkdA hl.1 hh.1 (by omega) (by omega) rfl (fun acts' => ?_)
  have e0 : s.pushCell { cls := cA, slots := Array.replicate x.toNatClampNeg .null } = sm_mi s cA cI x.toNatClampNeg y.toNatClampNeg 0 := by
    show s.pushCell _ = s.pushCell _
    rw [← sm_mc_0]
  rw [e0]
  rw [wp_bind']
  refine wp_forIn_inv (fun rest s' => ∃ i, i ≤ x.toNatClampNeg ∧ rest = List.range' i (x.toNatClampNeg - i) ∧ s' = sm_mi s cA cI x.toNatClampNeg y.toNatClampNeg i) _ _ ?_ ?_ ?_
  · exact ⟨0, Nat.zero_le _, by rw [show ([:x.toNatClampNeg] : Std.Legacy.Range).size = x.toNatClampNeg - 0 from by show (x.toNatClampNeg - 0 + 1 - 1) / 1 = _; omega], rfl⟩
  · rintro z rest s' d' acts'' Q' ⟨i, h1, h2, rfl⟩ hgo
    obtain ⟨f1, f2, f3, f4⟩ := sm_mi_f s cA cI x.toNatClampNeg y.toNatClampNeg i
    have hi : i < x.toNatClampNeg := by
      have := congrArg List.length h2
      simp at this
      omega
    obtain ⟨m, hm⟩ : ∃ m, x.toNatClampNeg - i = m + 1 := ⟨x.toNatClampNeg - i - 1, by omega⟩
    rw [hm, List.range'_succ] at h2
    obtain ⟨rfl, h2⟩ := List.cons_eq_cons.mp h2
    have hmul : z * y.toNatClampNeg + y.toNatClampNeg ≤ x.toNatClampNeg * y.toNatClampNeg := by
      rw [← Nat.succ_mul]; exact Nat.mul_le_mul_right _ hi
    rw [wp_bind']
    refine sm_make1 (kI := kI) (by rw [f3]; exact hkI) hkdI hy hl.2 hh.2 (by omega) (by omega) (fun acts3 => ?_)
    simp only [wp_bind', W.writeLoc, wp_pure']
    refine ⟨sm_mc cA x.toNatClampNeg s.heap.size z, ?_, fun q => (by cases q), by unfold sm_mc; rw [arrV_size]; exact hi, ?_, ?_⟩
    · show ((sm_mi s cA cI x.toNatClampNeg y.toNatClampNeg z).heap.push _)[s.heap.size]? = _
      rw [Array.getElem?_push, if_neg (by omega)]; exact f2
    · have hv : ((sm_mi s cA cI x.toNatClampNeg y.toNatClampNeg z).pushCell { cls := cI, slots := Array.replicate y.toNatClampNeg (.int 0) }).vm.classes[cA]? = some kA := by
        show (sm_mi s cA cI x.toNatClampNeg y.toNatClampNeg z).vm.classes[cA]? = _
        rw [f3]; exact hkA
      have hv2 : (sm_mi s cA cI x.toNatClampNeg y.toNatClampNeg z).vm.classes[cA]? = some kA := hv
      simp [State.fitsSlot, State.slotType?, sm_mc, arrV, hv2, hkdA, fits, State.pushCell]
    · refine hgo _ _ _ ⟨z + 1, by omega, by rw [h2]; congr 1; omega, ?_⟩
      rw [f1, sm_mc_s]
      rfl
  · rintro s' d' acts'' ⟨i, h1, h2, rfl⟩
    have h3 : i = x.toNatClampNeg := by
      have := congrArg List.length h2
      simp at this
      omega
    subst h3
    rw [wp_pure']
    exact hq _ _
end
