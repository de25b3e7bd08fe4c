/-! SIMULATION, 23c: multianewarray in a walk: the stand of its end state -/
section
variable {p : Program} {l : Launch} {e : Env} {R : Room} {s : State} {m : MethodId} {args : Array Value} {below : List Frame} {meth : Method} {c : Code} {locs : List Loc} {cells slots : Nat}
theorem sm_mi_stand {T : State} (X : Stand p l e R s m args below meth c T locs cells slots) (cA cI : ClassId) (nX nY : Nat) : ∀ i, ∃ L : List Loc, Stand p l e R s m args below meth c (sm_mi T cA cI nX nY i) (locs ++ L) (cells + 1 + i) (slots + nX + i * nY) ∧ ∀ q ∈ L, q.base = T.heap.size
  | 0 => by
    have h := X.pushed (sm_mc cA nX T.heap.size 0)
    have e1 : (sm_mc cA nX T.heap.size 0).slots.size = nX := by unfold sm_mc; rw [arrV_size]
    rw [e1] at h
    exact ⟨[], by rw [List.append_nil, Nat.zero_mul]; exact h, fun q hq => by cases hq⟩
  | i + 1 => by
    obtain ⟨L, h, hL⟩ := sm_mi_stand X cA cI nX nY i
    obtain ⟨f1, f2, f3, f4⟩ := sm_mi_f T cA cI nX nY i
    have h1 := h.pushed { cls := cI, slots := Array.replicate nY (.int 0) }
    have h2 := h1.stored (a := T.heap.size) (cell := sm_mc cA nX T.heap.size i) (by show ((sm_mi T cA cI nX nY i).heap.push _)[T.heap.size]? = _; rw [Array.getElem?_push, if_neg (by omega)]; exact f2) i (.ref (T.heap.size + 1 + i))
    rw [sm_mc_s] at h2
    refine ⟨L ++ [⟨T.heap.size, i⟩], ?_, fun q hq => ?_⟩
    · have e2 : slots + nX + (i + 1) * nY = slots + nX + i * nY + (Array.replicate nY (Value.int 0)).size := by rw [Array.size_replicate, Nat.succ_mul]; omega
      rw [e2, ← List.append_assoc]
      exact h2
    · rcases List.mem_append.mp hq with h | h
      · exact hL q h
      · rw [List.mem_singleton.mp h]
theorem sm_mi_heap (T : State) (cA cI : ClassId) (nX nY : Nat) : ∀ i, (∀ q, q < T.heap.size → (sm_mi T cA cI nX nY i).heap[q]? = T.heap[q]?) ∧ ∀ j, j < i → (sm_mi T cA cI nX nY i).heap[T.heap.size + 1 + j]? = some { cls := cI, slots := Array.replicate nY (.int 0) }
  | 0 => by
    refine ⟨fun q hq => ?_, fun j hj => absurd hj (Nat.not_lt_zero j)⟩
    show (T.heap.push _)[q]? = _
    rw [Array.getElem?_push, if_neg (by omega)]
  | i + 1 => by
    obtain ⟨h1, h2⟩ := sm_mi_heap T cA cI nX nY i
    obtain ⟨f1, f2, f3, f4⟩ := sm_mi_f T cA cI nX nY i
    refine ⟨fun q hq => ?_, fun j hj => ?_⟩
    · show (((sm_mi T cA cI nX nY i).pushCell _).setCell _ _).heap[q]? = _
      rw [heapAt_setCell_ne _ (show T.heap.size ≠ q by omega)]
      show ((sm_mi T cA cI nX nY i).heap.push _)[q]? = _
      rw [Array.getElem?_push, if_neg (by omega)]
      exact h1 q hq
    · show (((sm_mi T cA cI nX nY i).pushCell _).setCell _ _).heap[_]? = _
      rw [heapAt_setCell_ne _ (show T.heap.size ≠ T.heap.size + 1 + j by omega)]
      show ((sm_mi T cA cI nX nY i).heap.push _)[T.heap.size + 1 + j]? = _
      rw [Array.getElem?_push]
      by_cases hji : j = i
      · rw [if_pos (by omega)]
      · rw [if_neg (by omega)]
        exact h2 j (by omega)
end
