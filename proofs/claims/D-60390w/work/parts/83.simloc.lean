/-! SIMULATION, 4: constants, loads, stores, stack, longs -/
theorem sm_ls_of {G : sm_G} {n : Nat} {lo : Bool} {ls ls' : List (Option am_V)} {J J' : Array Slot} (h : sm_ls G n lo ls J) {i : Nat} {v : am_V} {P : Nat × Value → Bool} (hJ : lv_has J' n ((i, sm_v G v) :: (sm_prs G 0 ls).filter P))
    (hlen : ls'.length = n) (hv : sm_rg v) (hlv : lo = false → ∀ x, v ≠ am_l x)
    (hs : ∀ j w, ls'[j]? = some (some w) → (j = i ∧ w = v) ∨ (ls[j]? = some (some w) ∧ P (j, sm_v G w) = true)) : sm_ls G n lo ls' J' := by
  refine ⟨lv_has_mono hJ fun q hq => ?_, hlen, fun w hw => ?_, fun hl w hw x => ?_⟩
  · obtain ⟨j, w, hw, rfl⟩ := (sm_prs_mem G ls' 0 q).mp hq
    rw [Nat.zero_add]
    rcases hs j w hw with ⟨rfl, rfl⟩ | ⟨h1, h2⟩
    · exact List.mem_cons_self
    · exact List.mem_cons_of_mem _ (List.mem_filter.mpr ⟨(sm_prs_mem G ls 0 _).mpr ⟨j, w, h1, by rw [Nat.zero_add]⟩, h2⟩)
  · obtain ⟨j, hj⟩ := List.getElem?_of_mem hw
    rcases hs j w hj with ⟨-, rfl⟩ | ⟨h1, -⟩
    · exact hv
    · exact h.2.2.1 w (List.mem_of_getElem? h1)
  · obtain ⟨j, hj⟩ := List.getElem?_of_mem hw
    rcases hs j w hj with ⟨-, rfl⟩ | ⟨h1, -⟩
    · exact hlv hl x
    · exact h.2.2.2 hl w (List.mem_of_getElem? h1) x
theorem sm_st1_at {o : List Nat} {ls : List (Option am_V)} {i : Nat} {v : am_V} (ho : o = [] → ∀ w, some w ∈ ls → ∀ x, w ≠ am_l x) {j : Nat} {w : am_V} (h : (am_st1 o ls i v)[j]? = some (some w)) :
    (j = i ∧ w = v) ∨ (j ≠ i ∧ ls[j]? = some (some w) ∧ ¬ (j + 1 = i ∧ ∃ x, w = am_l x)) := by
  have key : ∀ ls' : List (Option am_V), (ls'.set i (some v))[j]? = some (some w) → (j = i ∧ w = v) ∨ (j ≠ i ∧ ls'[j]? = some (some w)) := by
    intro ls' h
    rw [List.getElem?_set] at h
    by_cases e : i = j
    · rw [if_pos e] at h
      split at h
      · left; exact ⟨e.symm, (Option.some.inj (Option.some.inj h)).symm⟩
      · cases h
    · rw [if_neg e] at h
      exact Or.inr ⟨fun z => e z.symm, h⟩
  unfold am_st1 at h
  split at h
  · rcases key _ h with h | ⟨h1, h2⟩
    · exact Or.inl h
    · exact Or.inr ⟨h1, h2, fun ⟨_, x, hx⟩ => ho rfl w (List.mem_of_getElem? h2) x hx⟩
  · rcases key _ h with h | ⟨h1, h2⟩
    · exact Or.inl h
    · right
      cases i with
      | zero => exact ⟨h1, h2, fun ⟨z, _⟩ => by omega⟩
      | succ i =>
        dsimp only at h2
        split at h2
        · rw [List.getElem?_set] at h2
          by_cases e : i = j
          · rw [if_pos e] at h2
            split at h2 <;> cases h2
          · rw [if_neg e] at h2
            exact ⟨h1, h2, fun ⟨z, _⟩ => e (by omega)⟩
        · rename_i hne
          refine ⟨h1, h2, fun ⟨z, x, hx⟩ => ?_⟩
          have : i = j := by omega
          subst this
          subst hx
          exact hne x h2
theorem sm_st1_len {o : List Nat} {ls : List (Option am_V)} {i : Nat} {v : am_V} : (am_st1 o ls i v).length = ls.length := by
  unfold am_st1
  split
  · simp
  · rw [List.length_set]
    cases i with
    | zero => rfl
    | succ i => dsimp only; split <;> simp
/-- what a store leaves -/
theorem sm_ls_st1 {G : sm_G} {n : Nat} {lo : Bool} {ls : List (Option am_V)} {J J' : Array Slot} (h : sm_ls G n lo ls J) {o : List Nat} (ho : o = [] → lo = false) {i : Nat} {v : am_V} (hv : sm_rg v) (hc : ∀ x, v ≠ am_l x)
    (hJ : lv_has J' n ((i, sm_v G v) :: (sm_prs G 0 ls).filter (fun q => !(q.1 == i) && !(q.1 + 1 == i && q.2.category == 2)))) : sm_ls G n lo (am_st1 o ls i v) J' := by
  refine sm_ls_of h hJ (by rw [sm_st1_len]; exact h.2.1) hv (fun _ => hc) fun j w hw => ?_
  rcases sm_st1_at (fun z => h.2.2.2 (ho z)) hw with h1 | ⟨h1, h2, h3⟩
  · exact Or.inl h1
  · refine Or.inr ⟨h2, ?_⟩
    simp only [Bool.and_eq_true, Bool.not_eq_true', beq_eq_false_iff_ne, ne_eq, h1, not_false_eq_true, true_and, Bool.and_eq_false_iff, beq_eq_false_iff_ne]
    by_cases e : j + 1 = i
    · right; exact fun z => h3 ⟨e, sm_cat z⟩
    · left; exact e
theorem sm_ls_set {G : sm_G} {n : Nat} {lo : Bool} {ls : List (Option am_V)} {J J' : Array Slot} (h : sm_ls G n lo ls J) {i : Nat} {x y : Int} (hi : ls[i]? = some (some (am_i x))) (hv : sm_i y)
    (hJ : lv_has J' n ((i, sm_v G (am_i y)) :: (sm_prs G 0 ls).filter (fun q => !(q.1 == i) && !(q.1 + 1 == i && q.2.category == 2)))) : sm_ls G n lo (ls.set i (some (am_i y))) J' := by
  have hw0 := h.1.2.1
  refine sm_ls_of h hJ (by rw [List.length_set]; exact h.2.1) hv (fun _ x => by intro z; cases z) fun j w hw => ?_
  rw [List.getElem?_set] at hw
  by_cases e : i = j
  · rw [if_pos e] at hw
    split at hw
    · left; exact ⟨e.symm, (Option.some.inj (Option.some.inj hw)).symm⟩
    · cases hw
  · rw [if_neg e] at hw
    refine Or.inr ⟨hw, ?_⟩
    have hne : ¬ j = i := fun z => e z.symm
    simp only [Bool.and_eq_true, Bool.not_eq_true', beq_eq_false_iff_ne, ne_eq, hne, not_false_eq_true, true_and, Bool.and_eq_false_iff, beq_eq_false_iff_ne]
    by_cases e2 : j + 1 = i
    · right
      intro z
      -- a long at j has its second half at i, but an int is there
      have a1 := (sm_ls_at h hw).1
      have a2 := hw0.1 j _ a1 z
      have a3 := (sm_ls_at h hi).1
      rw [e2, a3] at a2
      cases a2
    · left; exact e2
theorem sm_ls_st2 {G : sm_G} {n : Nat} {ls : List (Option am_V)} {J J' : Array Slot} (h : sm_ls G n true ls J) {i : Nat} {x : Int} (hv : sm_l x)
    (hJ : lv_has J' n ((i, sm_v G (am_l x)) :: (sm_prs G 0 ls).filter (fun q => !(q.1 == i) && (!(q.1 == i + 1) && !(q.1 + 1 == i && q.2.category == 2))))) : sm_ls G n true (am_st2 ls i (am_l x)) J' := by
  refine sm_ls_of h hJ (by unfold am_st2; rw [List.length_set, sm_st1_len]; exact h.2.1) hv (fun z => by cases z) fun j w hw => ?_
  unfold am_st2 at hw
  rw [List.getElem?_set] at hw
  by_cases e : i + 1 = j
  · rw [if_pos e] at hw
    split at hw <;> cases hw
  · rw [if_neg e] at hw
    rcases sm_st1_at (o := [1]) (fun z => by cases z) hw with h1 | ⟨h1, h2, h3⟩
    · exact Or.inl h1
    · refine Or.inr ⟨h2, ?_⟩
      have hne : ¬ j = i + 1 := fun z => e z.symm
      simp only [Bool.and_eq_true, Bool.not_eq_true', beq_eq_false_iff_ne, ne_eq, h1, hne, not_false_eq_true, true_and, Bool.and_eq_false_iff, beq_eq_false_iff_ne]
      by_cases e : j + 1 = i
      · right; exact fun z => h3 ⟨e, sm_cat z⟩
      · left; exact e
section
variable {p : Program} {l : Launch} {e : Env} {R : Room} {s : State} {m : MethodId} {args : Array Value} {below : List Frame} {meth : Method} {c : Code} {Q : State → Prop}
variable {G : sm_G} {L : Nat} {xs : Nat → Int32} {own : String} {cc : ByteArray} {maxL : Nat} {ret : Option FieldType} {lo : Bool} {n0 t0 : Nat} {out : am_O} {F : am_F}
variable {ls : List (Option am_V)} {st : List am_V} {σ : am_S} {H : Heap} {locs : List Loc} {cells slots pc len : Nat} {J : Array Slot} {r : List am_A}
theorem sm_inv.ls' (I : sm_inv s G L xs maxL lo n0 t0 ls st σ H locs cells slots J) {ls' : List (Option am_V)} {J' : Array Slot} (h : sm_ls G maxL lo ls' J') {st' : List am_V} (hs : ∀ v ∈ st', v ∈ st) : sm_inv s G L xs maxL lo n0 t0 ls' st' σ H locs cells slots J' :=
  ⟨I.1, I.2.1, h, fun v hv => I.2.2.2.1 v (hs v hv), I.2.2.2.2⟩
/-- a value is pushed -/
theorem si_push {v : am_V} (hk : sm_K p l e R s m args below meth c Q G L xs maxL lo n0 t0 out F (.inr r) (pc + len)) (I : sm_inv s G L xs maxL lo n0 t0 ls st σ H locs cells slots J)
    (row : W p l e R s m args below meth c H locs cells slots Q (F0 m (pc + len) J (sm_v G v :: st.map (sm_v G))) → W p l e R s m args below meth c H locs cells slots Q (F0 m pc J (st.map (sm_v G)))) (hv : sm_rg v)
    (h : F (.inr r) ls (v :: st) σ = some out) : W p l e R s m args below meth c H locs cells slots Q (F0 m pc J (st.map (sm_v G))) :=
  row (hk _ _ _ _ _ _ _ _ (I.p1 (st' := st) (fun _ h => h) hv) h)
theorem si_ldi {i : Nat} (hk : sm_K p l e R s m args below meth c Q G L xs maxL lo n0 t0 out F (.inr r) (pc + len)) (I : sm_inv s G L xs maxL lo n0 t0 ls st σ H locs cells slots J)
    (row : ∀ x : Int32, J[i]? = some (.val (.int x)) → W p l e R s m args below meth c H locs cells slots Q (F0 m (pc + len) J (.int x :: st.map (sm_v G))) → W p l e R s m args below meth c H locs cells slots Q (F0 m pc J (st.map (sm_v G))))
    (h : am_ldi ls i (fun x => F (.inr r) ls (am_i x :: st) σ) = some out) : W p l e R s m args below meth c H locs cells slots Q (F0 m pc J (st.map (sm_v G))) := by
  obtain ⟨x, hx, h⟩ := iv_ldi h
  obtain ⟨h1, h2⟩ := sm_ls_at I.2.2.1 hx
  exact si_push (v := am_i x) hk I (row _ h1) h2 h
theorem si_ldl {i : Nat} (hk : sm_K p l e R s m args below meth c Q G L xs maxL lo n0 t0 out F (.inr r) (pc + len)) (I : sm_inv s G L xs maxL lo n0 t0 ls st σ H locs cells slots J)
    (row : ∀ x : Int64, J[i]? = some (.val (.long x)) → W p l e R s m args below meth c H locs cells slots Q (F0 m (pc + len) J (.long x :: st.map (sm_v G))) → W p l e R s m args below meth c H locs cells slots Q (F0 m pc J (st.map (sm_v G))))
    (h : am_ldl ls i (fun x => F (.inr r) ls (am_l x :: st) σ) = some out) : W p l e R s m args below meth c H locs cells slots Q (F0 m pc J (st.map (sm_v G))) := by
  obtain ⟨x, hx, h⟩ := iv_ldl h
  obtain ⟨h1, h2⟩ := sm_ls_at I.2.2.1 hx
  exact si_push (v := am_l x) hk I (row _ h1) h2 h
theorem si_ldr {i : Nat} (hk : sm_K p l e R s m args below meth c Q G L xs maxL lo n0 t0 out F (.inr r) (pc + len)) (I : sm_inv s G L xs maxL lo n0 t0 ls st σ H locs cells slots J)
    (row : ∀ X : Option Nat, J[i]? = some (.val (va_rf X)) → W p l e R s m args below meth c H locs cells slots Q (F0 m (pc + len) J (va_rf X :: st.map (sm_v G))) → W p l e R s m args below meth c H locs cells slots Q (F0 m pc J (st.map (sm_v G))))
    (h : am_ldr ls i (fun X => F (.inr r) ls (am_r X :: st) σ) = some out) : W p l e R s m args below meth c H locs cells slots Q (F0 m pc J (st.map (sm_v G))) := by
  obtain ⟨x, hx, h⟩ := iv_ldr h
  obtain ⟨h1, h2⟩ := sm_ls_at I.2.2.1 hx
  exact si_push (v := am_r x) hk I (row _ h1) h2 h
theorem si_sti {o : List Nat} (ho : o = [] → lo = false) {i : Nat} (hk : sm_K p l e R s m args below meth c Q G L xs maxL lo n0 t0 out F (.inr r) (pc + len)) (I : sm_inv s G L xs maxL lo n0 t0 ls st σ H locs cells slots J)
    (row : ∀ (x : Int32) (rest : List Value) (lv : List (Nat × Value)), lv_has J maxL lv → i < maxL → (∀ J' : Array Slot, lv_has J' maxL ((i, Value.int x) :: lv.filter (fun q => !(q.1 == i) && !(q.1 + 1 == i && q.2.category == 2))) → W p l e R s m args below meth c H locs cells slots Q (F0 m (pc + len) J' rest)) → W p l e R s m args below meth c H locs cells slots Q (F0 m pc J (.int x :: rest)))
    (h : am_p1 st (fun x st => cond (Nat.blt i ls.length) (F (.inr r) (am_st1 o ls i (am_i x)) st σ) none) = some out) : W p l e R s m args below meth c H locs cells slots Q (F0 m pc J (st.map (sm_v G))) := by
  obtain ⟨x, st', rfl, h⟩ := iv_p1 h
  obtain ⟨hi, h⟩ := iv_cd1 h
  have hi : i < maxL := by rw [← I.2.2.1.2.1]; exact Nat.blt_eq.mp hi
  refine row (Int32.ofInt x) _ _ I.2.2.1.1 hi fun J' hJ => ?_
  exact hk _ _ _ _ _ _ _ _ (I.ls' (sm_ls_st1 I.2.2.1 ho (v := am_i x) (I.top (v := .inl x) (by simp)) (fun _ z => by cases z) hJ) (st' := st') (fun v hv => by simp [hv])) h
theorem si_str {o : List Nat} (ho : o = [] → lo = false) {i : Nat} (hk : sm_K p l e R s m args below meth c Q G L xs maxL lo n0 t0 out F (.inr r) (pc + len)) (I : sm_inv s G L xs maxL lo n0 t0 ls st σ H locs cells slots J)
    (row : ∀ (X : Option Nat) (rest : List Value) (lv : List (Nat × Value)), lv_has J maxL lv → i < maxL → (∀ J' : Array Slot, lv_has J' maxL ((i, va_rf X) :: lv.filter (fun q => !(q.1 == i) && !(q.1 + 1 == i && q.2.category == 2))) → W p l e R s m args below meth c H locs cells slots Q (F0 m (pc + len) J' rest)) → W p l e R s m args below meth c H locs cells slots Q (F0 m pc J (va_rf X :: rest)))
    (h : am_pr st (fun X st => cond (Nat.blt i ls.length) (F (.inr r) (am_st1 o ls i (am_r X)) st σ) none) = some out) : W p l e R s m args below meth c H locs cells slots Q (F0 m pc J (st.map (sm_v G))) := by
  obtain ⟨X, st', rfl, h⟩ := iv_pr h
  obtain ⟨hi, h⟩ := iv_cd1 h
  have hi : i < maxL := by rw [← I.2.2.1.2.1]; exact Nat.blt_eq.mp hi
  refine row (sm_co G X) _ _ I.2.2.1.1 hi fun J' hJ => ?_
  exact hk _ _ _ _ _ _ _ _ (I.ls' (sm_ls_st1 I.2.2.1 ho (v := am_r X) trivial (fun _ z => by cases z) hJ) (st' := st') (fun v hv => by simp [hv])) h
theorem si_stl {i : Nat} (hl : lo = true) (hk : sm_K p l e R s m args below meth c Q G L xs maxL lo n0 t0 out F (.inr r) (pc + len)) (I : sm_inv s G L xs maxL lo n0 t0 ls st σ H locs cells slots J) {P : Bool}
    (row : ∀ (x : Int64) (rest : List Value) (lv : List (Nat × Value)), lv_has J maxL lv → i + 1 < maxL → (∀ J' : Array Slot, lv_has J' maxL ((i, Value.long x) :: lv.filter (fun q => !(q.1 == i) && (!(q.1 == i + 1) && !(q.1 + 1 == i && q.2.category == 2)))) → W p l e R s m args below meth c H locs cells slots Q (F0 m (pc + len) J' rest)) → W p l e R s m args below meth c H locs cells slots Q (F0 m pc J (.long x :: rest)))
    (h : am_l1 st (fun x st => cond (P && Nat.blt (i + 1) ls.length) (F (.inr r) (am_st2 ls i (am_l x)) st σ) none) = some out) : W p l e R s m args below meth c H locs cells slots Q (F0 m pc J (st.map (sm_v G))) := by
  subst hl
  obtain ⟨x, st', rfl, h⟩ := iv_l1 h
  obtain ⟨hi, h⟩ := iv_cd1 h
  rw [Bool.and_eq_true] at hi
  have hi : i + 1 < maxL := by rw [← I.2.2.1.2.1]; exact Nat.blt_eq.mp hi.2
  refine row (Int64.ofInt x) _ _ I.2.2.1.1 hi fun J' hJ => ?_
  exact hk _ _ _ _ _ _ _ _ (I.ls' (sm_ls_st2 I.2.2.1 (I.top (v := .inr (.inl x)) (by simp)) hJ) (st' := st') (fun v hv => by simp [hv])) h
theorem si_iinc {i : Nat} {d : Int} (hk : sm_K p l e R s m args below meth c Q G L xs maxL lo n0 t0 out F (.inr r) (pc + len)) (I : sm_inv s G L xs maxL lo n0 t0 ls st σ H locs cells slots J)
    (row : ∀ (x : Int32) (k : Nat) (lv : List (Nat × Value)), lv_has J maxL lv → lv[k]? = some (i, .int x) → i < maxL → (∀ J' : Array Slot, lv_has J' maxL ((i, Value.int (x + Int32.ofInt d)) :: lv.filter (fun q => !(q.1 == i) && !(q.1 + 1 == i && q.2.category == 2))) → W p l e R s m args below meth c H locs cells slots Q (F0 m (pc + len) J' (st.map (sm_v G)))) → W p l e R s m args below meth c H locs cells slots Q (F0 m pc J (st.map (sm_v G))))
    (h : am_ldi ls i (fun x => cond (decide (-32768 ≤ d) && decide (d ≤ 32767)) (F (.inr r) (ls.set i (some (am_i (am_w (x + d))))) st σ) none) = some out) : W p l e R s m args below meth c H locs cells slots Q (F0 m pc J (st.map (sm_v G))) := by
  obtain ⟨x, hx, h⟩ := iv_ldi h
  obtain ⟨-, h⟩ := iv_cd1 h
  obtain ⟨k, hkk⟩ := List.getElem?_of_mem ((sm_prs_mem G ls 0 (i, sm_v G (am_i x))).mpr ⟨i, _, hx, by rw [Nat.zero_add]⟩)
  have hi : i < maxL := by rw [← I.2.2.1.2.1]; exact (List.getElem?_eq_some_iff.mp hx).1
  refine row (Int32.ofInt x) k _ I.2.2.1.1 hkk hi fun J' hJ => ?_
  have e1 : Int32.ofInt x + Int32.ofInt d = Int32.ofInt (am_w (x + d)) := by rw [sm_w_o, Int32.ofInt_add]
  rw [e1] at hJ
  exact hk _ _ _ _ _ _ _ _ (I.ls' (sm_ls_set I.2.2.1 hx (sm_w_i _) hJ) (fun _ h => h)) h
end
