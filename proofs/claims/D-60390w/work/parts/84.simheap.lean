/-! SIMULATION, 5: fields and arrays -/
theorem sm_cell {G : sm_G} {L : Nat} {xs : Nat → Int32} {σ : am_S} {H : Heap} (h : sm_ok G L xs σ H) {a : Nat} {q : am_C} (hq : σ.1[a]? = some q) (hn : q.1 ≠ 1 ∨ a ≠ 0) : a ≠ 0 ∧ sm_ad G a = G.1 + (a - 1) ∧ (sm_ws G σ)[a - 1]? = some (G.1 + (a - 1), sm_ent G σ.2 a q) := by
  have h0 : a ≠ 0 := by
    rcases hn with hn | hn
    · intro e
      subst e
      obtain ⟨rs, h1⟩ := h.2.1
      cases h1.symm.trans hq
      exact hn rfl
    · exact hn
  exact ⟨h0, by unfold sm_ad; rw [if_neg h0], sm_ws_at G h0 hq⟩
theorem sm_up_ne {h : am_H} {a k : Nat} {v : Int} {b : Nat} (hb : b ≠ a) : am_up h a k v b = h b := by
  unfold am_up; rw [if_neg hb]
theorem sm_up_at (h : am_H) (a k : Nat) (v : Int) (j : Nat) : am_up h a k v a j = if j = k then v else h a j := by
  unfold am_up; rw [if_pos rfl]
/-- a number of a cell has changed -/
theorem sm_ok.up {G : sm_G} {L : Nat} {xs : Nat → Int32} {σ : am_S} {H H1 : Heap} (h : sm_ok G L xs σ H) {a k : Nat} {v : Int} {q : am_C} (h0 : a ≠ 0) (hq : σ.1[a]? = some q) (hv : sm_num q v)
    (hP : va_P G.2.2.2.1 sm_cl ((sm_ws G σ).set (a - 1) (G.1 + (a - 1), sm_ent G (am_up σ.2 a k v) a q)) H1) : sm_ok G L xs (σ.1, am_up σ.2 a k v) H1 := by
  refine ⟨?_, h.2.1, fun j hj => ?_, fun b q' hb => ?_⟩
  · rw [sm_ws_set G (σ := σ) (τ := (σ.1, am_up σ.2 a k v)) (a := a) (q := q) h0 rfl hq (fun _ _ => rfl) (fun b hb => sm_up_ne hb)]
    exact hP
  · show am_up σ.2 a k v 0 j = _
    rw [sm_up_ne (fun z => h0 z.symm)]
    exact h.2.2.1 j hj
  · obtain ⟨h1, h2⟩ := h.2.2.2 b q' hb
    refine ⟨h1, fun j => ?_⟩
    show sm_num q' (am_up σ.2 a k v b j)
    by_cases e : b = a
    · subst e
      cases hb.symm.trans hq
      rw [sm_up_at]
      split
      · exact hv
      · exact h2 j
    · rw [sm_up_ne e]; exact h2 j
/-- references of a cell have changed -/
theorem sm_ok.refs {G : sm_G} {L : Nat} {xs : Nat → Int32} {σ : am_S} {H H1 : Heap} (h : sm_ok G L xs σ H) {a : Nat} {t n : Nat} {rs rs' : List am_R} (h0 : a ≠ 0) (hq : σ.1[a]? = some (t, n, rs)) (hl : rs'.length = rs.length)
    (hP : va_P G.2.2.2.1 sm_cl ((sm_ws G σ).set (a - 1) (G.1 + (a - 1), sm_ent G σ.2 a (t, n, rs'))) H1) : sm_ok G L xs (σ.1.set a (t, n, rs'), σ.2) H1 := by
  have hlt : a < σ.1.length := (List.getElem?_eq_some_iff.mp hq).1
  have hne : ∀ b, b ≠ a → (σ.1.set a (t, n, rs'))[b]? = σ.1[b]? := fun b hb => List.getElem?_set_ne (fun z => hb z.symm)
  have hat : (σ.1.set a (t, n, rs'))[a]? = some (t, n, rs') := by rw [List.getElem?_set, if_pos rfl, if_pos hlt]
  refine ⟨?_, ?_, h.2.2.1, fun b q' hb => ?_⟩
  · rw [sm_ws_set G (σ := σ) (τ := (σ.1.set a (t, n, rs'), σ.2)) (a := a) (q := (t, n, rs')) h0 (by simp) hat hne (fun _ _ => rfl)]
    exact hP
  · obtain ⟨r0, h1⟩ := h.2.1
    exact ⟨r0, by show (σ.1.set a (t, n, rs'))[0]? = _; rw [hne 0 (fun z => h0 z.symm)]; exact h1⟩
  · by_cases e : b = a
    · subst e
      cases hb.symm.trans hat
      obtain ⟨⟨g1, g2, g3⟩, h2⟩ := h.2.2.2 b _ hq
      exact ⟨⟨fun z => ⟨hl.trans (g1 z).1, (g1 z).2⟩, g2, fun z => hl.trans (g3 z)⟩, h2⟩
    · exact h.2.2.2 b q' ((hne b e).symm.trans hb)
theorem sm_fs_at {G : sm_G} {h : am_H} {a : Nat} {rs : List am_R} {c k : Nat} (hk : k < am_nf c) : (sm_fs G h a rs c)[k]? = some (sm_fv G h a rs c k) := by
  unfold sm_fs
  rw [List.getElem?_map, List.getElem?_range hk]
  rfl
theorem sm_fs_set {G : sm_G} {h h' : am_H} {a : Nat} {rs rs' : List am_R} {c k : Nat} {v : Value} (hv : sm_fv G h' a rs' c k = v) (ho : ∀ j, j < am_nf c → j ≠ k → sm_fv G h' a rs' c j = sm_fv G h a rs c j) : sm_fs G h' a rs' c = (sm_fs G h a rs c).set k v := by
  apply List.ext_getElem?
  intro j
  rw [List.getElem?_set]
  unfold sm_fs
  rw [List.getElem?_map]
  by_cases hj : j < am_nf c
  · rw [List.getElem?_range hj, Option.map_some]
    by_cases e : k = j
    · subst e
      rw [if_pos rfl, if_pos (by simpa using hj), hv]
    · rw [if_neg e, List.getElem?_map, List.getElem?_range hj, Option.map_some, ho j hj (fun z => e z.symm)]
  · rw [List.getElem?_eq_none (by simpa using hj)]
    by_cases e : k = j
    · subst e
      rw [if_pos rfl, if_neg (by simpa using hj)]; rfl
    · rw [if_neg e, List.getElem?_map, List.getElem?_eq_none (by simpa using hj)]; rfl
/-- the words of a field's link, in the tables -/
def sm_lnk (own : String) (idx : Nat) (r : vw_C) (k : Nat) : Prop := Cond.fieldLink own idx (r.2.1 k).1 (r.2.1 k).2.1 (r.2.1 k).2.2.1 ∈ sm_tbl ∨ ∃ host, Cond.fieldLinkNest own idx (r.2.1 k).1 (r.2.1 k).2.1 (r.2.1 k).2.2.1 host ∈ sm_tbl
section
variable {p : Program} {l : Launch} {e : Env} {R : Room} {s : State} {m : MethodId} {args : Array Value} {below : List Frame} {meth : Method} {c : Code} {Q : State → Prop}
variable {G : sm_G} {L : Nat} {xs : Nat → Int32} {own : String} {cc : ByteArray} {maxL : Nat} {ret : Option FieldType} {lo : Bool} {n0 t0 : Nat} {out : am_O} {F : am_F}
variable {ls : List (Option am_V)} {st : List am_V} {σ : am_S} {H : Heap} {locs : List Loc} {cells slots pc len : Nat} {J : Array Slot} {r : List am_A}
theorem sm_inv.heap (I : sm_inv s G L xs maxL lo n0 t0 ls st σ H locs cells slots J) {σ' : am_S} {H' : Heap} {locs' : List Loc} (h : sm_ok G L xs σ' H') (hS : va_S (sm_A G) s.heap H' locs') (hl : σ'.1.length = σ.1.length) (ht : am_tot σ'.1 = am_tot σ.1) {st' : List am_V} (hs : ∀ v ∈ st', v ∈ st) :
    sm_inv s G L xs maxL lo n0 t0 ls st' σ' H' locs' cells slots J := ⟨h, hS, I.2.2.1, fun v hv => I.2.2.2.1 v (hs v hv), by rw [hl]; exact I.2.2.2.2.1, by rw [ht]; exact I.2.2.2.2.2⟩
/-- getfield, whatever the kind -/
theorem si_get0 (X : sm_cx p s m args meth c G L xs own cc maxL ret) {idx cn k : Nat} {rc : vw_C} (hd : decode cc pc = .ok (.getfield idx, 3)) (hc : sm_cl[cn]? = some rc) (hkk : k < rc.2.2) (hlk : sm_lnk own idx rc k)
    (hK : sm_ok G L xs σ H) {a : Nat} {rs : List am_R} (hq : σ.1[a]? = some (0, cn, rs)) {rest : List Value}
    (kk : W p l e R s m args below meth c H locs cells slots Q (F0 m (pc + 3) J (sm_fv G σ.2 a rs cn k :: rest))) : W p l e R s m args below meth c H locs cells slots Q (F0 m pc J (sm_v G (am_r (am_a a)) :: rest)) := by
  obtain ⟨hx, hb, -, -, hown, hts, -, hKn, -⟩ := X
  obtain ⟨h0, had, hw⟩ := sm_cell hK hq (Or.inl (by show (0 : Nat) ≠ 1; omega))
  obtain ⟨C, T, N⟩ := rc
  obtain ⟨hin, hN, -, -⟩ := sm_T cn _ hc
  have hv : (sm_fs G σ.2 a rs cn)[k]? = some (sm_fv G σ.2 a rs cn k) := sm_fs_at (by rw [← hN]; exact hkk)
  show W p l e R s m args below meth c H locs cells slots Q (F0 m pc J (Value.ref (sm_ad G a) :: rest))
  rw [had]
  rcases hlk with hlk | ⟨host, hlk⟩
  · exact va_get hx hb hts hin hown hKn hK.1 (a - 1) (ci := cn) (fs := sm_fs G σ.2 a rs cn) hw hc k hkk (hts _ hlk) (fun _ h => h) hv hd kk
  · exact va_getN hx hb hts hin hown hKn hK.1 (a - 1) (ci := cn) (fs := sm_fs G σ.2 a rs cn) hw hc k hkk (hts _ hlk) (fun _ h => h) hv hd kk
theorem si_getf (X : sm_cx p s m args meth c G L xs own cc maxL ret) {idx cn k kd : Nat} {rc : vw_C} (hd : decode cc pc = .ok (.getfield idx, 3)) (hc : sm_cl[cn]? = some rc) (hkk : k < rc.2.2) (hlk : sm_lnk own idx rc k) (hkd : sm_fk cn k = kd)
    (hk : sm_K p l e R s m args below meth c Q G L xs maxL lo n0 t0 out F (.inr r) (pc + 3)) (I : sm_inv s G L xs maxL lo n0 t0 ls st σ H locs cells slots J) (h : am_getf F [cn, k, kd] r ls st σ = some out) : W p l e R s m args below meth c H locs cells slots Q (F0 m pc J (st.map (sm_v G))) := by
  have key : (sm_fk cn k ≠ 1 ∧ sm_fk cn k ≠ 2) → am_pr st (fun X st => am_obj σ X cn fun a _ => F (.inr r) ls (am_i (σ.2 a k) :: st) σ) = some out → W p l e R s m args below meth c H locs cells slots Q (F0 m pc J (st.map (sm_v G))) := by
    intro hn h
    obtain ⟨Y, st', rfl, h1⟩ := iv_pr h
    obtain ⟨a, rs, rfl, hq, h2⟩ := iv_obj h1
    refine si_get0 X hd hc hkk hlk I.1 hq ?_
    have e1 : sm_fv G σ.2 a rs cn k = sm_v G (am_i (σ.2 a k)) := by unfold sm_fv; rw [if_neg hn.1, if_neg hn.2]; rfl
    rw [e1]
    have h6 := (I.1.2.2.2 a _ hq).2 k
    exact hk _ _ _ _ _ _ _ _ (I.p1 (st' := st') (v := am_i (σ.2 a k)) (fun v hv => by simp [hv]) h6) h2
  rcases kd with _ | _ | _ | kd
  · exact key (by omega) h
  · obtain ⟨Y, st', rfl, h1⟩ := iv_pr h
    obtain ⟨a, rs, rfl, hq, h2⟩ := iv_obj h1
    refine si_get0 X hd hc hkk hlk I.1 hq ?_
    have e1 : sm_fv G σ.2 a rs cn k = sm_v G (am_r (rs.getD k am_n)) := by unfold sm_fv; rw [if_pos hkd]; rfl
    rw [e1]
    exact hk _ _ _ _ _ _ _ _ (I.p1 (st' := st') (v := am_r (rs.getD k am_n)) (fun v hv => by simp [hv]) trivial) h2
  · obtain ⟨Y, st', rfl, h1⟩ := iv_pr h
    obtain ⟨a, rs, rfl, hq, h2⟩ := iv_obj h1
    refine si_get0 X hd hc hkk hlk I.1 hq ?_
    have e1 : sm_fv G σ.2 a rs cn k = sm_v G (am_r (am_dec (σ.2 a k))) := by unfold sm_fv; rw [if_neg (by omega), if_pos hkd]; rfl
    rw [e1]
    exact hk _ _ _ _ _ _ _ _ (I.p1 (st' := st') (v := am_r (am_dec (σ.2 a k))) (fun v hv => by simp [hv]) trivial) h2
  · exact key (by omega) h
/-- putfield, whatever the kind: the field's new value -/
theorem si_put0 (X : sm_cx p s m args meth c G L xs own cc maxL ret) {idx cn k : Nat} {rc : vw_C} (hd : decode cc pc = .ok (.putfield idx, 3)) (hc : sm_cl[cn]? = some rc) (hkk : k < rc.2.2) (hlk : sm_lnk own idx rc k)
    (hfin : (rc.2.1 k).2.2.2 = false ∨ ((rc.2.1 k).2.2.2 = true ∧ meth.name = "<init>" ∧ (rc.2.1 k).1 = own ∧ Cond.fieldLink own idx (rc.2.1 k).1 (rc.2.1 k).2.1 (rc.2.1 k).2.2.1 ∈ sm_tbl))
    (hK : sm_ok G L xs σ H) (hS : va_S (sm_A G) s.heap H locs) {a : Nat} {rs : List am_R} (hq : σ.1[a]? = some (0, cn, rs)) {rest : List Value} {v : Value} {ty : FieldType} (hty : parseFieldDescriptor (rc.2.1 k).2.2.1 = some ty) (hn : narrow ty v = v) (hfit : fits ty v = true)
    (kk : ∀ (H1 : Heap) (locs1 : List Loc), va_P G.2.2.2.1 sm_cl ((sm_ws G σ).set (a - 1) (G.1 + (a - 1), .inr (cn, (sm_fs G σ.2 a rs cn).set k v))) H1 → va_S (sm_A G) s.heap H1 locs1 → a ≠ 0 → W p l e R s m args below meth c H1 locs1 cells slots Q (F0 m (pc + 3) J rest)) :
    W p l e R s m args below meth c H locs cells slots Q (F0 m pc J (v :: sm_v G (am_r (am_a a)) :: rest)) := by
  obtain ⟨hx, hb, -, -, hown, hts, -, hKn, -⟩ := X
  obtain ⟨h0, had, hw⟩ := sm_cell hK hq (Or.inl (by show (0 : Nat) ≠ 1; omega))
  obtain ⟨C, T, N⟩ := rc
  obtain ⟨hin, hN, hfd, hnd⟩ := sm_T cn _ hc
  have hty0 : ∀ j, j < N → ∃ ty, parseFieldDescriptor (T j).2.2.1 = some ty := fun j hj => by
    have := hfd j hj
    unfold sm_fdok at this
    cases hp : parseFieldDescriptor (T j).2.2.1 with
    | none => rw [hp] at this; cases this
    | some ty => exact ⟨ty, rfl⟩
  have hnm : ∀ x, x < N → ∀ y, y < N → x ≠ y → (T x).2.1 ≠ (T y).2.1 := by
    have key : ∀ x y, x < N → y < N → x < y → (T x).2.1 ≠ (T y).2.1 := fun x y hx hy hxy =>
      sm_nodup_ne hnd hxy (by rw [List.getElem?_map, List.getElem?_range hx]; rfl) (by rw [List.getElem?_map, List.getElem?_range hy]; rfl)
    intro x hx y hy hne
    rcases Nat.lt_or_gt_of_ne hne with h | h
    · exact key x y hx hy h
    · exact fun z => key y x hy hx h z.symm
  have hl : k < (sm_fs G σ.2 a rs cn).length := by unfold sm_fs; simp; rw [← hN]; exact hkk
  show W p l e R s m args below meth c H locs cells slots Q (F0 m pc J (v :: Value.ref (sm_ad G a) :: rest))
  rw [had]
  have hT9 : ∀ j, j < N → parseFieldDescriptor (T j).2.2.1 = some ((parseFieldDescriptor (T j).2.2.1).getD .int) := fun j hj => by
    obtain ⟨t, ht⟩ := hty0 j hj
    rw [ht]; rfl
  rcases hfin with hfin | ⟨hfin, hini, hdecl, hlk⟩
  · rcases hlk with hlk | ⟨host, hlk⟩
    · exact va_put hx hb hts hin (fun j => (parseFieldDescriptor (T j).2.2.1).getD .int) hT9 hnm hown hKn hK.1 (sm_ws_D G σ) hS (a - 1) (ci := cn) (fs := sm_fs G σ.2 a rs cn) hw hc k hkk (hts _ hlk) (fun _ h => h) hfin hty hn hfit hl hd (fun H1 locs1 hP _ hS1 => kk H1 locs1 hP hS1 h0)
    · exact va_putN hx hb hts hin (fun j => (parseFieldDescriptor (T j).2.2.1).getD .int) hT9 hnm hown hKn hK.1 (sm_ws_D G σ) hS (a - 1) (ci := cn) (fs := sm_fs G σ.2 a rs cn) hw hc k hkk (hts _ hlk) (fun _ h => h) hfin hty hn hfit hl hd (fun H1 locs1 hP _ hS1 => kk H1 locs1 hP hS1 h0)
  · exact va_putF hx hb hts hin (fun j => (parseFieldDescriptor (T j).2.2.1).getD .int) hT9 hnm hown hKn hK.1 (sm_ws_D G σ) hS (a - 1) (ci := cn) (fs := sm_fs G σ.2 a rs cn) hw hc k hkk (hts _ hlk) (fun _ h => h) hfin hini hdecl hty hn hfit hl hd (fun H1 locs1 hP _ hS1 => kk H1 locs1 hP hS1 h0)
end
