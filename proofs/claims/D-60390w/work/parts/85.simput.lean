/-! SIMULATION, 6: putfield; arrays; what needs no heap -/
theorem am_tot_set {S : List am_C} {a : Nat} {q q' : am_C} (h : S[a]? = some q) (e : am_siz q' = am_siz q) : am_tot (S.set a q') = am_tot S := by
  unfold am_tot
  rw [List.map_set]
  congr 1
  apply List.ext_getElem?
  intro i
  rw [List.getElem?_set]
  by_cases hi : a = i
  · subst hi
    have hl := (List.getElem?_eq_some_iff.mp h).1
    rw [if_pos rfl, if_pos (by simpa using hl), List.getElem?_map, h]
    simp [e]
  · rw [if_neg hi]
theorem am_dec_enc {Y : am_R} {v : Int} (h : am_enc Y = some v) : am_dec v = Y := by
  rcases Y with (_ | a) | j
  · cases h; rfl
  · replace h : cond (Nat.blt a 5000) (some ((a : Int) + 1)) none = some v := h
    have h2 : (a : Int) + 1 = v := by
      cases hb : Nat.blt a 5000 with
      | false => rw [hb] at h; cases h
      | true => rw [hb] at h; exact Option.some.inj h
    subst h2
    unfold am_dec
    rw [if_neg (by omega)]
    congr 2
    omega
  · cases h
theorem am_enc_i {Y : am_R} {v : Int} (h : am_enc Y = some v) : sm_i v := by
  rcases Y with (_ | a) | j
  · cases h; exact ⟨by omega, by omega⟩
  · replace h : cond (Nat.blt a 5000) (some ((a : Int) + 1)) none = some v := h
    cases hb : Nat.blt a 5000 with
    | false => rw [hb] at h; cases h
    | true =>
      rw [hb] at h
      have h2 : (a : Int) + 1 = v := Option.some.inj h
      have h3 : a < 5000 := Nat.blt_eq.mp hb
      exact ⟨by omega, by omega⟩
  · cases h
theorem sm_fits_rf {ty : FieldType} (h : sm_tyok 1 ty = true ∨ sm_tyok 2 ty = true) (X : Option Nat) : narrow ty (va_rf X) = va_rf X ∧ fits ty (va_rf X) = true := by
  cases ty <;> cases X <;> first | (exact ⟨rfl, rfl⟩) | (exfalso; rcases h with h | h <;> cases h)
theorem sm_bit32 {v : Int} (h : v = 0 ∨ v = 1) : narrow .boolean (.int (Int32.ofInt v)) = .int (Int32.ofInt v) ∧ fits .boolean (.int (Int32.ofInt v)) = true ∧ vp_nar .boolean (Int32.ofInt v) = Int32.ofInt v := by
  rcases h with rfl | rfl
  · refine ⟨?_, ?_, ?_⟩ <;> decide
  · refine ⟨?_, ?_, ?_⟩ <;> decide
theorem sm_tyof {cn : Nat} {rc : vw_C} (hc : sm_cl[cn]? = some rc) {k : Nat} (hk : k < rc.2.2) : ∃ ty, parseFieldDescriptor (rc.2.1 k).2.2.1 = some ty ∧ sm_tyok (sm_fk cn k) ty = true := by
  have h := (sm_T cn _ hc).2.2.1 k hk
  unfold sm_fdok at h
  cases hp : parseFieldDescriptor (rc.2.1 k).2.2.1 with
  | none => rw [hp] at h; cases h
  | some ty => rw [hp] at h; exact ⟨ty, rfl, h⟩
theorem sm_ent0 (G : sm_G) (h : am_H) (a cn : Nat) (rs : List am_R) : sm_ent G h a (0, cn, rs) = .inr (cn, sm_fs G h a rs cn) := by
  unfold sm_ent; rw [if_pos rfl]
section
variable {p : Program} {l : Launch} {e : Env} {R : Room} {s : State} {m : MethodId} {args : Array Value} {below : List Frame} {meth : Method} {c : Code} {Q : State → Prop}
variable {G : sm_G} {L : Nat} {xs : Nat → Int32} {own : String} {cc : ByteArray} {maxL : Nat} {ret : Option FieldType} {lo : Bool} {n0 t0 : Nat} {out : am_O} {F : am_F}
variable {ls : List (Option am_V)} {st : List am_V} {σ : am_S} {H : Heap} {locs : List Loc} {cells slots pc len : Nat} {J : Array Slot} {r : List am_A}
/-- an int field gets a number -/
theorem si_puti (X : sm_cx p s m args meth c G L xs own cc maxL ret) {idx cn k : Nat} {rc : vw_C} (hd : decode cc pc = .ok (.putfield idx, 3)) (hc : sm_cl[cn]? = some rc) (hkk : k < rc.2.2) (hlk : sm_lnk own idx rc k)
    (hfin : (rc.2.1 k).2.2.2 = false ∨ ((rc.2.1 k).2.2.2 = true ∧ meth.name = "<init>" ∧ (rc.2.1 k).1 = own ∧ Cond.fieldLink own idx (rc.2.1 k).1 (rc.2.1 k).2.1 (rc.2.1 k).2.2.1 ∈ sm_tbl))
    (hk : sm_K p l e R s m args below meth c Q G L xs maxL lo n0 t0 out F (.inr r) (pc + 3)) {st' : List am_V} {w : am_V} (I : sm_inv s G L xs maxL lo n0 t0 ls st σ H locs cells slots J) (hst : ∀ v ∈ st', v ∈ st) {a : Nat} {rs : List am_R} (hq : σ.1[a]? = some (0, cn, rs)) {v : Int} (hv : sm_i v)
    {ty : FieldType} (hty : parseFieldDescriptor (rc.2.1 k).2.2.1 = some ty) (hn : narrow ty (sm_v G w) = sm_v G w) (hfit : fits ty (sm_v G w) = true) (hw : sm_fv G (am_up σ.2 a k v) a rs cn k = sm_v G w)
    (h : F (.inr r) ls st' (σ.1, am_up σ.2 a k v) = some out) : W p l e R s m args below meth c H locs cells slots Q (F0 m pc J (sm_v G w :: sm_v G (am_r (am_a a)) :: st'.map (sm_v G))) := by
  refine si_put0 X hd hc hkk hlk hfin I.1 I.2.1 hq hty hn hfit (fun H1 locs1 hP hS1 h0 => ?_)
  refine hk _ _ _ _ _ _ _ _ (I.heap (I.1.up h0 hq (k := k) (v := v) hv ?_) hS1 rfl rfl hst) h
  rw [sm_ent0, sm_fs_set (h := σ.2) (rs := rs) hw (fun j _ hj => ?_)]
  · exact hP
  · unfold sm_fv
    rw [sm_up_at, if_neg hj]
theorem si_putf (X : sm_cx p s m args meth c G L xs own cc maxL ret) {idx cn k kd : Nat} {rc : vw_C} (hd : decode cc pc = .ok (.putfield idx, 3)) (hc : sm_cl[cn]? = some rc) (hkk : k < rc.2.2) (hlk : sm_lnk own idx rc k) (hkd : sm_fk cn k = kd)
    (hfin : (rc.2.1 k).2.2.2 = false ∨ ((rc.2.1 k).2.2.2 = true ∧ meth.name = "<init>" ∧ (rc.2.1 k).1 = own ∧ Cond.fieldLink own idx (rc.2.1 k).1 (rc.2.1 k).2.1 (rc.2.1 k).2.2.1 ∈ sm_tbl))
    (hk : sm_K p l e R s m args below meth c Q G L xs maxL lo n0 t0 out F (.inr r) (pc + 3)) (I : sm_inv s G L xs maxL lo n0 t0 ls st σ H locs cells slots J) (h : am_putf F [cn, k, kd] r ls st σ = some out) : W p l e R s m args below meth c H locs cells slots Q (F0 m pc J (st.map (sm_v G))) := by
  obtain ⟨ty, hty, hok⟩ := sm_tyof hc hkk
  rw [hkd] at hok
  rcases kd with _ | _ | _ | kd
  · obtain ⟨v, s1, rfl, h1⟩ := iv_p1 h
    obtain ⟨Y, s2, rfl, h2⟩ := iv_pr h1
    obtain ⟨a, rs, rfl, hq, h3⟩ := iv_obj h2
    have hv : sm_i v := I.top (v := .inl v) (by simp)
    have ht : ty = .int := by cases ty <;> first | rfl | cases hok
    subst ht
    refine si_puti X hd hc hkk hlk hfin hk (w := am_i v) I (fun v hv => by simp [hv]) hq hv hty rfl rfl ?_ h3
    unfold sm_fv
    rw [if_neg (by omega), if_neg (by omega), sm_up_at, if_pos rfl]; rfl
  · obtain ⟨Y, Z, s1, rfl, h1⟩ := iv_rr h
    obtain ⟨a, rs, rfl, hq, h3⟩ := iv_obj h1
    obtain ⟨f1, f2⟩ := sm_fits_rf (Or.inl hok) (sm_co G Z)
    refine si_put0 X hd hc hkk hlk hfin I.1 I.2.1 hq hty (v := va_rf (sm_co G Z)) f1 f2 (fun H1 locs1 hP hS1 h0 => ?_)
    refine hk _ _ _ _ _ _ _ _ (I.heap (σ' := (σ.1.set a (0, cn, rs.set k Z), σ.2)) (I.1.refs (rs' := rs.set k Z) h0 hq (by simp) ?_) hS1 (by simp) (am_tot_set hq rfl) (st' := s1) (fun v hv => by simp [hv])) h3
    have hlen : rs.length = am_nf cn := ((I.1.2.2.2 a _ hq).1.1 rfl).1
    have hN := (sm_T cn _ hc).2.1
    rw [sm_ent0, sm_fs_set (h := σ.2) (rs := rs) (v := va_rf (sm_co G Z)) (k := k) ?_ (fun j _ hj => ?_)]
    · exact hP
    · unfold sm_fv
      rw [if_pos hkd, List.getD_eq_getElem?_getD, List.getElem?_set, if_pos rfl, if_pos (by rw [hlen, ← hN]; exact hkk)]; rfl
    · unfold sm_fv
      rw [List.getD_eq_getElem?_getD, List.getD_eq_getElem?_getD, List.getElem?_set_ne (fun z => hj z.symm)]
  · obtain ⟨Y, Z, s1, rfl, h1⟩ := iv_rr h
    obtain ⟨a, rs, rfl, hq, h3⟩ := iv_obj h1
    obtain ⟨v, hv, h4⟩ := iv_ob h3
    obtain ⟨f1, f2⟩ := sm_fits_rf (Or.inr hok) (sm_co G Z)
    have hv2 : sm_i v := am_enc_i hv
    refine si_puti X hd hc hkk hlk hfin hk (w := am_r Z) I (st' := s1) (fun v hv => by simp [hv]) hq hv2 hty f1 f2 ?_ h4
    unfold sm_fv
    rw [if_neg (by omega), if_pos hkd, sm_up_at, if_pos rfl, am_dec_enc hv]; rfl
  · obtain ⟨v, s1, rfl, h1⟩ := iv_p1 h
    obtain ⟨Y, s2, rfl, h2⟩ := iv_pr h1
    obtain ⟨a, rs, rfl, hq, h3⟩ := iv_obj h2
    obtain ⟨hb, h4⟩ := iv_bit h3
    have hv : sm_i v := I.top (v := .inl v) (by simp)
    have ht : ty = .boolean := by
      rcases kd with _ | kd
      · cases ty <;> first | rfl | cases hok
      · cases ty <;> cases hok
    subst ht
    obtain ⟨f1, f2, -⟩ := sm_bit32 hb
    refine si_puti X hd hc hkk hlk hfin hk (w := am_i v) I (fun v hv => by simp [hv]) hq hv hty f1 f2 ?_ h4
    unfold sm_fv
    rw [if_neg (by omega), if_neg (by omega), sm_up_at, if_pos rfl]; rfl
end
