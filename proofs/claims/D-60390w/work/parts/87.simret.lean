/-! SIMULATION, 8: the end of a walk; returns; switches -/
def sm_O (G : sm_G) (x : Option am_V ⊕ Nat) (o : Outcome) : Prop := match x with
  | .inl none => o = .returned none
  | .inl (some v) => o = .returned (some (sm_v G v)) ∧ sm_rg v
  | .inr a => o = .threw (sm_ad G a)
/-- how a walk of a method ends: with AM's outcome, in a heap that shows AM's state; nothing older than G.1 has changed; so many cells and slots are new -/
def sm_Q (below : List Frame) (s : State) (G : sm_G) (L : Nat) (xs : Nat → Int32) (n0 t0 : Nat) (out : am_O) : State → Prop := fun t =>
  ∃ o, t.status = .running ∧ Ended t below o ∧ sm_O G out.1 o ∧ sm_ok G L xs out.2 t.heap ∧ va_F (sm_A G) s t ∧ s.WarmedH t.vm ∧ ∃ Lc, s.sameButNew ({ t with vm := s.vm } : State) Lc (out.2.1.length - n0) (am_tot out.2.1 - t0) ∧ ∀ q ∈ Lc, sm_A G q.base
theorem am_sw_out (F : Nat → Option am_O) (x : Int) : ∀ (ts : List Nat) (lo : Int) (d : Nat), (x < lo ∨ lo + ts.length ≤ x) → am_sw F x lo ts d = F d
  | [], _, _, _ => rfl
  | t :: r, lo, d, h => by
    unfold am_sw
    rw [List.length_cons] at h
    rw [if_neg (by omega)]
    exact am_sw_out F x r (lo + 1) d (by omega)
theorem am_sw_in (F : Nat → Option am_O) (x : Int) : ∀ (ts : List Nat) (lo : Int) (d : Nat), lo ≤ x → x < lo + ts.length → ∃ t, ts[(x - lo).toNat]? = some t ∧ am_sw F x lo ts d = F t
  | [], lo, _, h1, h2 => by simp at h2; omega
  | t :: r, lo, d, h1, h2 => by
    rw [List.length_cons] at h2
    unfold am_sw
    by_cases e : x = lo
    · subst e
      rw [if_pos rfl]
      exact ⟨t, by simp, rfl⟩
    · rw [if_neg e]
      obtain ⟨u, hu, h3⟩ := am_sw_in F x r (lo + 1) d (by omega) (by omega)
      refine ⟨u, ?_, h3⟩
      rw [show (x - lo).toNat = (x - (lo + 1)).toNat + 1 by omega, List.getElem?_cons_succ]
      exact hu
section
variable {p : Program} {l : Launch} {e : Env} {R : Room} {s : State} {m : MethodId} {args : Array Value} {below : List Frame} {meth : Method} {c : Code} {Q Q' : State → Prop}
variable {G : sm_G} {L : Nat} {xs : Nat → Int32} {own : String} {cc : ByteArray} {maxL : Nat} {ret : Option FieldType} {lo : Bool} {n0 t0 : Nat} {out : am_O} {F : am_F}
variable {ls : List (Option am_V)} {st : List am_V} {σ : am_S} {H : Heap} {locs : List Loc} {cells slots pc len : Nat} {J : Array Slot} {r : List am_A} {g : JFrame}
theorem sm_mono (h : ∀ t, Q t → Q' t) (k : W p l e R s m args below meth c H locs cells slots Q g) : W p l e R s m args below meth c H locs cells slots Q' g := fun T hT X => by
  obtain ⟨t, h1, h2⟩ := k T hT X
  exact ⟨t, h1, h t h2⟩
def sm_Qc (s : State) (G : sm_G) (L : Nat) (xs : Nat → Int32) (out : am_O) : Array Value → State → Outcome → State → Prop := fun _ _ o t => sm_O G out.1 o ∧ sm_ok G L xs out.2 t.heap ∧ va_F (sm_A G) s t
theorem sm_ofMQ (hn : cells + n0 = out.2.1.length) (ht : slots + t0 = am_tot out.2.1) (k : W p l e R s m args below meth c H locs cells slots (MQ below (sm_Qc s G L xs out) args s cells slots (sm_A G)) g) : W p l e R s m args below meth c H locs cells slots (sm_Q below s G L xs n0 t0 out) g := by
  refine sm_mono (fun t h => ?_) k
  obtain ⟨o, h1, h2, ⟨h3, h4, h5⟩, Lc, ⟨-, h6, h7⟩, h8⟩ := h
  exact ⟨o, h1, h2, h3, h4, h5, h6, Lc, by rw [show out.2.1.length - n0 = cells by omega, show am_tot out.2.1 - t0 = slots by omega]; exact h7, h8⟩
theorem sm_end (I : sm_inv s G L xs maxL lo n0 t0 ls st σ H locs cells slots J) {x : Option am_V ⊕ Nat} {o : Outcome} (ho : sm_O G x o) (t : State) (ht : t.heap = H) : sm_Qc s G L xs (x, σ) args s o t :=
  ⟨ho, by rw [ht]; exact I.1, by rw [ht]; exact I.2.1.1, fun q h1 h2 => by rw [ht]; exact I.2.1.2.1 q h1 h2⟩
theorem si_vret (X : sm_cx p s m args meth c G L xs own cc maxL ret) (hd : decode cc pc = .ok (.return_, 1)) (hr : ret = none) (I : sm_inv s G L xs maxL lo n0 t0 ls st σ H locs cells slots J) (h : cond st.isEmpty (some (.inl none, σ)) none = some out) :
    W p l e R s m args below meth c H locs cells slots (sm_Q below s G L xs n0 t0 out) (F0 m pc J (st.map (sm_v G))) := by
  obtain ⟨hx, hb, hre, -, -, -, hlocks, -⟩ := X
  obtain ⟨h1, h2⟩ := iv_cd1 h
  cases st with
  | cons v r => cases h1
  | nil =>
    cases h2
    exact sm_ofMQ I.2.2.2.2.1 I.2.2.2.2.2 (W.vret hx hb (hre.trans hr) (fun t ht _ => sm_end I (x := .inl none) (o := .returned none) rfl t ht) I.2.1.2.2 hd)
theorem si_iret (X : sm_cx p s m args meth c G L xs own cc maxL ret) (hd : decode cc pc = .ok (.ireturn, 1)) {o : List Nat} (hr : (o = [] ∧ ret = some .int) ∨ ret = some .boolean) (ho : o = [] → ret = some .int) (I : sm_inv s G L xs maxL lo n0 t0 ls st σ H locs cells slots J)
    (h : am_p1 st (fun x st => cond st.isEmpty (cond o.isEmpty (some (.inl (some (am_i x)), σ)) (am_bit x (some (.inl (some (am_i x)), σ)))) none) = some out) :
    W p l e R s m args below meth c H locs cells slots (sm_Q below s G L xs n0 t0 out) (F0 m pc J (st.map (sm_v G))) := by
  obtain ⟨hx, hb, hre, -, -, -, hlocks, -⟩ := X
  obtain ⟨x, s1, rfl, h1⟩ := iv_p1 h
  obtain ⟨h2, h3⟩ := iv_cd1 h1
  cases s1 with
  | cons v r => cases h2
  | nil =>
    rcases iv_cd h3 with ⟨h4, h5⟩ | ⟨h4, h5⟩
    · cases h5
      have ho' : o = [] := by cases o with
        | nil => rfl
        | cons a b => cases h4
      exact sm_ofMQ I.2.2.2.2.1 I.2.2.2.2.2 (W.iret hx hb (hre.trans (ho ho')) (fun t ht _ => sm_end I (x := .inl (some (am_i x))) (o := .returned (some (.int (Int32.ofInt x)))) ⟨rfl, I.top (v := .inl x) (by simp)⟩ t ht) I.2.1.2.2 hd)
    · obtain ⟨h6, h7⟩ := iv_bit h5
      cases h7
      rcases hr with ⟨hr, -⟩ | hr
      · subst hr; cases h4
      · exact sm_ofMQ I.2.2.2.2.1 I.2.2.2.2.2 (W.zret hx hb (hre.trans hr) (sm_bit32 h6).1 (fun t ht _ => sm_end I (x := .inl (some (am_i x))) (o := .returned (some (.int (Int32.ofInt x)))) ⟨rfl, I.top (v := .inl x) (by simp)⟩ t ht) I.2.1.2.2 hd)
theorem si_lret (X : sm_cx p s m args meth c G L xs own cc maxL ret) (hd : decode cc pc = .ok (.lreturn, 1)) (hr : ret = some .long) (I : sm_inv s G L xs maxL lo n0 t0 ls st σ H locs cells slots J)
    (h : am_l1 st (fun x st => cond st.isEmpty (some (.inl (some (am_l x)), σ)) none) = some out) :
    W p l e R s m args below meth c H locs cells slots (sm_Q below s G L xs n0 t0 out) (F0 m pc J (st.map (sm_v G))) := by
  obtain ⟨hx, hb, hre, -, -, -, hlocks, -⟩ := X
  obtain ⟨x, s1, rfl, h1⟩ := iv_l1 h
  obtain ⟨h2, h3⟩ := iv_cd1 h1
  cases s1 with
  | cons v r => cases h2
  | nil =>
    cases h3
    exact sm_ofMQ I.2.2.2.2.1 I.2.2.2.2.2 (W.lret hx hb (hre.trans hr) (fun t ht _ => sm_end I (x := .inl (some (am_l x))) (o := .returned (some (.long (Int64.ofInt x)))) ⟨rfl, I.top (v := .inr (.inl x)) (by simp)⟩ t ht) I.2.1.2.2 hd)
theorem si_aret (X : sm_cx p s m args meth c G L xs own cc maxL ret) (hd : decode cc pc = .ok (.areturn, 1)) {rt : FieldType} (hr : ret = some rt) (hrt : (∃ n, rt = .object n) ∨ ∃ t, rt = .array t) (I : sm_inv s G L xs maxL lo n0 t0 ls st σ H locs cells slots J)
    (h : am_pr st (fun X st => cond st.isEmpty (some (.inl (some (am_r X)), σ)) none) = some out) :
    W p l e R s m args below meth c H locs cells slots (sm_Q below s G L xs n0 t0 out) (F0 m pc J (st.map (sm_v G))) := by
  obtain ⟨hx, hb, hre, -, -, -, hlocks, -⟩ := X
  obtain ⟨Y, s1, rfl, h1⟩ := iv_pr h
  obtain ⟨h2, h3⟩ := iv_cd1 h1
  cases s1 with
  | cons v r => cases h2
  | nil =>
    cases h3
    refine sm_ofMQ I.2.2.2.2.1 I.2.2.2.2.2 (W.aret (v := va_rf (sm_co G Y)) hx hb (hre.trans hr) hrt ?_ (fun t ht _ => sm_end I (x := .inl (some (am_r Y))) (o := .returned (some (va_rf (sm_co G Y)))) ⟨rfl, trivial⟩ t ht) I.2.1.2.2 hd)
    cases sm_co G Y with
    | none => exact Or.inl rfl
    | some a => exact Or.inr ⟨a, rfl⟩
theorem si_tsw (hx0 : p.tables.exec = Jvm.exec) (hb : c.code = cc) {dflt lw hi : Int} {offs : Array Int} {ln : Nat} (hd : decode cc pc = .ok (.tableswitch dflt lw hi offs, ln)) {ts : List Nat} {d : Nat} (hlen : lw + ts.length = hi + 1)
    {ps : List Nat} (hdt : ∃ tgt : Nat, ps[d]? = some tgt ∧ (pc : Int) + dflt = tgt) (hts : ∀ (i t : Nat), ts[i]? = some t → ∃ (tgt : Nat) (off : Int), offs[i]? = some off ∧ ps[t]? = some tgt ∧ (pc : Int) + off = tgt)
    (hj : ∀ (k tgt : Nat), ps[k]? = some tgt → sm_K p l e R s m args below meth c Q G L xs maxL lo n0 t0 out F (.inl k) tgt) (I : sm_inv s G L xs maxL lo n0 t0 ls st σ H locs cells slots J)
    (h : am_p1 st (fun x st => am_sw (fun b => F (.inl b) ls st σ) x lw ts d) = some out) : W p l e R s m args below meth c H locs cells slots Q (F0 m pc J (st.map (sm_v G))) := by
  obtain ⟨x, s1, rfl, h1⟩ := iv_p1 h
  have hx : sm_i x := I.top (v := .inl x) (by simp)
  have I' := I.p0 (st' := s1) (fun v hv => by simp [hv])
  by_cases ho : x < lw ∨ hi < x
  · obtain ⟨tgt, g1, g2⟩ := hdt
    refine lv_tableOut hx0 hb hd (by rw [sm_toI hx]; exact ho) g2 ?_
    rw [am_sw_out _ _ _ _ _ (by omega)] at h1
    exact hj _ _ g1 _ _ _ _ _ _ _ _ I' h1
  · obtain ⟨t, g1, g2⟩ := am_sw_in (fun b => F (.inl b) ls s1 σ) x ts lw d (by omega) (by omega)
    rw [g2] at h1
    obtain ⟨tgt, off, g3, g4, g5⟩ := hts _ _ g1
    refine lv_tableIn hx0 hb hd (by rw [sm_toI hx]; omega) (by rw [sm_toI hx]; omega) (by rw [sm_toI hx]; exact g3) g5 ?_
    exact hj _ _ g4 _ _ _ _ _ _ _ _ I' h1
end
