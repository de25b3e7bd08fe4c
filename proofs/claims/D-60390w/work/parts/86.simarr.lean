/-! SIMULATION, 7: arrays -/
theorem sm_entN (G : sm_G) (h : am_H) (a : Nat) {t n : Nat} {rs : List am_R} (h0 : t ≠ 0) (h6 : t ≠ 6) (h10 : ¬ 10 ≤ t) : sm_ent G h a (t, n, rs) = .inl (G.2.2.2.2 t, n, .inl fun k => Int32.ofInt (h a k)) := by
  unfold sm_ent sm_arr; rw [if_neg h0, if_neg h6, if_neg h10]
theorem sm_ent6 (G : sm_G) (h : am_H) (a : Nat) {n : Nat} {rs : List am_R} : sm_ent G h a (6, n, rs) = .inl (G.2.2.2.2 6, n, .inr (.inl fun k => Int64.ofInt (h a k))) := by
  unfold sm_ent sm_arr; rw [if_neg (by show ¬ (6 : Nat) = 0; omega), if_pos rfl]
theorem sm_entR (G : sm_G) (h : am_H) (a : Nat) {t n : Nat} {rs : List am_R} (h10 : 10 ≤ t) : sm_ent G h a (t, n, rs) = .inl (G.2.2.2.2 t, n, .inr (.inr (.inr (.inr fun k => sm_co G (rs.getD k am_n))))) := by
  unfold sm_ent sm_arr; rw [if_neg (by show ¬ t = 0; omega), if_neg (by show ¬ t = 6; omega), if_pos h10]
theorem sm_upd {h : am_H} {a k : Nat} {v : Int} : (fun j => Int32.ofInt (am_up h a k v a j)) = upd (fun j => Int32.ofInt (h a j)) k (Int32.ofInt v) := by
  funext j
  rw [sm_up_at]
  unfold upd
  split <;> rfl
theorem sm_updL {h : am_H} {a k : Nat} {v : Int} : (fun j => Int64.ofInt (am_up h a k v a j)) = vp_updL (fun j => Int64.ofInt (h a j)) k (Int64.ofInt v) := by
  funext j
  rw [sm_up_at]
  unfold vp_updL
  split <;> rfl
section
variable {p : Program} {l : Launch} {e : Env} {R : Room} {s : State} {m : MethodId} {args : Array Value} {below : List Frame} {meth : Method} {c : Code} {Q : State → Prop}
variable {G : sm_G} {L : Nat} {xs : Nat → Int32} {own : String} {cc : ByteArray} {maxL : Nat} {ret : Option FieldType} {lo : Bool} {n0 t0 : Nat} {out : am_O} {F : am_F}
variable {ls : List (Option am_V)} {st : List am_V} {σ : am_S} {H : Heap} {locs : List Loc} {cells slots pc len : Nat} {J : Array Slot} {r : List am_A}
theorem sm_nlt (h : sm_ok G L xs σ H) {a t n : Nat} {rs : List am_R} (hq : σ.1[a]? = some (t, n, rs)) (ht : t ≠ 0) : n < 2147483648 := (h.2.2.2 a _ hq).1.2.1 ht
/-- an int out of an array of small numbers -/
theorem si_ald {t : Nat} (ht : t = 1 ∨ t = 2 ∨ t = 3 ∨ t = 4) (hk : sm_K p l e R s m args below meth c Q G L xs maxL lo n0 t0 out F (.inr r) (pc + 1)) (I : sm_inv s G L xs maxL lo n0 t0 ls st σ H locs cells slots J)
    (row : ∀ (q0 a n : Nat) (f : Nat → Int32) (i : Int32) (rest : List Value), (sm_ws G σ)[q0]? = some (a, .inl (G.2.2.2.2 t, n, .inl f)) → vp_in i n → W p l e R s m args below meth c H locs cells slots Q (F0 m (pc + 1) J (.int (f i.toNatClampNeg) :: rest)) → W p l e R s m args below meth c H locs cells slots Q (F0 m pc J (.int i :: .ref a :: rest)))
    (row0 : t = 1 → ∀ (i : Int32) (rest : List Value), vp_in i L → W p l e R s m args below meth c H locs cells slots Q (F0 m (pc + 1) J (.int (xs i.toNatClampNeg) :: rest)) → W p l e R s m args below meth c H locs cells slots Q (F0 m pc J (.int i :: .ref G.2.1 :: rest)))
    (h : am_ald F t r ls st σ = some out) : W p l e R s m args below meth c H locs cells slots Q (F0 m pc J (st.map (sm_v G))) := by
  obtain ⟨x, s1, rfl, h1⟩ := iv_p1 h
  obtain ⟨Y, s2, rfl, h2⟩ := iv_pr h1
  obtain ⟨a, n, rs, rfl, hq, h3⟩ := iv_arr h2
  obtain ⟨hx, h4⟩ := iv_idx h3
  have hn := sm_nlt I.1 hq (by omega)
  obtain ⟨hin, hcl⟩ := sm_in hx hn
  have hnum : sm_i (σ.2 a x.toNat) := by
    have := (I.1.2.2.2 a _ hq).2 x.toNat
    unfold sm_num at this
    rw [if_neg (by show ¬ t = 6; omega)] at this
    exact this
  have go := hk _ _ _ _ _ _ _ _ (I.p1 (st' := s2) (v := am_i (σ.2 a x.toNat)) (fun v hv => by simp [hv]) hnum) h4
  by_cases ha : a = 0
  · subst ha
    obtain ⟨rs', h6⟩ := I.1.2.1
    cases h6.symm.trans hq
    refine row0 rfl (Int32.ofInt x) (s2.map (sm_v G)) hin ?_
    rw [hcl]
    have e1 : xs x.toNat = Int32.ofInt (σ.2 0 x.toNat) := by rw [I.1.2.2.1 _ (by omega), sm_oI]
    rw [e1]
    exact go
  · obtain ⟨-, had, hw⟩ := sm_cell I.1 hq (Or.inr ha)
    rw [sm_entN G σ.2 a (by omega) (by omega) (by omega)] at hw
    show W p l e R s m args below meth c H locs cells slots Q (F0 m pc J (Value.int (Int32.ofInt x) :: Value.ref (sm_ad G a) :: s2.map (sm_v G)))
    rw [had]
    refine row _ _ _ _ _ _ hw hin ?_
    rw [hcl]
    exact go
/-- an int into an array of small numbers -/
theorem si_ast {t : Nat} (ht : t = 1 ∨ t = 2 ∨ t = 3 ∨ t = 4) {w : Int → Int} {nar : Int32 → Int32} (hk : sm_K p l e R s m args below meth c Q G L xs maxL lo n0 t0 out F (.inr r) (pc + 1)) (I : sm_inv s G L xs maxL lo n0 t0 ls st σ H locs cells slots J)
    (hw : ∀ v st', st = .inl v :: st' → sm_i v → sm_i (w v) ∧ nar (Int32.ofInt v) = Int32.ofInt (w v))
    (row : ∀ (q0 a n : Nat) (f : Nat → Int32) (i x : Int32) (rest : List Value), (sm_ws G σ)[q0]? = some (a, .inl (G.2.2.2.2 t, n, .inl f)) → vp_in i n → (∀ (H1 : Heap) (locs1 : List Loc), va_P G.2.2.2.1 sm_cl ((sm_ws G σ).set q0 (a, .inl (G.2.2.2.2 t, n, .inl (upd f i.toNatClampNeg (nar x))))) H1 → va_S (sm_A G) s.heap H1 locs1 → W p l e R s m args below meth c H1 locs1 cells slots Q (F0 m (pc + 1) J rest)) → W p l e R s m args below meth c H locs cells slots Q (F0 m pc J (.int x :: .int i :: .ref a :: rest)))
    (h : am_ast F t w r ls st σ = some out) : W p l e R s m args below meth c H locs cells slots Q (F0 m pc J (st.map (sm_v G))) := by
  obtain ⟨v, s0, rfl, h1⟩ := iv_p1 h
  obtain ⟨x, s1, rfl, h2⟩ := iv_p1 h1
  obtain ⟨Y, s2, rfl, h3⟩ := iv_pr h2
  obtain ⟨a, n, rs, rfl, hq, h4⟩ := iv_arr h3
  obtain ⟨hx, h5⟩ := iv_idx h4
  obtain ⟨ha, h6⟩ := iv_cd0 h5
  have ha : a ≠ 0 := fun z => by subst z; cases ha
  have hn := sm_nlt I.1 hq (by omega)
  obtain ⟨hin, hcl⟩ := sm_in hx hn
  obtain ⟨hv1, hv2⟩ := hw v _ rfl (I.top (v := .inl v) (by simp))
  obtain ⟨-, had, hws⟩ := sm_cell I.1 hq (Or.inr ha)
  rw [sm_entN G σ.2 a (by omega) (by omega) (by omega)] at hws
  show W p l e R s m args below meth c H locs cells slots Q (F0 m pc J (Value.int (Int32.ofInt v) :: Value.int (Int32.ofInt x) :: Value.ref (sm_ad G a) :: s2.map (sm_v G)))
  rw [had]
  refine row _ _ _ _ _ _ _ hws hin (fun H1 locs1 hP hS1 => ?_)
  refine hk _ _ _ _ _ _ _ _ (I.heap (I.1.up ha hq (k := x.toNat) (v := w v) ?_ ?_) hS1 rfl rfl (st' := s2) (fun v hv => by simp [hv])) h6
  · unfold sm_num
    rw [if_neg (by show ¬ t = 6; omega)]
    exact hv1
  · rw [sm_entN G _ a (by omega) (by omega) (by omega), sm_upd, ← hv2, ← hcl]
    exact hP
theorem si_lald (hk : sm_K p l e R s m args below meth c Q G L xs maxL lo n0 t0 out F (.inr r) (pc + 1)) (I : sm_inv s G L xs maxL lo n0 t0 ls st σ H locs cells slots J)
    (row : ∀ (q0 a n : Nat) (f : Nat → Int64) (i : Int32) (rest : List Value), (sm_ws G σ)[q0]? = some (a, .inl (G.2.2.2.2 6, n, .inr (.inl f))) → vp_in i n → W p l e R s m args below meth c H locs cells slots Q (F0 m (pc + 1) J (.long (f i.toNatClampNeg) :: rest)) → W p l e R s m args below meth c H locs cells slots Q (F0 m pc J (.int i :: .ref a :: rest)))
    (h : am_p1 st (fun x st => am_pr st fun X st => am_arr σ X 6 fun a n _ => am_idx x n fun k => F (.inr r) ls (am_l (σ.2 a k) :: st) σ) = some out) : W p l e R s m args below meth c H locs cells slots Q (F0 m pc J (st.map (sm_v G))) := by
  obtain ⟨x, s1, rfl, h1⟩ := iv_p1 h
  obtain ⟨Y, s2, rfl, h2⟩ := iv_pr h1
  obtain ⟨a, n, rs, rfl, hq, h3⟩ := iv_arr h2
  obtain ⟨hx, h4⟩ := iv_idx h3
  have hn := sm_nlt I.1 hq (by omega)
  obtain ⟨hin, hcl⟩ := sm_in hx hn
  have hnum : sm_l (σ.2 a x.toNat) := (I.1.2.2.2 a _ hq).2 x.toNat
  obtain ⟨-, had, hw⟩ := sm_cell I.1 hq (Or.inl (by show (6 : Nat) ≠ 1; omega))
  rw [sm_ent6] at hw
  show W p l e R s m args below meth c H locs cells slots Q (F0 m pc J (Value.int (Int32.ofInt x) :: Value.ref (sm_ad G a) :: s2.map (sm_v G)))
  rw [had]
  refine row _ _ _ _ _ _ hw hin ?_
  rw [hcl]
  exact hk _ _ _ _ _ _ _ _ (I.p1 (st' := s2) (v := am_l (σ.2 a x.toNat)) (fun v hv => by simp [hv]) hnum) h4
theorem si_last (hk : sm_K p l e R s m args below meth c Q G L xs maxL lo n0 t0 out F (.inr r) (pc + 1)) (I : sm_inv s G L xs maxL lo n0 t0 ls st σ H locs cells slots J)
    (row : ∀ (q0 a n : Nat) (f : Nat → Int64) (i : Int32) (x : Int64) (rest : List Value), (sm_ws G σ)[q0]? = some (a, .inl (G.2.2.2.2 6, n, .inr (.inl f))) → vp_in i n → (∀ (H1 : Heap) (locs1 : List Loc), va_P G.2.2.2.1 sm_cl ((sm_ws G σ).set q0 (a, .inl (G.2.2.2.2 6, n, .inr (.inl (vp_updL f i.toNatClampNeg x))))) H1 → va_S (sm_A G) s.heap H1 locs1 → W p l e R s m args below meth c H1 locs1 cells slots Q (F0 m (pc + 1) J rest)) → W p l e R s m args below meth c H locs cells slots Q (F0 m pc J (.long x :: .int i :: .ref a :: rest)))
    (h : am_l1 st (fun v st => am_p1 st fun x st => am_pr st fun X st => am_arr σ X 6 fun a n _ => am_idx x n fun k => cond (Nat.beq a 0) none (F (.inr r) ls st (σ.1, am_up σ.2 a k v))) = some out) : W p l e R s m args below meth c H locs cells slots Q (F0 m pc J (st.map (sm_v G))) := by
  obtain ⟨v, s0, rfl, h1⟩ := iv_l1 h
  obtain ⟨x, s1, rfl, h2⟩ := iv_p1 h1
  obtain ⟨Y, s2, rfl, h3⟩ := iv_pr h2
  obtain ⟨a, n, rs, rfl, hq, h4⟩ := iv_arr h3
  obtain ⟨hx, h5⟩ := iv_idx h4
  obtain ⟨ha, h6⟩ := iv_cd0 h5
  have ha : a ≠ 0 := fun z => by subst z; cases ha
  have hn := sm_nlt I.1 hq (by omega)
  obtain ⟨hin, hcl⟩ := sm_in hx hn
  have hv : sm_l v := I.top (v := .inr (.inl v)) (by simp)
  obtain ⟨-, had, hws⟩ := sm_cell I.1 hq (Or.inr ha)
  rw [sm_ent6] at hws
  show W p l e R s m args below meth c H locs cells slots Q (F0 m pc J (Value.long (Int64.ofInt v) :: Value.int (Int32.ofInt x) :: Value.ref (sm_ad G a) :: s2.map (sm_v G)))
  rw [had]
  refine row _ _ _ _ _ _ _ hws hin (fun H1 locs1 hP hS1 => ?_)
  refine hk _ _ _ _ _ _ _ _ (I.heap (I.1.up ha hq (k := x.toNat) (v := v) hv ?_) hS1 rfl rfl (st' := s2) (fun v hv => by simp [hv])) h6
  rw [sm_ent6, sm_updL, ← hcl]
  exact hP
/-- a reference out of an array -/
theorem si_aald {t : Nat} (ht : 10 ≤ t) (hk : sm_K p l e R s m args below meth c Q G L xs maxL lo n0 t0 out F (.inr r) (pc + 1)) (I : sm_inv s G L xs maxL lo n0 t0 ls st σ H locs cells slots J)
    (row : ∀ (q0 a n : Nat) (f : Nat → Option Nat) (i : Int32) (rest : List Value), (sm_ws G σ)[q0]? = some (a, .inl (G.2.2.2.2 t, n, .inr (.inr (.inr (.inr f))))) → vp_in i n → W p l e R s m args below meth c H locs cells slots Q (F0 m (pc + 1) J (va_rf (f i.toNatClampNeg) :: rest)) → W p l e R s m args below meth c H locs cells slots Q (F0 m pc J (.int i :: .ref a :: rest)))
    (h : am_p1 st (fun x st => am_pr st fun X st => am_arr σ X t fun _ n rs => am_idx x n fun k => F (.inr r) ls (am_r (rs.getD k am_n) :: st) σ) = some out) : W p l e R s m args below meth c H locs cells slots Q (F0 m pc J (st.map (sm_v G))) := by
  obtain ⟨x, s1, rfl, h1⟩ := iv_p1 h
  obtain ⟨Y, s2, rfl, h2⟩ := iv_pr h1
  obtain ⟨a, n, rs, rfl, hq, h3⟩ := iv_arr h2
  obtain ⟨hx, h4⟩ := iv_idx h3
  have hn := sm_nlt I.1 hq (by omega)
  obtain ⟨hin, hcl⟩ := sm_in hx hn
  obtain ⟨-, had, hw⟩ := sm_cell I.1 hq (Or.inl (by show t ≠ 1; omega))
  rw [sm_entR G σ.2 a ht] at hw
  show W p l e R s m args below meth c H locs cells slots Q (F0 m pc J (Value.int (Int32.ofInt x) :: Value.ref (sm_ad G a) :: s2.map (sm_v G)))
  rw [had]
  refine row _ _ _ _ _ _ hw hin ?_
  rw [hcl]
  exact hk _ _ _ _ _ _ _ _ (I.p1 (st' := s2) (v := am_r (rs.getD x.toNat am_n)) (fun v hv => by simp [hv]) trivial) h4
/-- an array's length -/
theorem si_alen {t : Nat} (ht : t ≠ 0) (hk : sm_K p l e R s m args below meth c Q G L xs maxL lo n0 t0 out F (.inr r) (pc + 1)) (I : sm_inv s G L xs maxL lo n0 t0 ls st σ H locs cells slots J)
    (row : ∀ (q0 a : Nat) (x : vp_A) (v : Int32) (rest : List Value), (sm_ws G σ)[q0]? = some (a, .inl (G.2.2.2.2 t, x)) → Int32.ofNat x.1 = v → W p l e R s m args below meth c H locs cells slots Q (F0 m (pc + 1) J (.int v :: rest)) → W p l e R s m args below meth c H locs cells slots Q (F0 m pc J (.ref a :: rest)))
    (row0 : t = 1 → ∀ (rest : List Value), W p l e R s m args below meth c H locs cells slots Q (F0 m (pc + 1) J (.int (Int32.ofInt L) :: rest)) → W p l e R s m args below meth c H locs cells slots Q (F0 m pc J (.ref G.2.1 :: rest)))
    (h : am_pr st (fun X st => am_arr σ X t fun _ n _ => F (.inr r) ls (am_i n :: st) σ) = some out) : W p l e R s m args below meth c H locs cells slots Q (F0 m pc J (st.map (sm_v G))) := by
  obtain ⟨Y, s2, rfl, h2⟩ := iv_pr h
  obtain ⟨a, n, rs, rfl, hq, h3⟩ := iv_arr h2
  have hn := sm_nlt I.1 hq ht
  have go := hk _ _ _ _ _ _ _ _ (I.p1 (st' := s2) (v := am_i n) (fun v hv => by simp [hv]) ⟨by omega, by omega⟩) h3
  by_cases ha : a = 0
  · subst ha
    obtain ⟨rs', h6⟩ := I.1.2.1
    cases h6.symm.trans hq
    exact row0 rfl _ go
  · obtain ⟨-, had, hw⟩ := sm_cell I.1 hq (Or.inr ha)
    show W p l e R s m args below meth c H locs cells slots Q (F0 m pc J (Value.ref (sm_ad G a) :: s2.map (sm_v G)))
    rw [had]
    have e1 : sm_ent G σ.2 a (t, n, rs) = .inl (G.2.2.2.2 t, sm_arr G σ.2 a (t, n, rs)) := by unfold sm_ent; rw [if_neg ht]
    rw [e1] at hw
    exact row _ _ _ (Int32.ofInt n) _ hw (Int32.ofInt_eq_ofNat).symm go
end
