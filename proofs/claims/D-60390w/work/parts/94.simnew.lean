/-! SIMULATION, 15: new cells -/
section
variable {p : Program} {l : Launch} {e : Env} {R : Room} {s : State} {m : MethodId} {args : Array Value} {below : List Frame} {meth : Method} {c : Code} {Q : State → Prop}
variable {G : sm_G} {L : Nat} {xs : Nat → Int32} {own : String} {cc : ByteArray} {maxL : Nat} {ret : Option FieldType} {lo : Bool} {n0 t0 : Nat} {out : am_O} {F : am_F} {Γ : am_G}
variable {ls : List (Option am_V)} {st : List am_V} {σ : am_S} {H : Heap} {locs : List Loc} {cells slots pc len : Nat} {J : Array Slot} {r : List am_A} {o : List Nat}
theorem sm_ent_h {G : sm_G} {h h' : am_H} {a : Nat} (e : h' a = h a) (q : am_C) : sm_ent G h' a q = sm_ent G h a q := by
  unfold sm_ent sm_fs sm_fv sm_arr
  rw [e]
theorem am_tot_app (S T : List am_C) : am_tot (S ++ T) = am_tot S + am_tot T := by
  unfold am_tot
  rw [List.map_append, List.sum_append]
theorem am_tot_1 (q : am_C) : am_tot [q] = am_siz q := by unfold am_tot; simp
theorem am_siz_a {t n : Nat} {rs : List am_R} (h : t ≠ 0) : am_siz (t, n, rs) = n := by unfold am_siz; rw [if_neg h]
theorem sm_new_ref (hsize : H.size + 1 = G.1 + σ.1.length) (h0 : 0 < σ.1.length) : Value.ref H.size = sm_v G (am_r (am_a σ.1.length)) := by
  show _ = Value.ref (sm_ad G σ.1.length)
  unfold sm_ad
  rw [if_neg (by omega)]
  have : H.size = G.1 + (σ.1.length - 1) := by omega
  rw [this]
theorem sm_ok.pos (h : sm_ok G L xs σ H) : 0 < σ.1.length := (List.getElem?_eq_some_iff.mp h.2.1.choose_spec).1
theorem sm_inv.count (I : sm_inv s G L xs maxL lo n0 t0 ls st σ H locs cells slots J) (q : am_C) : cells + 1 + n0 = (σ.1 ++ [q]).length ∧ slots + am_siz q + t0 = am_tot (σ.1 ++ [q]) := by
  have h1 := I.2.2.2.2.1
  have h2 := I.2.2.2.2.2
  rw [List.length_append, am_tot_app, am_tot_1, List.length_singleton]
  omega
/-- the heap has grown by cells -/
theorem sm_inv.grow (I : sm_inv s G L xs maxL lo n0 t0 ls st σ H locs cells slots J) (hsize : H.size + 1 = G.1 + σ.1.length) {qs : List am_C} {h' : am_H} {H' : Heap} (hs : ∀ q ∈ qs, sm_shp q) (hh : ∀ a, a < σ.1.length → h' a = σ.2 a) (hh0 : ∀ a, σ.1.length ≤ a → a < σ.1.length + qs.length → h' a = fun _ => 0)
    (hz : H.size ≤ H'.size) (ho : ∀ a : Nat, a < H.size → H'[a]? = H[a]?) (hn : ∀ (i : Nat) (q : am_C), qs[i]? = some q → va_at G.2.2.2.1 sm_cl (H.size + i, sm_ent G h' (σ.1.length + i) q) H') {st' : List am_V} (hst : ∀ v ∈ st', v ∈ st) :
    sm_inv s G L xs maxL lo n0 t0 ls (am_r (am_a σ.1.length) :: st') (σ.1 ++ qs, h') H' locs (cells + qs.length) (slots + am_tot qs) J := by
  obtain ⟨hok, hS, hls, hst0, hc, hsl⟩ := I
  obtain ⟨hP, ⟨rs, h0⟩, hx, hsh⟩ := hok
  have hl0 : 0 < σ.1.length := (List.getElem?_eq_some_iff.mp h0).1
  refine ⟨⟨?_, ⟨rs, by show (σ.1 ++ qs)[0]? = _; rw [List.getElem?_append_left hl0]; exact h0⟩, fun k hk => by show h' 0 k = _; rw [hh 0 hl0]; exact hx k hk, ?_⟩, ⟨Nat.le_trans hS.1 hz, fun q h1 h2 => (ho q (Nat.lt_of_lt_of_le h1 hS.1)).trans (hS.2.1 q h1 h2), hS.2.2⟩, hls, ?_, by show _ = (σ.1 ++ qs).length; rw [List.length_append]; omega, by show _ = am_tot (σ.1 ++ qs); rw [am_tot_app]; omega⟩
  · intro i x hi
    obtain ⟨q, hq, rfl⟩ := sm_ws_of G hi
    dsimp only at hq ⊢
    by_cases hlt : i + 1 < σ.1.length
    · rw [List.getElem?_append_left hlt] at hq
      have h1 := hP i _ (by have := sm_ws_at G (σ := σ) (a := i + 1) (by omega) hq; rw [show i + 1 - 1 = i by omega] at this; exact this)
      rw [sm_ent_h (hh (i + 1) hlt)]
      have h2 : G.1 + i < H.size := by omega
      unfold va_at at h1 ⊢
      dsimp only at h1 ⊢
      split at h1
      · rw [ho _ h2]; exact h1
      · obtain ⟨r9, hr1, hr2⟩ := h1
        exact ⟨r9, hr1, hr2.kept (ho _ h2)⟩
    · rw [List.getElem?_append_right (by omega)] at hq
      have h1 := hn _ _ hq
      rw [show σ.1.length + (i + 1 - σ.1.length) = i + 1 by omega, show H.size + (i + 1 - σ.1.length) = G.1 + i by omega] at h1
      exact h1
  · intro a q hq
    dsimp only at hq ⊢
    by_cases hlt : a < σ.1.length
    · rw [List.getElem?_append_left hlt] at hq
      rw [hh a hlt]
      exact hsh a q hq
    · rw [List.getElem?_append_right (by omega)] at hq
      have hlq : a - σ.1.length < qs.length := (List.getElem?_eq_some_iff.mp hq).1
      refine ⟨hs q (List.mem_of_getElem? hq), fun k => ?_⟩
      rw [hh0 a (by omega) (by omega)]
      unfold sm_num
      split
      · show sm_l 0; exact ⟨by omega, by omega⟩
      · show sm_i 0; exact ⟨by omega, by omega⟩
  · intro v hv
    rcases List.mem_cons.mp hv with rfl | hv
    · trivial
    · exact hst0 v (hst v hv)
theorem sm_inv.grow1 (I : sm_inv s G L xs maxL lo n0 t0 ls st σ H locs cells slots J) (hsize : H.size + 1 = G.1 + σ.1.length) {q : am_C} {H' : Heap} (hs : sm_shp q)
    (hz : H'.size = H.size + 1) (ho : ∀ a : Nat, a < H.size → H'[a]? = H[a]?) (hn : va_at G.2.2.2.1 sm_cl (H.size, sm_ent G (am_zr σ.2 σ.1.length) σ.1.length q) H') {st' : List am_V} (hst : ∀ v ∈ st', v ∈ st) :
    sm_inv s G L xs maxL lo n0 t0 ls (am_r (am_a σ.1.length) :: st') (σ.1 ++ [q], am_zr σ.2 σ.1.length) H' locs (cells + 1) (slots + am_siz q) J := by
  have h1 := I.grow hsize (qs := [q]) (h' := am_zr σ.2 σ.1.length) (H' := H') (fun q' h => by rw [List.mem_singleton.mp h]; exact hs) (fun a h => by unfold am_zr; rw [if_neg (by omega)]) (fun a h1 h2 => by unfold am_zr; rw [if_pos (by simp only [List.length_singleton] at h2; omega)]) (by omega) ho (fun i q' h => by
    cases i with
    | zero => cases h; exact hn
    | succ i => simp at h) hst
  have e1 : am_tot [q] = am_siz q := by unfold am_tot; simp
  rw [e1] at h1
  exact h1
theorem iv_new {q : am_C} {k : am_S → Option am_O} (h : am_new σ q k = some out) : k (σ.1 ++ [q], am_zr σ.2 σ.1.length) = some out := by
  unfold am_new at h
  exact (iv_cd1 h).2
/-- the room that is left -/
def sm_room (R : Room) (n0 t0 : Nat) (out : am_O) : Prop := out.2.1.length ≤ R.cells + n0 ∧ am_tot out.2.1 ≤ R.slots + t0
theorem sm_room.use (h : sm_room R n0 t0 out) {τ : am_S} (hle : am_le τ out.2) {cells slots : Nat} (h1 : cells + n0 = τ.1.length) (h2 : slots + t0 = am_tot τ.1) : cells ≤ R.cells ∧ slots ≤ R.slots := by
  obtain ⟨a1, a2⟩ := h
  obtain ⟨b1, b2⟩ := hle
  omega
theorem sm_nulls {cA : ClassId} {n : Nat} {rs : List am_R} (h : ∀ k : Nat, rs.getD k am_n = am_n) : ({ cls := cA, slots := Array.replicate n .null, vm := .none } : Cell) = arrV cA n (fun j => va_rf (sm_co G (rs.getD j am_n))) := by
  unfold arrV
  congr 1
  apply Array.ext
  · simp
  · intro i h1 h2
    simp only [Array.getElem_replicate, Array.getElem_ofFn, h]
    rfl
theorem sm_born_v {kd : Nat} {ty : FieldType} (h : sm_tyok kd ty = true) : defaultValue ty = if kd = 1 then va_rf (sm_co G am_n) else if kd = 2 then va_rf (sm_co G (am_dec 0)) else .int (Int32.ofInt 0) := by
  unfold sm_tyok at h
  split at h
  · rfl
  · rfl
  · rfl
  · rfl
  · rfl
  · cases h
/-- newarray -/
def sm_nat (at_ : ArrayType) (t : Nat) : Prop := (at_ = .int ∧ t = 1) ∨ (at_ = .byte ∧ t = 2) ∨ (at_ = .short ∧ t = 3) ∨ (at_ = .boolean ∧ t = 4) ∨ (at_ = .long ∧ t = 6)
theorem sm_nat_ty {at_ : ArrayType} {t : Nat} (h : sm_nat at_ t) (G : sm_G) : ∃ k : Nat, (sm_tys G)[k]? = some (G.2.2.2.2 t, newarray.typeOf at_) ∧ (∀ U : State, va_RA U (G.2.2.2.2 t) (newarray.typeOf at_) → U.vm.findClass ("[" ++ (newarray.typeOf at_).toString) = some (G.2.2.2.2 t)) ∧ componentBytes (newarray.typeOf at_) ≤ 8 ∧ t ≠ 0 ∧ t < 10 ∧
    ∀ (h : am_H) (a n : Nat), h a = (fun _ => 0) → sm_ent G h a (t, n, []) = .inl (G.2.2.2.2 t, sm_arr G h a (t, n, [])) ∧ vp_cell (G.2.2.2.2 t) (sm_arr G h a (t, n, [])) = arrV (G.2.2.2.2 t) n (fun _ => defaultValue (newarray.typeOf at_)) := by
  rcases h with ⟨rfl, rfl⟩ | ⟨rfl, rfl⟩ | ⟨rfl, rfl⟩ | ⟨rfl, rfl⟩ | ⟨rfl, rfl⟩
  · exact ⟨0, rfl, fun U h => h, by decide, by decide, by decide, fun h a n e => ⟨rfl, by unfold sm_arr; rw [e]; rfl⟩⟩
  · exact ⟨1, rfl, fun U h => h, by decide, by decide, by decide, fun h a n e => ⟨rfl, by unfold sm_arr; rw [e]; rfl⟩⟩
  · exact ⟨2, rfl, fun U h => h, by decide, by decide, by decide, fun h a n e => ⟨rfl, by unfold sm_arr; rw [e]; rfl⟩⟩
  · exact ⟨3, rfl, fun U h => h, by decide, by decide, by decide, fun h a n e => ⟨rfl, by unfold sm_arr; rw [e]; rfl⟩⟩
  · exact ⟨4, rfl, fun U h => h, by decide, by decide, by decide, fun h a n e => ⟨rfl, by unfold sm_arr; rw [e]; rfl⟩⟩
theorem si_newa (X : sm_cx p s m args meth c G L xs own cc maxL ret) (hsz : s.heap.size + 1 = G.1 + n0) (hrm : sm_room R n0 t0 out) (hF : ∀ p ls st τ o, F p ls st τ = some o → am_le τ o.2) {at_ : ArrayType} {t : Nat} (hat : sm_nat at_ t) (hw : Cond.arrayClass (newarray.typeOf at_) ∈ sm_tbl) (hd : decode cc pc = .ok (.newarray at_, 2))
    (hk : sm_K p l e R s m args below meth c Q G L xs maxL lo n0 t0 out F (.inr r) (pc + 2)) (I : sm_inv s G L xs maxL lo n0 t0 ls st σ H locs cells slots J)
    (h : am_p1 st (fun n st => cond (decide (0 ≤ n) && decide (n ≤ 100000)) (am_new σ (t, n.toNat, []) (fun σ' => F (.inr r) ls (am_r (am_a σ.1.length) :: st) σ')) none) = some out) : W p l e R s m args below meth c H locs cells slots Q (F0 m pc J (st.map (sm_v G))) := by
  obtain ⟨hx, hb, hre, hml, hown, hts, hlocks, hKn, hXs, hb1, hb2, hLL, hcst⟩ := X
  obtain ⟨n, s1, rfl, h1⟩ := iv_p1 h
  obtain ⟨h2, h3⟩ := iv_cd1 h1
  simp only [Bool.and_eq_true, decide_eq_true_eq] at h2
  have h4 := iv_new h3
  obtain ⟨k, k1, k2, k3, k4, k5, k6⟩ := sm_nat_ty hat G
  have hni : sm_i n := ⟨by omega, by omega⟩
  have hin := sm_in (x := n) (n := n.toNat + 1) ⟨by omega, by omega⟩ (by omega)
  have hle := hF _ _ _ _ _ h4
  have hroom := hrm.use hle (I.count (t, n.toNat, [])).1 (I.count (t, n.toNat, [])).2
  rw [am_siz_a k4] at hroom
  intro T hT X0
  have hsize := sm_size I hb2 hsz (by rw [← hT]; exact X0.heapSize)
  refine va_newaK (N := n.toNat) (g := F0 m pc J ((.inl n :: s1).map (sm_v G))) (n := Int32.ofInt n) (rest := s1.map (sm_v G)) hx hb (hts _ hw) rfl hd rfl (fun z => hin.1 (Or.inl z)) hin.2 ?_ hroom.1 hroom.2 rfl (fun H' cA c1 c2 c3 c4 c5 => ?_) T hT X0
  · calc n.toNat * componentBytes (newarray.typeOf at_) ≤ 100000 * 8 := Nat.mul_le_mul (by omega) k3
      _ ≤ _ := by decide
  · have hcA : cA = G.2.2.2.2 t := by
      have := k2 s (hKn.2 k _ k1).2
      exact Option.some.inj (c5.symm.trans this)
    subst hcA
    have e0 : am_zr σ.2 σ.1.length σ.1.length = fun _ => 0 := by unfold am_zr; rw [if_pos rfl]
    obtain ⟨j1, j2⟩ := k6 (am_zr σ.2 σ.1.length) σ.1.length n.toNat e0
    have Inv := I.grow1 hsize (q := (t, n.toNat, [])) (H' := H') ⟨fun z => absurd z k4, fun _ => by show n.toNat < _; omega, fun z => by have z : 10 ≤ t := z; omega⟩ c2 c3 (by rw [j1]; show H'[H.size]? = some (vp_cell _ _); rw [j2]; exact c1) (st' := s1) (fun v hv => by simp [hv])
    rw [am_siz_a k4] at Inv
    show W p l e R s m args below meth c H' locs (cells + 1) (slots + n.toNat) Q (F0 m (pc + 2) J (Value.ref H.size :: s1.map (sm_v G)))
    rw [sm_new_ref hsize I.1.pos]
    exact hk _ _ _ _ _ _ _ _ Inv h4
/-- anewarray: of objects -/
theorem si_anew (X : sm_cx p s m args meth c G L xs own cc maxL ret) (hsz : s.heap.size + 1 = G.1 + n0) (hrm : sm_room R n0 t0 out) (hF : ∀ p ls st τ o, F p ls st τ = some o → am_le τ o.2) {t k0 : Nat} {C : String} {idx : Nat} (h10 : 10 ≤ t) (hty : (sm_tys G)[k0]? = some (G.2.2.2.2 t, .object C)) (hw1 : Cond.classLink own idx C ∈ sm_tbl) (hw2 : Cond.arrayOver (.object C) ∈ sm_tbl) (hd : decode cc pc = .ok (.anewarray idx, 3))
    (hk : sm_K p l e R s m args below meth c Q G L xs maxL lo n0 t0 out F (.inr r) (pc + 3)) (I : sm_inv s G L xs maxL lo n0 t0 ls st σ H locs cells slots J)
    (h : am_p1 st (fun n st => cond (decide (0 ≤ n) && decide (n ≤ 100000)) (am_new σ (t, n.toNat, List.replicate n.toNat am_n) (fun σ' => F (.inr r) ls (am_r (am_a σ.1.length) :: st) σ')) none) = some out) : W p l e R s m args below meth c H locs cells slots Q (F0 m pc J (st.map (sm_v G))) := by
  obtain ⟨hx, hb, hre, hml, hown, hts, hlocks, hKn, hXs, hb1, hb2, hLL, hcst⟩ := X
  obtain ⟨n, s1, rfl, h1⟩ := iv_p1 h
  obtain ⟨h2, h3⟩ := iv_cd1 h1
  simp only [Bool.and_eq_true, decide_eq_true_eq] at h2
  have h4 := iv_new h3
  have hin := sm_in (x := n) (n := n.toNat + 1) ⟨by omega, by omega⟩ (by omega)
  have hle := hF _ _ _ _ _ h4
  have hroom := hrm.use hle (I.count (t, n.toNat, List.replicate n.toNat am_n)).1 (I.count (t, n.toNat, List.replicate n.toNat am_n)).2
  rw [am_siz_a (by omega), ← hin.2] at hroom
  intro T hT X0
  have hsize := sm_size I hb2 hsz (by rw [← hT]; exact X0.heapSize)
  refine W.anew (g := F0 m pc J ((.inl n :: s1).map (sm_v G))) (n := Int32.ofInt n) (rest := s1.map (sm_v G)) hx hb hown (hts _ hw1) (hts _ hw2) rfl hd rfl (fun z => hin.1 (Or.inl z)) (by rw [hin.2]; omega) hroom.1 hroom.2 (fun cA kA comp c1 c2 c3 c4 => ?_) T hT X0
  have hcA : cA = G.2.2.2.2 t := by
    obtain ⟨-, -, -, -, -, g5⟩ := (hKn.2 k0 _ hty).2
    exact Option.some.inj (c1.symm.trans g5)
  subst hcA
  have Inv := I.grow1 hsize (q := (t, n.toNat, List.replicate n.toNat am_n)) (H' := H.push { cls := G.2.2.2.2 t, slots := Array.replicate n.toNat .null, vm := .none }) ⟨fun z => by have z : t = 0 := z; omega, fun _ => by show n.toNat < _; omega, fun _ => List.length_replicate⟩ (by simp) (fun a ha => by rw [Array.getElem?_push, if_neg (by omega)]) (by
    rw [sm_entR G _ _ h10]
    show (H.push _)[H.size]? = some (vp_cell _ _)
    rw [Array.getElem?_push, if_pos rfl, vp_cell_q]
    exact congrArg some (sm_nulls (fun k => by rw [List.getD_eq_getElem?_getD, List.getElem?_replicate]; split <;> rfl))) (st' := s1) (fun v hv => by simp [hv])
  rw [am_siz_a (by omega)] at Inv
  rw [hin.2]
  show W p l e R s m args below meth c _ locs (cells + 1) (slots + n.toNat) Q (F0 m (pc + 3) J (Value.ref H.size :: s1.map (sm_v G)))
  rw [sm_new_ref hsize I.1.pos]
  exact hk _ _ _ _ _ _ _ _ Inv h4
/-- anewarray: of arrays -/
theorem si_anewA (X : sm_cx p s m args meth c G L xs own cc maxL ret) (hsz : s.heap.size + 1 = G.1 + n0) (hrm : sm_room R n0 t0 out) (hF : ∀ p ls st τ o, F p ls st τ = some o → am_le τ o.2) {t k0 : Nat} {ty : FieldType} {idx : Nat} (h10 : 10 ≤ t) (hty : (sm_tys G)[k0]? = some (G.2.2.2.2 t, .array ty)) (hw1 : Cond.classLink own idx (FieldType.array ty).toString ∈ sm_tbl) (hw2 : Cond.arrayOver (.array ty) ∈ sm_tbl) (hd : decode cc pc = .ok (.anewarray idx, 3))
    (hk : sm_K p l e R s m args below meth c Q G L xs maxL lo n0 t0 out F (.inr r) (pc + 3)) (I : sm_inv s G L xs maxL lo n0 t0 ls st σ H locs cells slots J)
    (h : am_p1 st (fun n st => cond (decide (0 ≤ n) && decide (n ≤ 100000)) (am_new σ (t, n.toNat, List.replicate n.toNat am_n) (fun σ' => F (.inr r) ls (am_r (am_a σ.1.length) :: st) σ')) none) = some out) : W p l e R s m args below meth c H locs cells slots Q (F0 m pc J (st.map (sm_v G))) := by
  obtain ⟨hx, hb, hre, hml, hown, hts, hlocks, hKn, hXs, hb1, hb2, hLL, hcst⟩ := X
  obtain ⟨n, s1, rfl, h1⟩ := iv_p1 h
  obtain ⟨h2, h3⟩ := iv_cd1 h1
  simp only [Bool.and_eq_true, decide_eq_true_eq] at h2
  have h4 := iv_new h3
  have hin := sm_in (x := n) (n := n.toNat + 1) ⟨by omega, by omega⟩ (by omega)
  have hle := hF _ _ _ _ _ h4
  have hroom := hrm.use hle (I.count (t, n.toNat, List.replicate n.toNat am_n)).1 (I.count (t, n.toNat, List.replicate n.toNat am_n)).2
  rw [am_siz_a (by omega), ← hin.2] at hroom
  intro T hT X0
  have hsize := sm_size I hb2 hsz (by rw [← hT]; exact X0.heapSize)
  refine W.anewA (g := F0 m pc J ((.inl n :: s1).map (sm_v G))) (n := Int32.ofInt n) (rest := s1.map (sm_v G)) hx hb hown (hts _ hw1) (hts _ hw2) rfl hd rfl (fun z => hin.1 (Or.inl z)) (by rw [hin.2]; omega) hroom.1 hroom.2 (fun cA kA comp c1 c2 c3 c4 => ?_) T hT X0
  have hcA : cA = G.2.2.2.2 t := Option.some.inj (c1.symm.trans (hKn.2 k0 _ hty).2)
  subst hcA
  have Inv := I.grow1 hsize (q := (t, n.toNat, List.replicate n.toNat am_n)) (H' := H.push { cls := G.2.2.2.2 t, slots := Array.replicate n.toNat .null, vm := .none }) ⟨fun z => by have z : t = 0 := z; omega, fun _ => by show n.toNat < _; omega, fun _ => List.length_replicate⟩ (by simp) (fun a ha => by rw [Array.getElem?_push, if_neg (by omega)]) (by
    rw [sm_entR G _ _ h10]
    show (H.push _)[H.size]? = some (vp_cell _ _)
    rw [Array.getElem?_push, if_pos rfl, vp_cell_q]
    exact congrArg some (sm_nulls (fun k => by rw [List.getD_eq_getElem?_getD, List.getElem?_replicate]; split <;> rfl))) (st' := s1) (fun v hv => by simp [hv])
  rw [am_siz_a (by omega)] at Inv
  rw [hin.2]
  show W p l e R s m args below meth c _ locs (cells + 1) (slots + n.toNat) Q (F0 m (pc + 3) J (Value.ref H.size :: s1.map (sm_v G)))
  rw [sm_new_ref hsize I.1.pos]
  exact hk _ _ _ _ _ _ _ _ Inv h4
/-- new -/
theorem si_new (X : sm_cx p s m args meth c G L xs own cc maxL ret) (hsz : s.heap.size + 1 = G.1 + n0) (hrm : sm_room R n0 t0 out) (hF : ∀ p ls st τ o, F p ls st τ = some o → am_le τ o.2) {cn idx : Nat} {rc : vw_C} (hc21 : cn < 21) (hrc : sm_cl[cn]? = some rc) (hw1 : Cond.classLink own idx rc.1 ∈ sm_tbl) (hw2 : Cond.instantiable rc.1 (am_sfs.getD cn 0) ∈ sm_tbl) (hw3 : Cond.initialized rc.1 ∈ sm_tbl) (hd : decode cc pc = .ok (.new idx, 3))
    (hk : sm_K p l e R s m args below meth c Q G L xs maxL lo n0 t0 out F (.inr r) (pc + 3)) (I : sm_inv s G L xs maxL lo n0 t0 ls st σ H locs cells slots J)
    (h : am_new σ (0, cn, List.replicate (am_nf cn) am_n) (fun σ' => F (.inr r) ls (am_r (am_a σ.1.length) :: st) σ') = some out) : W p l e R s m args below meth c H locs cells slots Q (F0 m pc J (st.map (sm_v G))) := by
  obtain ⟨hx, hb, hre, hml, hown, hts, hlocks, hKn, hXs, hb1, hb2, hLL, hcst⟩ := X
  have h4 := iv_new h
  have hle := hF _ _ _ _ _ h4
  have hroom := hrm.use hle (I.count (0, cn, List.replicate (am_nf cn) am_n)).1 (I.count (0, cn, List.replicate (am_nf cn) am_n)).2
  have e1 : am_siz (0, cn, List.replicate (am_nf cn) am_n) = am_sfs.getD cn 0 := rfl
  rw [e1] at hroom
  have hKc := hKn.1 cn rc hrc
  obtain ⟨t1, t2, t3, -⟩ := sm_T cn rc hrc
  intro T hT X0
  have hsize := sm_size I hb2 hsz (by rw [← hT]; exact X0.heapSize)
  refine W.newcK (g := F0 m pc J (st.map (sm_v G))) hx hb hown (hts _ hw1) (hts _ hw2) (hts _ hw3) rfl hd hroom.1 hroom.2 hKc.2.1 rfl (fun H' kC c1 c2 c3 c4 => ?_) T hT X0
  have e0 : am_zr σ.2 σ.1.length σ.1.length = fun _ => 0 := by unfold am_zr; rw [if_pos rfl]
  have hty : ∀ k, k < rc.2.2 → parseFieldDescriptor (rc.2.1 k).2.2.1 = some ((parseFieldDescriptor (rc.2.1 k).2.2.1).getD .int) ∧ sm_tyok (sm_fk cn k) ((parseFieldDescriptor (rc.2.1 k).2.2.1).getD .int) = true := by
    intro k hk
    have := t3 k hk
    unfold sm_fdok at this
    split at this
    · rename_i ty e; rw [e]; exact ⟨rfl, this⟩
    · cases this
  have hborn := (u_born (fun k => (parseFieldDescriptor (rc.2.1 k).2.2.1).getD .int) hts t1 hKc c1 c2 (fun k hk => (hty k hk).1)).to (V' := vp_V (sm_fs G (am_zr σ.2 σ.1.length) σ.1.length (List.replicate (am_nf cn) am_n) cn)) (fun k hk => by
    unfold vp_V
    rw [List.getD_eq_getElem?_getD, sm_fs_at (by rw [← t2]; exact hk)]
    show _ = sm_fv _ _ _ _ _ _
    unfold sm_fv
    rw [e0]
    have hr : (List.replicate (am_nf cn) am_n).getD k am_n = am_n := by rw [List.getD_eq_getElem?_getD, List.getElem?_replicate]; split <;> rfl
    rw [hr]
    exact sm_born_v (hty k hk).2)
  have Inv := I.grow1 hsize (q := (0, cn, List.replicate (am_nf cn) am_n)) (H' := H') ⟨fun _ => ⟨List.length_replicate, hc21⟩, fun z => absurd rfl z, fun z => absurd z (by show ¬ 10 ≤ 0; omega)⟩ c3 c4 ⟨rc, hrc, hborn⟩ (st' := st) (fun v hv => hv)
  rw [e1] at Inv
  show W p l e R s m args below meth c H' locs (cells + 1) (slots + am_sfs.getD cn 0) Q (F0 m (pc + 3) J (Value.ref H.size :: st.map (sm_v G)))
  rw [sm_new_ref hsize I.1.pos]
  exact hk _ _ _ _ _ _ _ _ Inv h4
end
