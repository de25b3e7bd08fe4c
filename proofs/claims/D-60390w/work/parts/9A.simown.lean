/-! SIMULATION, 21: calls of own methods -/
section
variable {p : Program} {l : Launch} {e : Env} {R : Room} {s : State} {m : MethodId} {args : Array Value} {below : List Frame} {meth : Method} {c : Code} {Q : State → Prop}
variable {G : sm_G} {L : Nat} {xs : Nat → Int32} {own : String} {cc : ByteArray} {maxL : Nat} {ret : Option FieldType} {lo : Bool} {n0 t0 : Nat} {out : am_O} {F : am_F} {Γ : am_G}
variable {ls : List (Option am_V)} {st : List am_V} {σ : am_S} {H : Heap} {locs : List Loc} {cells slots pc len : Nat} {J : Array Slot} {r : List am_A} {o : List Nat} {hh : List (Nat × Nat × Nat × Nat)} {ps : List Nat}
theorem si_own0 (X : sm_cx p s m args meth c G L xs own cc maxL ret) (hext : sm_ext c hh) (I : sm_inv s G L xs maxL lo n0 t0 ls st σ H locs cells slots J) {as rest : List am_V} {y : MethodName} {w : Cond} {bytes : ByteArray} {mL d cn i hn xf rt : Nat} {rty : Option FieldType} {hh' : List (Nat × Nat × Nat × Nat)} (hcw : sm_cw y w bytes mL rty hh') (hwi : w ∈ sm_tbl) (hini : Cond.initialized y.cls ∈ sm_tbl) (hmL : mL ≤ 41)
    (hEn : ∀ T : State, T.heap = H → Stand p l e R s m args below meth c T locs cells slots → sm_En p l e R s m args below meth c T locs cells slots y (F0 m pc J (st.map (sm_v G))) (rest.map (sm_v G)) (as.map (sm_v G)).toArray)
    {ig : Instr} (hd : decode cc pc = .ok (ig, 3)) (hho : sm_hop own hh ps pc hn) (hΓ : ∀ x τ, Γ cn i as σ = some (x, τ) → am_le σ τ ∧ sm_Met l d y w as σ (x, τ)) (has : ∀ v ∈ as, v ∈ st) (hrest : ∀ v ∈ rest, v ∈ st) (hwt : am_wt rest ≤ 8)
    (hsz : s.heap.size + 1 = G.1 + n0) (hR : d + 9 ≤ R.frames ∧ 60 * d + 460 ≤ R.locals) (hrm : sm_room R n0 t0 out) (hF : ∀ p ls st τ o, F p ls st τ = some o → am_le τ o.2)
    (hk : sm_K p l e R s m args below meth c (sm_Q below s G L xs n0 t0 out) G L xs maxL lo n0 t0 out F (.inr r) (pc + 3)) (hj : ∀ (k tgt : Nat), ps[k]? = some tgt → sm_K p l e R s m args below meth c (sm_Q below s G L xs n0 t0 out) G L xs maxL lo n0 t0 out F (.inl k) tgt)
    (h : am_call Γ σ cn i rt xf as (am_hnd F ls hn) (am_hnx F σ.1 ls hn) (fun vs σ' => F (.inr r) ls (vs ++ rest) σ') = some out) : W p l e R s m args below meth c H locs cells slots (sm_Q below s G L xs n0 t0 out) (F0 m pc J (st.map (sm_v G))) := by
  have hb0 := X.2.1
  have room : ∀ τ : am_S, am_le σ τ → am_le τ out.2 → cells + (τ.1.length - σ.1.length) ≤ R.cells ∧ slots + (am_tot τ.1 - am_tot σ.1) ≤ R.slots := by
    intro τ h1 h2
    obtain ⟨r1, r2⟩ := hrm
    obtain ⟨a1, a2⟩ := h1
    obtain ⟨b1, b2⟩ := h2
    have i1 := I.2.2.2.2.1
    have i2 := I.2.2.2.2.2
    omega
  have hasr : ∀ v ∈ as, sm_rg v := fun v hv => I.2.2.2.1 v (has v hv)
  have hR' : d + 9 ≤ R.frames ∧ 8 + (mL + 11) + (60 * d + 400) ≤ R.locals := ⟨hR.1, by omega⟩
  rcases iv_call h with ⟨τ, h1, h2⟩ | ⟨v, τ, h1, h2⟩ | ⟨a, τ, h1, h2⟩
  · obtain ⟨g1, g2⟩ := hΓ _ _ h1
    refine si_call0 X I hcw hwi hini hEn hd g2 g1 hasr hrest hwt hsz hR' (room τ g1 (hF _ _ _ _ _ h2)) (fun v hv H1 locs1 I1 => ?_) (fun a ha => by cases ha)
    cases hv
    exact hk _ _ _ _ _ _ _ _ I1 h2
  · obtain ⟨g1, g2⟩ := hΓ _ _ h1
    refine si_call0 X I hcw hwi hini hEn hd g2 g1 hasr hrest hwt hsz hR' (room τ g1 (hF _ _ _ _ _ h2)) (fun v hv H1 locs1 I1 => ?_) (fun a ha => by cases ha)
    cases hv
    exact hk _ _ _ _ _ _ _ _ I1 h2
  · obtain ⟨g1, g2⟩ := hΓ _ _ h1
    cases hn with
    | zero =>
      have ho : out = (.inr a, τ) := by
        rcases h2 with h2 | ⟨e1, h2⟩
        · exact (Option.some.inj h2).symm
        · rw [← e1] at h2; exact (Option.some.inj h2).symm
      subst ho
      refine si_call0 X I hcw hwi hini hEn hd g2 g1 hasr hrest hwt hsz hR' (room τ g1 (mo_r _)) (fun v hv => by cases hv) (fun a' ha H1 locs1 T1 hT1 X1 I1 => ?_)
      cases ha
      exact si_out X hext hho hT1 X1 I1
    | succ k =>
      have h3 : ∃ rs, τ.1[a]? = some (0, am_ise, rs) ∧ F (.inl k) ls [am_r (am_a a)] τ = some out := by
        rcases h2 with h2 | ⟨e1, h2⟩
        · obtain ⟨a', rs, e2, hq, h3⟩ := iv_obj (show am_obj τ (am_a a) am_ise (fun _ _ => F (.inl k) ls [am_r (am_a a)] τ) = some out from h2)
          cases e2
          exact ⟨rs, hq, h3⟩
        · rw [← e1] at h2
          obtain ⟨a', rs, e2, hq, h3⟩ := iv_obj (show am_obj τ (am_a a) am_ise (fun _ _ => F (.inl k) ls [am_r (am_a a)] τ) = some out from h2)
          cases e2
          exact ⟨rs, hq, h3⟩
      obtain ⟨rs, hq, h4⟩ := h3
      obtain ⟨x, rfl, c1, c2, c3, c4, c5⟩ := hho
      refine si_call0 X I hcw hwi hini hEn hd g2 g1 hasr hrest hwt hsz hR' (room τ g1 (hF _ _ _ _ _ h4)) (fun v hv => by cases hv) (fun a' ha H1 locs1 T1 hT1 X1 I1 => ?_)
      cases ha
      refine si_in X hext c1 c2 c4 c5 hT1 X1 I1 hq (fun J' hJ => ?_)
      subst hJ
      exact hj _ _ c3 _ _ _ _ _ _ _ _ (I1.push (vs := [am_r (am_a a)]) (st' := []) (fun v hv => by cases hv) (fun v hv => by rw [List.mem_singleton.mp hv]; trivial)) h4
theorem iv_recv {cn : Nat} {as : List am_V} {k : Option am_O} (h : am_recv σ cn as k = some out) : ∃ a rs as', as = am_r (am_a a) :: as' ∧ σ.1[a]? = some (0, cn, rs) ∧ k = some out := by
  unfold am_recv at h
  split at h
  · obtain ⟨a, rs, rfl, hq, h1⟩ := iv_obj h
    exact ⟨a, rs, _, rfl, hq, h1⟩
  · cases h
theorem iv_rcv2 {as : List am_V} {k : Option am_O} (h : am_rcv2 as k = some out) : ∃ a as', as = am_r (am_a a) :: as' ∧ k = some out := by
  unfold am_rcv2 at h
  split at h
  · obtain ⟨a, rfl, h1⟩ := iv_hp h
    exact ⟨a, _, rfl, h1⟩
  · cases h
/-- the operands of a call lie on the stack -/
theorem sm_take {n : Nat} (hn : n ≤ st.length) : st.map (sm_v G) = (((st.take n).reverse.map (sm_v G))).reverse ++ (st.drop n).map (sm_v G) := by
  rw [← List.map_reverse, List.reverse_reverse, ← List.map_append, List.take_append_drop]
theorem si_own {mi : Nat → Nat → Option sm_I} (X : sm_cx p s m args meth c G L xs own cc maxL ret) (hext : sm_ext c hh) (I : sm_inv s G L xs maxL lo n0 t0 ls st σ H locs cells slots J) {d kind idx cn i n rt hn xf : Nat} (hk3 : kind < 3) (hop : sm_cop mi own kind idx [kind, cn, i, n, rt, hn, xf])
    (hd : decode cc pc = .ok (match kind with | 0 => .invokestatic idx | 1 => .invokevirtual idx | _ => .invokespecial idx, 3)) (hho : sm_hop own hh ps pc hn) (hΓ : ∀ c i as σ x τ, Γ c i as σ = some (x, τ) → am_le σ τ ∧ ∀ y w bytes mL rt hh, mi c i = some (y, w, bytes, mL, rt, hh) → sm_Met l d y w as σ (x, τ))
    (hsz : s.heap.size + 1 = G.1 + n0) (hR : d + 9 ≤ R.frames ∧ 60 * d + 460 ≤ R.locals) (hrm : sm_room R n0 t0 out) (hF : ∀ p ls st τ o, F p ls st τ = some o → am_le τ o.2)
    (hk : sm_K p l e R s m args below meth c (sm_Q below s G L xs n0 t0 out) G L xs maxL lo n0 t0 out F (.inr r) (pc + 3)) (hj : ∀ (k tgt : Nat), ps[k]? = some tgt → sm_K p l e R s m args below meth c (sm_Q below s G L xs n0 t0 out) G L xs maxL lo n0 t0 out F (.inl k) tgt)
    (h : am_inv Γ F [kind, cn, i, n, rt, hn, xf] r ls st σ = some out) : W p l e R s m args below meth c H locs cells slots (sm_Q below s G L xs n0 t0 out) (F0 m pc J (st.map (sm_v G))) := by
  have X9 := X
  obtain ⟨hx, hb, hre, hml, hown, hts, hlocks, hKn, hXs, hb1, hb2, hLL, hcst⟩ := X
  obtain ⟨c', i', n', rty', h', x', y, w, bytes, mL, rtt, hh', e1, e2, hcw, hwi, hway, hmL, hsig, ⟨rc, hrc, hrcy⟩, hk2⟩ := hop
  cases e1
  unfold am_inv at h
  dsimp only at h
  obtain ⟨h0, h1⟩ := iv_cd1 h
  simp only [Bool.and_eq_true, Nat.ble_eq] at h0
  obtain ⟨hnl, hwt⟩ := h0
  have hrest : ∀ v ∈ st.drop n, v ∈ st := fun v hv => List.mem_of_mem_drop hv
  have has : ∀ v ∈ (st.take n).reverse, v ∈ st := fun v hv => List.mem_of_mem_take (List.mem_reverse.mp hv)
  have hΓ' : ∀ x τ, Γ cn i (st.take n).reverse σ = some (x, τ) → am_le σ τ ∧ sm_Met l d y w (st.take n).reverse σ (x, τ) := fun x τ hg => ⟨(hΓ _ _ _ _ _ _ hg).1, (hΓ _ _ _ _ _ _ hg).2 _ _ _ _ _ _ e2⟩
  have hlen : (st.take n).reverse.length = n := by rw [List.length_reverse, List.length_take]; omega
  match kind, hk3 with
  | 0, _ =>
    refine si_own0 X9 hext I hcw hwi hway.2.1 hmL (fun T hT XT => ?_) hd hho hΓ' has hrest hwt hsz hR hrm hF hk hj h1
    exact sm_enS XT hx hown hts hcw hwi hway (g := F0 m pc J (st.map (sm_v G))) (argsL := (st.take n).reverse.map (sm_v G)) (rest := (st.drop n).map (sm_v G)) rfl (fun sig hs => by have := hsig sig hs; simp only [if_pos] at this; rw [List.length_map, hlen]; omega) (sm_take hnl) (by rw [hb]; exact hd)
  | 1, _ =>
    obtain ⟨a, rs, as', eas, hq, h2⟩ := iv_recv h1
    refine si_own0 X9 hext I hcw hwi hway.2.1 hmL (fun T hT XT => ?_) hd hho hΓ' has hrest hwt hsz hR hrm hF hk hj h2
    obtain ⟨ha, had, hwq⟩ := sm_cell I.1 hq (Or.inl (by show (0 : Nat) ≠ 1; omega))
    obtain ⟨rc', hrc', cell, g1, g2, g3, -⟩ := I.1.1 _ _ hwq
    have hKc := (hKn.1 cn rc hrc).2
    have hstk : st.map (sm_v G) = (as'.map (sm_v G)).reverse ++ Value.ref (sm_ad G a) :: (st.drop n).map (sm_v G) := by
      have e3 := sm_take (G := G) (st := st) (n := n) hnl
      rw [eas, List.map_cons, List.reverse_cons, List.append_assoc] at e3
      exact e3
    have hlen' : as'.length + 1 = n := by rw [← hlen, eas]; rfl
    have hen := sm_enV XT hx hown hts hcw hwi hway (b := sm_ad G a) (cellB := cell) (by rw [hT, had]; exact g1) (by rw [g3]; rfl) (by rw [← hrcy, g2]; exact hKc.1) (g := F0 m pc J (st.map (sm_v G))) (argsL := as'.map (sm_v G)) (rest := (st.drop n).map (sm_v G)) rfl (fun sig hs => by have := hsig sig hs; simp at this; rw [List.length_map]; omega) hstk (by rw [hb]; exact hd)
    rw [eas]
    exact hen
  | 2, _ =>
    obtain ⟨a, as', eas, h2⟩ := iv_rcv2 h1
    refine si_own0 X9 hext I hcw hwi hway.2.1 hmL (fun T hT XT => ?_) hd hho hΓ' has hrest hwt hsz hR hrm hF hk hj h2
    have hstk : st.map (sm_v G) = (as'.map (sm_v G)).reverse ++ Value.ref (sm_ad G a) :: (st.drop n).map (sm_v G) := by
      have e3 := sm_take (G := G) (st := st) (n := n) hnl
      rw [eas, List.map_cons, List.reverse_cons, List.append_assoc] at e3
      exact e3
    have hlen' : as'.length + 1 = n := by rw [← hlen, eas]; rfl
    have hen := sm_enI XT hx hown hts (bytes := bytes) (maxL := mL) (by rw [← hk2 rfl]; exact hwi) hway (b := sm_ad G a) (g := F0 m pc J (st.map (sm_v G))) (argsL := as'.map (sm_v G)) (rest := (st.drop n).map (sm_v G)) rfl (fun sig hs => by have := hsig sig hs; simp at this; rw [List.length_map]; omega) hstk (by rw [hb]; exact hd)
    rw [eas]
    exact hen
end
