/-! SIMULATION, 26: a method keeps its contract -/
theorem sm_nol {as : List am_V} (h : as.all am_nol = true) : ∀ v ∈ as, ∀ x, v ≠ am_l x := by
  intro v hv x e
  have := List.all_eq_true.mp h v hv
  rw [e] at this
  cases this
theorem sm_lg_sl {vs : List Value} (h : ∀ v ∈ vs, v.category = 1) : lg_sl vs = vs.map Slot.val := by
  induction vs with
  | nil => rfl
  | cons v r ih =>
    have h1 : ¬ v.category = 2 := by rw [h v List.mem_cons_self]; decide
    have e : lg_sl (v :: r) = (if v.category = 2 then [Slot.val v, Slot.second] else [Slot.val v]) ++ lg_sl r := List.flatMap_cons
    rw [e, if_neg h1, ih (fun w hw => h w (List.mem_cons_of_mem _ hw))]
    rfl
theorem sm_ent_at {n i : Nat} {as : List am_V} {v : am_V} (h : (am_ent n as)[i]? = some (some v)) : as[i]? = some v := by
  unfold am_ent at h
  by_cases hi : i < as.length
  · rw [List.getElem?_append_left (by rw [List.length_map]; exact hi), List.getElem?_map] at h
    cases e : as[i]? with
    | none => rw [e] at h; cases h
    | some w => rw [e] at h; exact Option.some.inj h
  · rw [List.getElem?_append_right (by rw [List.length_map]; omega), List.getElem?_replicate] at h
    split at h <;> cases h
theorem sm_ent_ls {G : sm_G} {n : Nat} {lo : Bool} {as : List am_V} (hl : as.length ≤ n) (hr : ∀ v ∈ as, sm_rg v) (hn : as.all am_nol = true) : sm_ls G n lo (am_ent n as) (((as.map (sm_v G)).map Slot.val ++ List.replicate (n - (as.map (sm_v G)).length) Slot.unset).toArray) := by
  have hcat : ∀ v ∈ as.map (sm_v G), v.category = 1 := by
    intro v hv
    obtain ⟨w, hw, rfl⟩ := List.mem_map.mp hv
    exact sm_cat1 (sm_nol hn w hw)
  have h1 := lv_entry (as.map (sm_v G)) (n := n) (by rw [sm_lg_sl hcat, List.length_map, List.length_map]; exact hl)
  rw [sm_lg_sl hcat, List.length_map] at h1
  have hmem : ∀ v, some v ∈ am_ent n as → v ∈ as := by
    intro v hv
    obtain ⟨i, hi⟩ := List.mem_iff_getElem?.mp hv
    exact List.mem_of_getElem? (sm_ent_at hi)
  refine ⟨⟨h1.1, h1.2.1, fun q hq => ?_⟩, ?_, fun v hv => hr v (hmem v hv), fun _ v hv => sm_nol hn v (hmem v hv)⟩
  · obtain ⟨j, v, hj, rfl⟩ := (sm_prs_mem G _ 0 q).mp hq
    have hj' := sm_ent_at hj
    have hlt : j < as.length := (List.getElem?_eq_some_iff.mp hj').1
    show (_ : List Slot).toArray[0 + j]? = _
    rw [Nat.zero_add, List.getElem?_toArray, List.getElem?_append_left (by rw [List.length_map, List.length_map]; exact hlt), List.getElem?_map, List.getElem?_map, hj']
    rfl
  · unfold am_ent
    rw [List.length_append, List.length_map, List.length_replicate]; omega
theorem sm_met {l : Launch} {Γ : am_G} {mi : Nat → Nat → Option sm_I} {y : MethodName} {w : Cond} {cc : ByteArray} {maxL d : Nat} {ret : Option FieldType} {hh : List (Nat × Nat × Nat × Nat)} {ps : List Nat} {bl : List am_B} {qss : List (List (Option Nat))} {lo : Bool} (htr : ∀ e : Env, l.admits e → e.platform.stackTraces = false) (hcw : sm_cw y w cc maxL ret hh) (hpl : plainName y.cls = true)
    (hp0 : ps[0]? = some 0) (hps : ∀ (k pc : Nat) (b : am_B), ps[k]? = some pc → bl[k]? = some b → ∃ qs, qss[k]? = some qs ∧ qs[0]? = some (some pc)) (hone : ∀ (k : Nat) (b : am_B) (qs : List (Option Nat)), bl[k]? = some b → qss[k]? = some qs → ∀ n, sm_one mi y.cls y.name lo ret hh ps cc b.2 qs n)
    (hΓ : ∀ c i as σ x τ, Γ c i as σ = some (x, τ) → am_le σ τ ∧ ∀ y w bytes mL rt hh, mi c i = some (y, w, bytes, mL, rt, hh) → sm_Met l d y w as σ (x, τ))
    {as : List am_V} {σ τ : am_S} {x : Option am_V ⊕ Nat} {fuel : Nat} (hl : as.length ≤ maxL) (hn : as.all am_nol = true) (h : am_run Γ bl fuel (.inl 0) (am_ent maxL as) [] σ = some (x, τ)) : sm_Met l (d + 1) y w as σ (x, τ) := by
  intro G L xs
  refine MetFree.of_bodyS (code := cc) (maxLocals := maxL) (ret := ret) hpl ?_ ?_
  · intro args s m hpre hnm
    obtain ⟨meth, c, h1, h2, h3, h4, h5, h6, -⟩ := sm_cw_spec hcw hnm (atoms_spec (ws := [w]) hpre w List.mem_cons_self)
    exact ⟨meth, c, h1, h2, h3, h4, h5, h6⟩
  · intro p e s m args below meth c s₁ B hml hP _
    obtain ⟨rfl, hrg, hp1, hp2, hp3, hp4, hp5, hp6, hp7, hp8⟩ := hP
    have hS0 := Stand.of_body B
    have hpos := hp8.pos
    have hext : sm_ext c hh := by
      obtain ⟨meth', c', h1, h2, h3, h4, h5, h6, h7, -⟩ := sm_cw_spec hcw B.named (atoms_spec (ws := [w]) B.pre w List.mem_cons_self)
      cases B.method.symm.trans h1
      cases hS0.code.symm.trans h2
      exact h7
    have X : sm_cx p s m (as.map (sm_v G)).toArray meth c G L xs y.cls cc maxL ret :=
      ⟨B.exec, B.bytes, B.returns, hml, findClass_of_methodNamed B.named, sm_warm (s := s) (U := s) (State.WarmedH.refl s) hp1, B.notSynchronized, hp2, hp3, hp4, by omega, hp6, hp7⟩
    have Inv : sm_inv s G L xs maxL lo σ.1.length (am_tot σ.1) (am_ent maxL as) [] σ s.heap [] 0 0 (((as.map (sm_v G)).map Slot.val ++ List.replicate (maxL - (as.map (sm_v G)).length) Slot.unset).toArray) :=
      ⟨hp8, ⟨Nat.le_refl _, fun _ _ _ => rfl, fun _ hq => by cases hq⟩, sm_ent_ls hl hrg hn, fun v hv => (by cases hv), by omega, by omega⟩
    obtain ⟨w1, -⟩ := sm_walk (below := below) (n0 := σ.1.length) (t0 := am_tot σ.1) (out := (x, τ)) (R := (headSpec [w] (sm_rm (d + 1) σ (x, τ))).room) X (htr e B.admits) hext (name_of_methodNamed B.named B.method).1 hΓ hp5 ⟨by show d + 9 ≤ d + 1 + 8; omega, by show 60 * d + 460 ≤ 60 * (d + 1) + 400; omega⟩
      ⟨by show τ.1.length ≤ τ.1.length - σ.1.length + σ.1.length; omega, by show am_tot τ.1 ≤ am_tot τ.1 - am_tot σ.1 + am_tot σ.1; omega⟩ hps hone fuel
    obtain ⟨t, t1, o, b1, b2, b3, b4, b5, b6, Lc, b7, b8⟩ := w1 0 0 hp0 _ _ _ _ _ _ _ _ Inv h s₁ (by rw [B.state]; rfl) hS0
    refine ⟨t, o, ?_, b1, b2, b3, b4, b5, Lc, ⟨b6, b7⟩, b8⟩
    have hcat : ∀ v ∈ as.map (sm_v G), v.category = 1 := by
      intro v hv
      obtain ⟨w, hw, rfl⟩ := List.mem_map.mp hv
      exact sm_cat1 (sm_nol hn w hw)
    rw [entry_eq m _ hcat]
    exact t1
