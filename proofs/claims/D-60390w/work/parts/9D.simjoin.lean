/-! SIMULATION, 24: any instruction (but the exception's making and multianewarray, which stand apart) -/
/-- the operands of the instructions of parts 94 .. 9A -/
def sm_op2 (mi : Nat → Nat → Option sm_I) (own : String) (hh : List (Nat × Nat × Nat × Nat)) (ps : List Nat) (pc : Nat) (i : Instr) (o : List Nat) : Prop := match i with
  | .newarray at_ => ∃ t, o = [t] ∧ sm_nat at_ t ∧ Cond.arrayClass (newarray.typeOf at_) ∈ sm_tbl
  | .anewarray idx => (∃ t k C, o = [t] ∧ ((t = 10 ∧ k = 5 ∧ C = "java/lang/String") ∨ (t = 12 ∧ k = 6 ∧ C = "TowerComputer$Chip")) ∧ Cond.classLink own idx C ∈ sm_tbl ∧ Cond.arrayOver (.object C) ∈ sm_tbl) ∨
      (o = [11] ∧ Cond.classLink own idx (FieldType.array (.object "java/lang/String")).toString ∈ sm_tbl ∧ Cond.arrayOver (.array (.object "java/lang/String")) ∈ sm_tbl)
  | .new idx => ∃ cn rc, o = [cn] ∧ cn < 20 ∧ sm_cl[cn]? = some rc ∧ Cond.classLink own idx rc.1 ∈ sm_tbl ∧ Cond.instantiable rc.1 (am_sfs.getD cn 0) ∈ sm_tbl ∧ Cond.initialized rc.1 ∈ sm_tbl
  | .aastore => o = [10] ∨ (o = [11] ∧ Cond.arrayOver (.array (.object "java/lang/String")) ∈ sm_tbl) ∨ o = [12]
  | .athrow => ∀ x ∈ hh, ¬ (x.1 ≤ pc ∧ pc < x.2.1)
  | .multianewarray idx d => d = 2 ∧ o = [13, 1] ∧ Cond.classLink own idx "[[I" ∈ sm_tbl ∧ Cond.arrayOver (.array .int) ∈ sm_tbl ∧ Cond.arrayClass .int ∈ sm_tbl
  | .invokestatic idx => (∃ cn i n rt h x, o = [0, cn, i, n, rt, h, x] ∧ sm_cop mi own 0 idx o ∧ sm_hop own hh ps pc h) ∨ (o = [4, 0, 0, 2, 0, 0, 0] ∧ Cond.methodLink own idx Lib.Math.min.name ∈ sm_tbl) ∨ (o = [5, 0, 0, 2, 0, 0, 0] ∧ Cond.methodLink own idx Lib.Math.max.name ∈ sm_tbl)
  | .invokevirtual idx => (∃ cn i n rt h x, o = [1, cn, i, n, rt, h, x] ∧ sm_cop mi own 1 idx o ∧ sm_hop own hh ps pc h) ∨ (o = [6, 0, 0, 1, 0, 0, 0] ∧ Cond.methodLink own idx Lib.Str.length.name ∈ sm_tbl) ∨ (o = [7, 0, 0, 2, 0, 0, 0] ∧ Cond.methodLink own idx Lib.Str.charAt.name ∈ sm_tbl)
  | .invokespecial idx => (∃ cn i n rt h x, o = [2, cn, i, n, rt, h, x] ∧ sm_cop mi own 2 idx o ∧ sm_hop own hh ps pc h) ∨ (o = [3, 0, 0, 1, 0, 0, 0] ∧ Cond.methodLink own idx Lib.objectInit ∈ sm_tbl)
  | _ => True
section
variable {p : Program} {l : Launch} {e : Env} {R : Room} {s : State} {m : MethodId} {args : Array Value} {below : List Frame} {meth : Method} {c : Code} {Q : State → Prop}
variable {G : sm_G} {L : Nat} {xs : Nat → Int32} {own : String} {cc : ByteArray} {maxL : Nat} {ret : Option FieldType} {lo : Bool} {n0 t0 : Nat} {out : am_O} {F : am_F} {Γ : am_G}
variable {ls : List (Option am_V)} {st : List am_V} {σ : am_S} {H : Heap} {locs : List Loc} {cells slots pc len : Nat} {J : Array Slot} {r : List am_A} {o : List Nat} {hh : List (Nat × Nat × Nat × Nat)} {ps : List Nat}
/-- what AM asks ahead of a call -/
theorem iv_inv {kind cn i n rt hn xf : Nat} (h : am_inv Γ F [kind, cn, i, n, rt, hn, xf] r ls st σ = some out) : n ≤ st.length ∧ am_wt (st.drop n) ≤ 8 := by
  unfold am_inv at h
  dsimp only at h
  obtain ⟨h0, -⟩ := iv_cd1 h
  simp only [Bool.and_eq_true, Nat.ble_eq] at h0
  exact h0
theorem sm_step2 {mi : Nat → Nat → Option sm_I} {nm : String} {d : Nat} (X : sm_cx p s m args meth c G L xs own cc maxL ret) (hext : sm_ext c hh) (hnm : meth.name = nm) {i : Instr} (hd : decode cc pc = .ok (i, len)) (hlen : ∀ n, sm_len i = some n → len = n) (hop : sm_op mi own nm lo ret ps pc i o) (hop2 : sm_op2 mi own hh ps pc i o)
    (hΓ : ∀ c i as σ x τ, Γ c i as σ = some (x, τ) → am_le σ τ ∧ ∀ y w bytes mL rt hh, mi c i = some (y, w, bytes, mL, rt, hh) → sm_Met l d y w as σ (x, τ)) (hsz : s.heap.size + 1 = G.1 + n0) (hR : d + 9 ≤ R.frames ∧ 60 * d + 460 ≤ R.locals) (hrm : sm_room R n0 t0 out) (hF : ∀ p ls st τ o, F p ls st τ = some o → am_le τ o.2)
    (hk : sm_K p l e R s m args below meth c (sm_Q below s G L xs n0 t0 out) G L xs maxL lo n0 t0 out F (.inr r) (pc + len)) (hj : ∀ (k tgt : Nat), ps[k]? = some tgt → sm_K p l e R s m args below meth c (sm_Q below s G L xs n0 t0 out) G L xs maxL lo n0 t0 out F (.inl k) tgt)
    (I : sm_inv s G L xs maxL lo n0 t0 ls st σ H locs cells slots J) (hi0 : i ≠ .nop) (h : am_ins Γ F i o r ls st σ = some out) : W p l e R s m args below meth c H locs cells slots (sm_Q below s G L xs n0 t0 out) (F0 m pc J (st.map (sm_v G))) := by
  have hmo : am_le σ out.2 := mo_ins (fun c i as τ o hg => (hΓ c i as τ o.1 o.2 hg).1) hF h
  have hro : cells ≤ R.cells ∧ slots ≤ R.slots := hrm.use hmo I.2.2.2.2.1 I.2.2.2.2.2
  by_cases hlt : sm_later i o
  · cases i
    case newarray at_ =>
      obtain rfl : len = 2 := hlen 2 rfl
      obtain ⟨t, rfl, h1, h2⟩ := hop2
      exact si_newa X hsz hrm hF h1 h2 hd hk I h
    case anewarray idx =>
      obtain rfl : len = 3 := hlen 3 rfl
      rcases hop2 with ⟨t, k, C, rfl, h1, h2, h3⟩ | ⟨rfl, h2, h3⟩
      · rcases h1 with ⟨rfl, rfl, rfl⟩ | ⟨rfl, rfl, rfl⟩
        · exact si_anew (k0 := 5) X hsz hrm hF (by omega) rfl h2 h3 hd hk I h
        · exact si_anew (k0 := 6) X hsz hrm hF (by omega) rfl h2 h3 hd hk I h
      · exact si_anewA (k0 := 7) X hsz hrm hF (by omega) rfl h2 h3 hd hk I h
    case new idx =>
      obtain rfl : len = 3 := hlen 3 rfl
      obtain ⟨cn, rc, rfl, h1, h2, h3, h4, h5⟩ := hop2
      exact si_new X hsz hrm hF (by omega) h2 h3 h4 h5 hd hk I h
    case aastore =>
      obtain rfl : len = 1 := hlen 1 rfl
      rcases hop2 with rfl | ⟨rfl, h1⟩ | rfl
      · exact si_aast X (Or.inl rfl) hd hk I h
      · exact si_aast X (Or.inr (Or.inl ⟨rfl, h1⟩)) hd hk I h
      · exact si_aast X (Or.inr (Or.inr rfl)) hd hk I h
    case athrow =>
      obtain rfl : len = 1 := hlen 1 rfl
      exact si_athrow X hext hop2 hd I h
    case multianewarray idx dd =>
      obtain rfl : len = 4 := hlen 4 rfl
      obtain ⟨rfl, rfl, h1, h2, h3⟩ := hop2
      exact si_multi X hsz hrm hF h1 h2 h3 hd hk I h
    case invokestatic idx =>
      obtain rfl : len = 3 := hlen 3 rfl
      rcases hop2 with ⟨cn, i, n, rt, hn, x, rfl, h1, h2⟩ | ⟨rfl, h1⟩ | ⟨rfl, h1⟩
      · exact si_own X hext I (by omega) h1 hd h2 hΓ hsz hR hrm hF hk hj h
      · obtain ⟨g1, g2⟩ := iv_inv (show am_inv Γ F [4, 0, 0, 2, 0, 0, 0] r ls st σ = some out from h)
        exact si_min X h1 ⟨by omega, by omega⟩ hro hd hk I g2 (iv_cd1 h).2
      · obtain ⟨g1, g2⟩ := iv_inv (show am_inv Γ F [5, 0, 0, 2, 0, 0, 0] r ls st σ = some out from h)
        exact si_max X h1 ⟨by omega, by omega⟩ hro hd hk I g2 (iv_cd1 h).2
    case invokevirtual idx =>
      obtain rfl : len = 3 := hlen 3 rfl
      rcases hop2 with ⟨cn, i, n, rt, hn, x, rfl, h1, h2⟩ | ⟨rfl, h1⟩ | ⟨rfl, h1⟩
      · exact si_own X hext I (by omega) h1 hd h2 hΓ hsz hR hrm hF hk hj h
      · obtain ⟨g1, g2⟩ := iv_inv (show am_inv Γ F [6, 0, 0, 1, 0, 0, 0] r ls st σ = some out from h)
        exact si_slen X h1 ⟨by omega, by omega⟩ hro hd hk I g2 (iv_cd1 h).2
      · obtain ⟨g1, g2⟩ := iv_inv (show am_inv Γ F [7, 0, 0, 2, 0, 0, 0] r ls st σ = some out from h)
        exact si_schr X h1 ⟨by omega, by omega⟩ hro hd hk I g2 (iv_cd1 h).2
    case invokespecial idx =>
      obtain rfl : len = 3 := hlen 3 rfl
      rcases hop2 with ⟨cn, i, n, rt, hn, x, rfl, h1, h2⟩ | ⟨rfl, h1⟩
      · exact si_own X hext I (by omega) h1 hd h2 hΓ hsz hR hrm hF hk hj h
      · obtain ⟨g1, g2⟩ := iv_inv (show am_inv Γ F [3, 0, 0, 1, 0, 0, 0] r ls st σ = some out from h)
        exact si_oinit X h1 ⟨by omega, by omega⟩ hd hk I g2 (iv_cd1 h).2
    all_goals exact hlt.elim
  · exact sm_step1 X hnm hd hlen hop hlt hk hj I hi0 h
end
