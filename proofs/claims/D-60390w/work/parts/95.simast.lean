/-! SIMULATION, 16: a reference into an array -/
section
variable {p : Program} {l : Launch} {e : Env} {R : Room} {s : State} {m : MethodId} {args : Array Value} {below : List Frame} {meth : Method} {c : Code} {Q : State → Prop}
variable {G : sm_G} {L : Nat} {xs : Nat → Int32} {own : String} {cc : ByteArray} {maxL : Nat} {ret : Option FieldType} {lo : Bool} {n0 t0 : Nat} {out : am_O} {F : am_F} {Γ : am_G}
variable {ls : List (Option am_V)} {st : List am_V} {σ : am_S} {H : Heap} {locs : List Loc} {cells slots pc len : Nat} {J : Array Slot} {r : List am_A} {o : List Nat}
theorem si_astT {D : va_G} {cl : List vw_C} {ws : va_W} {A : Nat → Prop} {H0 : Heap} {a : Nat} {rest : List Value} (hexec : p.tables.exec = Jvm.exec) (hb : c.code = cc) (hP : va_P D cl ws H) (hD : va_D A ws) (hS : va_S A H0 H locs) (q0 : Nat) {cA : ClassId} {n v : Nat} {f : Nat → Option Nat} (ha : ws[q0]? = some (a, .inl (cA, n, .inr (.inr (.inr (.inr f))))))
    {kA kE kC : Class} {comp : ClassId} {ty : FieldType} (k1 : s.vm.classes[cA]? = some kA) (k2 : kA.kind = .array comp ty) (href : ty.isReference = true) (hkE : s.vm.classes[comp]? = some kE) {cellV : Cell} (g1 : H[v]? = some cellV) (g3 : cellV.vm.isStatics = false) (hkC : s.vm.classes[cellV.cls]? = some kC) (hasg : s.vm.assignable cellV.cls comp = true) {i : Int32} (hin : vp_in i n) (hdg : decode cc pc = .ok (.aastore, 1))
    (kk : ∀ (H1 : Heap) (locs1 : List Loc), va_P D cl (ws.set q0 (a, .inl (cA, n, .inr (.inr (.inr (.inr (va_up f i.toNatClampNeg (some v)))))))) H1 → va_S A H0 H1 locs1 → W p l e R s m args below meth c H1 locs1 cells slots Q (F0 m (pc + 1) J rest)) : W p l e R s m args below meth c H locs cells slots Q (F0 m pc J (.ref v :: .int i :: .ref a :: rest)) := by
  have hlt : i.toNatClampNeg < n := Nat.not_le.mp fun q => hin (Or.inr q)
  have h0 : ¬ i < 0 := fun q => hin (Or.inl q)
  refine W.aast hexec hb (hP q0 _ ha) (fun q h => by cases h) (fun h => by cases h) k1 k2 href hkE ⟨h0, by show _ < (arrV _ _ _).slots.size; rw [arrV_size]; exact hlt⟩ g1 (fun q h => by rw [h] at g3; cases g3) hkC hasg rfl rfl hdg fun H1 e z oq => ?_
  refine kk H1 _ (hP.set hD ha ?_ oq) (hS.put z oq (hD.2 q0 _ ha))
  show H1[a]? = some (vp_cell _ _)
  rw [e]
  rw [vp_cell_q, vp_cell_q, arrV_store]
  congr 2
  funext q
  unfold updV va_up
  split <;> rfl
theorem sm_rs_up {rs : List am_R} {k : Nat} {Y : am_R} {v : Nat} (hk : k < rs.length) (hY : sm_co G Y = some v) : (fun j => sm_co G ((rs.set k Y).getD j am_n)) = va_up (fun j => sm_co G (rs.getD j am_n)) k (some v) := by
  funext j
  unfold va_up
  rw [List.getD_eq_getElem?_getD, List.getElem?_set]
  by_cases e : k = j
  · rw [if_pos e, if_pos hk, if_pos e.symm]; exact hY
  · rw [if_neg e, if_neg (fun z => e z.symm)]; simp only [List.getD_eq_getElem?_getD]
theorem si_aast (X : sm_cx p s m args meth c G L xs own cc maxL ret) {t : Nat} (hop : t = 10 ∨ (t = 11 ∧ Cond.arrayOver (.array (.object "java/lang/String")) ∈ sm_tbl) ∨ t = 12) (hd : decode cc pc = .ok (.aastore, 1)) (hk : sm_K p l e R s m args below meth c Q G L xs maxL lo n0 t0 out F (.inr r) (pc + 1)) (I : sm_inv s G L xs maxL lo n0 t0 ls st σ H locs cells slots J)
    (h : am_pr st (fun Y st => am_p1 st fun x st => am_pr st fun X st => am_arr σ X t fun a n rs => am_idx x n fun k => am_fit σ t Y (F (.inr r) ls st (σ.1.set a (t, n, rs.set k Y), σ.2))) = some out) : W p l e R s m args below meth c H locs cells slots Q (F0 m pc J (st.map (sm_v G))) := by
  obtain ⟨hx, hb, hre, hml, hown, hts, hlocks, hKn, hXs, hb1, hb2, hLL, hcst⟩ := X
  obtain ⟨Y, s1, rfl, h1⟩ := iv_pr h
  obtain ⟨x, s2, rfl, h2⟩ := iv_p1 h1
  obtain ⟨Z, s3, rfl, h3⟩ := iv_pr h2
  obtain ⟨a, n, rs, rfl, hq, h4⟩ := iv_arr h3
  obtain ⟨hxi, h5⟩ := iv_idx h4
  have ht : 10 ≤ t := by rcases hop with rfl | ⟨rfl, -⟩ | rfl <;> omega
  have hn := sm_nlt I.1 hq (by omega)
  obtain ⟨hin, hcl⟩ := sm_in hxi hn
  obtain ⟨ha, had, hw⟩ := sm_cell I.1 hq (Or.inl (by show t ≠ 1; omega))
  have hw0 := hw
  rw [sm_entR G σ.2 a ht] at hw
  have hrl : rs.length = n := (I.1.2.2.2 a _ hq).1.2.2 ht
  have hlt : x.toNat < rs.length := by omega
  have fin : ∀ v : Nat, sm_co G Y = some v → F (.inr r) ls s3 (σ.1.set a (t, n, rs.set x.toNat Y), σ.2) = some out → ∀ (H1 : Heap) (locs1 : List Loc), va_P G.2.2.2.1 sm_cl ((sm_ws G σ).set (a - 1) (G.1 + (a - 1), .inl (G.2.2.2.2 t, n, .inr (.inr (.inr (.inr (va_up (fun k => sm_co G (rs.getD k am_n)) (Int32.ofInt x).toNatClampNeg (some v)))))))) H1 → va_S (sm_A G) s.heap H1 locs1 → W p l e R s m args below meth c H1 locs1 cells slots Q (F0 m (pc + 1) J (s3.map (sm_v G))) := by
    intro v hv h6 H1 locs1 hP hS1
    refine hk _ _ _ _ _ _ _ _ (I.heap (σ' := (σ.1.set a (t, n, rs.set x.toNat Y), σ.2)) (I.1.refs (rs' := rs.set x.toNat Y) ha hq (by simp) ?_) hS1 (by simp) (am_tot_set hq rfl) (st' := s3) (fun v hv => by simp [hv])) h6
    rw [sm_entR G σ.2 a ht, sm_rs_up hlt hv, ← hcl]
    exact hP
  rcases hop with rfl | ⟨rfl, hov⟩ | rfl
  · obtain ⟨j, rfl, h6⟩ := iv_ct (show am_ct Y (fun j => cond (Nat.blt j am_ns) _ none) = some out from h5)
    obtain ⟨h7, h8⟩ := iv_cd1 h6
    simp only [Nat.blt_eq] at h7
    obtain ⟨cellV, g1, g2, g3, g4⟩ := (hcst.2.1 j h7).1
    obtain ⟨kA, comp, k1, k2, k3, -⟩ := (hKn.2 5 _ rfl).2
    obtain ⟨kE, hkE, -⟩ := Vm.findClass_spec k3
    have hce : cellV.cls = comp := Option.some.inj (g3.symm.trans k3)
    have g1' : H[G.2.2.1 j]? = some cellV := by rw [I.2.1.2.1 _ (Array.getElem?_eq_some_iff.mp g1).1 g4]; exact g1
    show W p l e R s m args below meth c H locs cells slots Q (F0 m pc J (Value.ref (G.2.2.1 j) :: Value.int (Int32.ofInt x) :: Value.ref (sm_ad G a) :: s3.map (sm_v G)))
    rw [had]
    exact si_astT hx hb I.1.1 (sm_ws_D G σ) I.2.1 (a - 1) hw k1 k2 rfl hkE g1' g2 (by rw [hce]; exact hkE) (by rw [hce]; exact va_asg _ _) hin hd (fin _ rfl h8)
  · obtain ⟨b, n', rs', rfl, hq', h6⟩ := iv_arr (show am_arr σ Y 10 (fun _ _ _ => _) = some out from h5)
    obtain ⟨hb0, hbd, hwb⟩ := sm_cell I.1 hq' (Or.inl (by show (10 : Nat) ≠ 1; omega))
    rw [sm_entR G σ.2 b (by omega)] at hwb
    have g1 : H[G.1 + (b - 1)]? = some (vp_cell (G.2.2.2.2 10) (n', .inr (.inr (.inr (.inr fun k => sm_co G (rs'.getD k am_n)))))) := I.1.1 _ _ hwb
    obtain ⟨comp, cA, kA, q1, -, q3, q4, q5⟩ := arrayOverA_spec (hts _ hov)
    have hcA : cA = G.2.2.2.2 11 := Option.some.inj (q5.symm.trans (hKn.2 7 _ rfl).2)
    subst hcA
    obtain ⟨kE, hkE, -⟩ := Vm.findClass_spec q1
    have hco : comp = G.2.2.2.2 10 := by
      obtain ⟨kA5, comp5, k1, k2, k3, k4⟩ := (hKn.2 5 _ rfl).2
      exact Option.some.inj (q1.symm.trans k4)
    subst hco
    show W p l e R s m args below meth c H locs cells slots Q (F0 m pc J (Value.ref (sm_ad G b) :: Value.int (Int32.ofInt x) :: Value.ref (sm_ad G a) :: s3.map (sm_v G)))
    rw [had, hbd]
    rw [vp_cell_q] at g1
    exact si_astT hx hb I.1.1 (sm_ws_D G σ) I.2.1 (a - 1) hw q3 q4 rfl hkE g1 rfl hkE (va_asg _ _) hin hd (fin _ (by show some (sm_ad G b) = _; rw [hbd]) h6)
  · obtain ⟨b, rs', rfl, hq', h6⟩ := iv_obj (show am_obj σ Y 3 (fun _ _ => _) = some out from h5)
    obtain ⟨hb0, hbd, hwb⟩ := sm_cell I.1 hq' (Or.inl (by show (0 : Nat) ≠ 1; omega))
    obtain ⟨rc, hrc, cellV, g1, g2, g3, -⟩ := I.1.1 _ _ hwb
    cases hrc
    have hKc := (hKn.1 3 _ rfl).2
    obtain ⟨kA, comp, k1, k2, k3, -⟩ := (hKn.2 6 _ rfl).2
    obtain ⟨kE, hkE, -⟩ := Vm.findClass_spec k3
    have hce : cellV.cls = comp := by rw [g2]; exact Option.some.inj (hKc.1.symm.trans k3)
    show W p l e R s m args below meth c H locs cells slots Q (F0 m pc J (Value.ref (sm_ad G b) :: Value.int (Int32.ofInt x) :: Value.ref (sm_ad G a) :: s3.map (sm_v G)))
    rw [had, hbd]
    exact si_astT hx hb I.1.1 (sm_ws_D G σ) I.2.1 (a - 1) hw k1 k2 rfl hkE g1 (by rw [g3]; rfl) (by rw [hce]; exact hkE) (by rw [hce]; exact va_asg _ _) hin hd (fin _ (by show some (sm_ad G b) = _; rw [hbd]) h6)
end
