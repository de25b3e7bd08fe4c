/-! LOAD, 3: every item is of its kind -/
section
variable {K P V sc ss t : Nat → Int} {cs : Nat → Nat} {gv : Nat → Nat} {n : Nat} {g0 c0 : am_H} {p : pr_S} {S : mi_S} {c' : ce_S} {f : Nat → List (Int × Int × Int)} {a : Nat → Nat × List Nat}
/-- what stands behind a load, on both sides, but for places -/
def LDX (K P V sc ss t : Nat → Int) (cs gv : Nat → Nat) (n : Nat) (g0 c0 : am_H) (p : pr_S) (S : mi_S) (c' : ce_S) (f : Nat → List (Int × Int × Int)) (a : Nat → Nat × List Nat) : Prop :=
  ENDF K P V sc ss cs 49 4 1572 152 c0 p S c' f a ∧ MV K P V sc ss t n S.1 g0 ∧ noN K P V sc ss S.1 S.1 ∧ SKv c0 ∧ SYn cs S.1 ∧ TXF K P V t n c0 ∧ (∀ q, q < 8 → 0 ≤ S.1 297 q ∧ S.1 297 q ≤ S.1 297 (q + 1)) ∧ (∀ u, u < p.1 3 → gv (49 + u) = (S.1 267 u).toNat + (if S.1 264 u = 3 then 1 else 0)) ∧ (p.1 9 = 0 ∨ p.1 9 = 3) ∧ p.1 8 ≤ 300 ∧ ∀ k, p.2.2.2 k ≤ 2100
theorem str_cl {fr m : Nat} : ∀ j c : Nat, ((List.range m).map (fun j => (c0 3 (fr + (0 + j))).toNat))[j]? = some c → j < m ∧ c = (c0 3 (fr + j)).toNat := by
  intro j c h
  rw [List.getElem?_map] at h
  by_cases hj : j < m
  · rw [List.getElem?_range hj] at h
    cases h
    exact ⟨hj, by show (c0 3 (fr + (0 + j))).toNat = _; rw [Nat.zero_add]⟩
  · rw [List.getElem?_eq_none (by rw [List.length_range]; omega)] at h
    cases h
theorem kd0 (X : LDX K P V sc ss t cs gv n g0 c0 p S c' f a) {k N : Nat} (hN : S.1 254 33 = (N : Int)) (hk : k < N) : ∃ s : Nat, s < p.1 3 ∧ S.1 281 k = (s : Int) ∧ KD0 gv g0 a P (fun k => frs S.1 k = true) (fun k => (f k).map cvl) N (p.1 3) k s ((f k).map cvl) := by
  obtain ⟨⟨⟨LI, IFs, VRS, SBs⟩, ⟨FRs, JDs, WIs, SUs, CLs, NEs⟩, ⟨bt, cur, CIs, AIs⟩, Rv, Rm, pl0⟩, MVs, NN, Sk, Sy, TX, h297, hgv, h9x, h8x, hw⟩ := X
  have h9 : p.1 9 ≠ 6 := by omega
  obtain ⟨mv1, mv2, mv3, mv4, mv5, mv6, -⟩ := MVs
  obtain ⟨-, -, -, noi, nok⟩ := NN
  obtain ⟨tx1, tx2, tx3, tx4⟩ := TX
  have h14 : 0 ≤ S.1 254 14 := Rv.1.1.1
  have h17 : S.1 254 17 = (p.1 3 : Int) := Rv.2.1.2.1
  have h25 : S.1 254 25 ≤ 1050 := by have := Rm.2.2.1; have := hw 2; omega
  have h39 : S.1 254 39 ≤ 525 := by have := Rm.2.1; have := hw 1; omega
  have hN5 : N ≤ 2100 := by have := Rm.1; have := hw 0; omega
  have hk' : (k : Int) < S.1 254 33 := by omega
  obtain ⟨⟨sb1, sb2⟩, sb3, sb4, -, -⟩ := SBs k hk'
  have ifr := IFs k hk'
  obtain ⟨⟨i1, i2, i3⟩, i4, i5, i6, i7, i8, i9, i10⟩ := ifr
  have i1 : 0 ≤ S.1 277 k := i1
  have i2 : S.1 277 k ≤ 20 := i2
  have i3 : S.1 277 k ≠ 2 := i3
  have at1 := AIs.2.1 k hk'
  have ab := AIs.2.2.1
  have pv := CIs.2.1 k hk'
  obtain ⟨A0, A5, A7, A9, A10, A11, A12, A13, A14, A16, A17, A18, A20⟩ := at1
  have hs0 : S.1 281 k = ((S.1 281 k).toNat : Int) := (Int.toNat_of_nonneg sb1).symm
  obtain ⟨s, hs⟩ : ∃ s : Nat, S.1 281 k = (s : Int) := ⟨(S.1 281 k).toNat, hs0⟩
  have hsn : s < p.1 3 := by omega
  refine ⟨s, hsn, hs, ?_⟩
  have m277 : g0 277 = S.1 277 := mv1 277 (by omega)
  have m264 : g0 264 = S.1 264 := mv1 264 (by omega)
  have m281 : g0 281 = S.1 281 := mv1 281 (by omega)
  have m297 : g0 297 = S.1 297 := mv1 297 (by omega)
  have MM : ∀ c, c = 264 ∨ c = 267 ∨ c = 268 ∨ c = 272 ∨ c = 275 ∨ c = 276 → g0 c = S.1 c := fun c hc => mv1 c (by omega)
  have m278 : S.1 277 k ≠ 4 → S.1 277 k ≠ 13 → g0 278 k = S.1 278 k := fun h1 h2 => by rw [mv2 k hk', if_neg (by omega)]
  have frk : frd (S.1 277 k) = true → frs S.1 k = true := FRs.2 k hk'
  have frn' : ∀ j, frs S.1 (j + 1) = frn (S.1 277 j) (frs S.1 j) := fun _ => rfl
  have pvS : S.1 277 k ≠ 15 ∧ S.1 277 k ≠ 16 ∧ S.1 277 k ≠ 17 ∧ S.1 277 k ≠ 20 → f k = vS K P V sc ss cs 49 4 c0 S.1 k := pv.1
  -- labels are small
  have labr : ∀ j, j < N → ∀ y : Int, ((11 : Int), y, (0 : Int)) ∈ f j → (152 : Int) ≤ y ∧ y ≤ 32000 := by
    intro j hj y hy
    have lb := CIs.2.2.1
    have e1 : y ∈ lbs (tU (vH 49 c0 S.1) f (S.1 269) (hq p) (S.1 254 33).toNat) ++ opl p.2.1 c'.2.2.2.2.2.2 := by
      rw [List.mem_append]
      left
      obtain ⟨⟨st1, st2⟩, -, st4, st5, st6⟩ := SBs j (by omega)
      have hs2 : (S.1 281 j).toNat < hq p := st4
      obtain ⟨r, er⟩ := tU_item (hd := vH 49 c0 S.1) (it := f) (fi := S.1 269) (N := N) (n3 := hq p) (s := (S.1 281 j).toNat) (k := j) hs2 (by omega) (by
        unfold sbE
        split
        · rename_i z
          have := st6 _ z (by omega)
          omega
        · exact hj)
      rw [hN, Int.toNat_natCast, er, lbs_app, lbs_app]
      refine List.mem_append_left _ (List.mem_append_right _ ?_)
      unfold lbs
      rw [List.mem_filterMap]
      exact ⟨_, hy, rfl⟩
    have := lb.2.1 y e1
    have w := lb.2.2.2
    rw [pl0] at w
    have w : 2 * (c'.1 8 4 - ((152 : Nat) : Int)) ≤ (p.2.2.2 6 : Int) + ((0 : Nat) : Int) := w
    have := hw 6
    omega
  -- goals of jumps
  have jmp : S.1 277 k = 15 ∨ S.1 277 k = 16 → ∃ t y : Nat, ((∃ x : Nat, (f k).map cvl = [(13, x, 0), (12, y, 0), (11, x, 0)]) ∨ S.1 277 k = 16 ∧ (f k).map cvl = [(12, y, 0)]) ∧ S.1 278 k = (t : Int) ∧ t < 5000 ∧ S.1 277 t = 20 ∧ t + 1 < N ∧ S.1 281 t = (s : Int) ∧ S.1 281 (t + 1) = (s : Int) ∧ (f t).map cvl = [(11, y, 0)] ∧ a (t + 1) = (0, (a k).2) ∧ frs S.1 (t + 1) = false ∧ (k < t + 1 ∨ S.1 277 k = 16 ∧ S.1 277 (t + 1) = 17) := by
    intro hj
    have nh : ¬ k ∈ hol p.2.1 S.2.2.2.1 := by rw [pl0]; intro z; cases z
    rcases CIs.2.2.2.2 k hk' hj with z | ⟨y, J1, ⟨J2, J3⟩, J4, J5⟩
    · exact absurd z nh
    obtain ⟨t, ht⟩ : ∃ t : Nat, S.1 278 k = (t : Int) := ⟨(S.1 278 k).toNat, by omega⟩
    rw [ht, Int.toNat_natCast] at J4 J5
    have htN : t < N := by omega
    have lby := labr t htN y (by rw [J5]; exact List.mem_singleton.2 rfl)
    have cy : (f t).map cvl = [(11, y.toNat, 0)] := by
      rw [J5]
      show [cvl (11, y, 0)] = _
      rw [cvl_n _ (by omega) (by omega)]; rfl
    have at2 := AIs.2.2.2.2.1 k hk' hj
    have atT : a t = (0, (a k).2) := by
      rcases at2 with z | ⟨-, -, z⟩
      · exact absurd z nh
      · rw [ht, Int.toNat_natCast] at z; exact z
    have atT1 : a (t + 1) = a t := ((AIs.2.1 t (by omega)).2.2.2.2.2.2.2.2.2.2.2.2 J4).2
    obtain ⟨⟨st1, st2⟩, st3, st4, st5, st6⟩ := SBs t (by omega)
    have tn : t + 1 < N ∧ S.1 281 (t + 1) = S.1 281 t := by
      rcases st3 with z | ⟨z1, z2⟩
      · rw [J4] at z; cases z
      · have : (t : Int) + 1 ≠ S.1 254 33 := fun z => h9 (z2 z).1
        have : (t : Int) + 1 < S.1 254 33 := by omega
        exact ⟨by omega, z1 this⟩
    -- the same sub
    have sT : S.1 281 t = (s : Int) := by
      rcases JDs.2 k hk' hj with z | ⟨-, z⟩
      · exact absurd z nh
      · rw [ht, Int.toNat_natCast, hs] at z; exact z
    refine ⟨t, y.toNat, ?_, ht, by omega, J4, tn.1, sT, by rw [tn.2]; exact sT, cy, by rw [atT1, atT], ?_, ?_⟩
    · rcases J1 with ⟨x, J1⟩ | ⟨J1, J1'⟩
      · left
        have lx := labr k hk x (by rw [J1]; exact List.mem_cons_of_mem _ (List.mem_cons_of_mem _ List.mem_cons_self))
        refine ⟨x.toNat, ?_⟩
        rw [J1]
        show [cvl (13, x, 0), cvl (12, y, 0), cvl (11, x, 0)] = _
        rw [cvl_n _ (by omega) (by omega), cvl_n _ (by omega) (by omega), cvl_n _ (by omega) (by omega)]; rfl
      · right
        refine ⟨J1, ?_⟩
        rw [J1']
        show [cvl (12, y, 0)] = _
        rw [cvl_n _ (by omega) (by omega)]; rfl
    · rw [frn', J4]; rfl
    · rcases JDs.2 k hk' hj with z | ⟨z | ⟨z1, z2⟩, -⟩
      · exact absurd z nh
      · left; omega
      · right; rw [ht, Int.toNat_natCast] at z2; exact ⟨z1, z2⟩
  -- a variable
  have vr : S.1 277 k = 4 ∨ S.1 277 k = 13 → ∃ v : Nat, vkS S.1 s (m_var V S.1 (S.1 281 k) (S.1 280 k).toNat) v := by
    intro h4
    have ni := noi k hk'
    unfold nt_i at ni
    rw [if_neg (by omega), if_pos h4] at ni
    obtain ⟨n1, n2⟩ := List.append_eq_nil_iff.1 ni
    rw [hs] at n1 n2 ⊢
    refine vk_of VRS.1 (by omega) (fun z => ?_) n2
    rw [if_pos z] at n1; cases n1
  have kinds : S.1 277 k = 0 ∨ S.1 277 k = 1 ∨ S.1 277 k = 3 ∨ S.1 277 k = 4 ∨ S.1 277 k = 5 ∨ S.1 277 k = 6 ∨ S.1 277 k = 7 ∨ S.1 277 k = 8 ∨ S.1 277 k = 9 ∨ S.1 277 k = 10 ∨ S.1 277 k = 11 ∨ S.1 277 k = 12 ∨ S.1 277 k = 13 ∨ S.1 277 k = 14 ∨ S.1 277 k = 15 ∨ S.1 277 k = 16 ∨ S.1 277 k = 17 ∨ S.1 277 k = 18 ∨ S.1 277 k = 19 ∨ S.1 277 k = 20 := by
    have key : ∀ z : Int, 0 ≤ z → z ≤ 20 → z ≠ 2 → z = 0 ∨ z = 1 ∨ z = 3 ∨ z = 4 ∨ z = 5 ∨ z = 6 ∨ z = 7 ∨ z = 8 ∨ z = 9 ∨ z = 10 ∨ z = 11 ∨ z = 12 ∨ z = 13 ∨ z = 14 ∨ z = 15 ∨ z = 16 ∨ z = 17 ∨ z = 18 ∨ z = 19 ∨ z = 20 := by intro z h1 h2 h3; omega
    exact key _ i1 i2 i3
  have vSk : ∀ m : Nat, S.1 277 k = (m : Int) → (S.1 277 k).toNat = m := fun m h => by rw [h]; rfl
  unfold KD0
  rw [m277]
  rcases kinds with h | h | h | h | h | h | h | h | h | h | h | h | h | h | h | h | h | h | h | h
  · -- 0
    left
    rw [m278 (by omega) (by omega)]
    have r2 : S.1 278 k = -1 ∨ 0 ≤ S.1 278 k ∧ S.1 278 k ≤ 32767 := by
      rcases i4 h with z | z | ⟨i, z1, z2, z3⟩
      · exact Or.inl z
      · right; have z : S.1 278 k = 0 := z; omega
      · right; have := tx3 i z1 z2; have z3 : V i = S.1 278 k := z3; omega
    refine ⟨h, r2, ?_, Nat.zero_le _, by rw [A0 (by omega)]; rfl⟩
    rw [pvS (by omega), vS_0 h]
    by_cases z : S.1 278 k < 0
    · rw [if_pos z, if_pos z]; rfl
    · rw [if_neg z, if_neg z]
      show [cvl (0, 0, S.1 278 k)] = _
      rw [cvl_n _ (by omega) (by omega)]; rfl
  · -- 1
    right; left
    obtain ⟨y1, y2, y3, y4, y5⟩ := i5 h
    have y1 : 0 ≤ S.1 280 k := y1
    have y2 : (S.1 280 k).toNat < 1000 := y2
    have y3 : K (S.1 280 k).toNat = 4 := y3
    have y4 : 0 ≤ V (S.1 280 k).toNat := y4
    obtain ⟨x1, x2, x3⟩ := tx4 _ y2 y3
    have pp := tx2 (S.1 280 k).toNat
    obtain ⟨m4a, -, m4b⟩ := mv4 k hk'
    obtain ⟨⟨-, k2, k3, -⟩, -⟩ := Sk
    have ef : f k = vS K P V sc ss cs 49 4 c0 S.1 k := pvS (by omega)
    have ev : vS K P V sc ss cs 49 4 c0 S.1 k = (0, 0, V (S.1 280 k).toNat) :: (15, sysS c0 30 31, 1) :: chE c0 (sysS c0 30 32) (P (S.1 280 k).toNat + 1).toNat false (V (S.1 280 k).toNat).toNat 0 := by unfold vS; rw [h]; rfl
    refine ⟨h, frk (by rw [h]; rfl), ⟨Nat.zero_le _, by rw [A0 (by omega)]; rfl⟩, (List.range (V (S.1 280 k).toNat).toNat).map (fun j => (c0 3 ((P (S.1 280 k).toNat + 1).toNat + (0 + j))).toNat), P (S.1 280 k).toNat, ?_, ?_, ?_, m4b (Or.inl h), ⟨pp.1, ?_⟩, fun j c hc => ?_⟩
    · rw [ef, ev, List.map_cons, List.map_cons, ch_cv k3 _ _ 0 (fun j h1 h2 => by have := x3 j (by omega); rw [this.1]; omega), cvl_n _ (by omega) (by omega), k2]
      unfold strN
      rw [List.length_map, List.length_range]
      rfl
    · rw [List.length_map, List.length_range]; omega
    · rw [List.length_map, List.length_range, m4a h]; omega
    · rw [List.length_map, List.length_range]; omega
    · obtain ⟨c1, c2⟩ := str_cl j c hc
      have := x3 j c1
      rw [show (P (S.1 280 k).toNat).toNat + 1 + j = (P (S.1 280 k).toNat + 1).toNat + j by omega, mv5 _ (by omega), c2, this.1]
      omega
  · -- 3
    right; right; left
    have ni := noi k hk'
    unfold nt_i at ni
    rw [if_pos h] at ni
    refine ⟨h, frk (by rw [h]; rfl), ?_, ?_, Nat.zero_le _, by rw [A0 (by omega)]; rfl⟩
    · rw [pvS (by omega)]
      unfold vS
      rw [h]; rfl
    · rw [m264]
      intro z
      rw [hs, Int.toNat_natCast, if_pos z] at ni
      cases ni
  · -- 4
    right; right; right; left
    obtain ⟨v, hv⟩ := vr (Or.inl h)
    refine ⟨h, frk (by rw [h]; rfl), ⟨Nat.zero_le _, by rw [A0 (by omega)]; rfl⟩, v, ?_, VK_of MM hv, ?_⟩
    · rw [mv2 k hk', if_pos (Or.inl h)]; exact hv.1
    · rw [pvS (by omega)]
      unfold vS
      rw [h]
      show (ldk (kdv S.1 (m_var V S.1 (S.1 281 k) (S.1 280 k).toNat).toNat) (plv 4 S.1 (m_var V S.1 (S.1 281 k) (S.1 280 k).toNat).toNat)).map cvl = _
      rw [hv.1, Int.toNat_natCast]
      exact (ld_cv MM hv).1
  · -- 5
    right; right; right; right; left
    obtain ⟨q1, q2⟩ := A5 (Or.inl h)
    refine ⟨h, frk (by rw [h]; rfl), ?_, q1, by rw [q2, show (a k).1 - 2 + 1 = (a k).1 - 1 by omega]⟩
    rw [pvS (by omega)]
    unfold vS
    rw [h]; rfl
  · -- 6
    right; right; right; right; right; left
    obtain ⟨q1, q2⟩ := A5 (Or.inr h)
    have po := i6 h
    rw [m278 (by omega) (by omega)]
    have po : pr_o (S.1 278 k) := po
    refine ⟨h, frk (by rw [h]; rfl), ?_, ⟨q1, by rw [q2, show (a k).1 - 2 + 1 = (a k).1 - 1 by omega]⟩, ?_⟩
    · rw [pvS (by omega)]
      unfold vS
      rw [h]
      show (opE c0 (S.1 278 k) false).map cvl = _
      exact op_cv Sk po
    · unfold pr_o at po; omega
  · -- 7
    right; right; right; right; right; right; left
    obtain ⟨q1, q2⟩ := A7 (Or.inl h)
    refine ⟨h, frk (by rw [h]; rfl), ?_, q1, by rw [q2, show (a k).1 - 1 + 1 = (a k).1 by omega]⟩
    rw [pvS (by omega)]
    unfold vS
    rw [h]; rfl
  · -- 8
    right; right; right; right; right; right; right; left
    obtain ⟨q1, q2⟩ := A7 (Or.inr h)
    refine ⟨h, frk (by rw [h]; rfl), ?_, q1, by rw [q2, show (a k).1 - 1 + 1 = (a k).1 by omega]⟩
    rw [pvS (by omega)]
    unfold vS
    rw [h]; rfl
  · -- 9
    right; right; right; right; right; right; right; right; left
    obtain ⟨z1, z2⟩ := i7 (Or.inl h)
    have z1 : 0 ≤ S.1 278 k := z1
    have z2 : S.1 278 k < S.1 254 39 := z2
    obtain ⟨c, hc⟩ : ∃ c : Nat, S.1 278 k = (c : Int) := ⟨(S.1 278 k).toNat, by omega⟩
    obtain ⟨w1, w2, w3, -⟩ := mv3 c (by omega)
    have cl := CLs k hk' (Or.inl h)
    rw [hc, Int.toNat_natCast, hs] at cl
    obtain ⟨⟨k1, k2⟩, k3, k4, k5⟩ := ck_of (nok c (by omega))
    have q := A9 h
    rw [hc, Int.toNat_natCast] at q
    have ef : f k = oV 4 V S.1 c := by rw [pvS (by omega), vS_9 h, hc, Int.toNat_natCast]
    refine ⟨h, frk (by rw [h]; rfl), c, by rw [m278 (by omega) (by omega)]; exact hc, by omega, ?_⟩
    rw [w2, m264]
    unfold m_ko at *
    unfold oV at ef
    by_cases c1 : S.1 282 c = -1
    · rw [if_pos c1] at ef
      have kk : m_ko V S.1 c = 2 := by unfold m_ko; rw [if_pos c1]
      rw [if_pos c1] at k4 ⊢
      refine ⟨fun z => by omega, fun _ => by rw [cl, Int.toNat_natCast] at k4; exact k4 rfl, ?_, Nat.zero_le _, ?_⟩
      · rw [ef]
        unfold obN
        rw [w2, if_pos c1, if_neg (by decide), if_pos rfl]; rfl
      · rw [q]
        unfold ob
        rw [kk]; rfl
    · rw [if_neg c1] at ef
      by_cases c2 : m_var V S.1 (S.1 289 c) (S.1 282 c).toNat = -1
      · rw [if_pos c2] at ef
        have kk : m_ko V S.1 c = 0 := by unfold m_ko; rw [if_neg c1, if_pos c2]
        rw [if_neg c1, if_pos c2]
        refine ⟨fun z => by omega, fun z => by omega, ?_, Nat.zero_le _, ?_⟩
        · rw [ef]
          unfold obN
          rw [w2, if_neg c1, if_pos c2, if_neg (by decide), if_neg (by decide)]; rfl
        · rw [q]
          unfold ob
          rw [kk]; rfl
      · rw [if_neg c2] at ef
        have kk : m_ko V S.1 c = 1 := by unfold m_ko; rw [if_neg c1, if_neg c2]
        rw [if_neg c1, if_neg c2]
        have n5 := k5 c1
        have w3 := w3 c1
        rw [cl] at c2 ef n5 w3
        obtain ⟨v, hv⟩ := vk_of VRS.1 (by omega) c2 n5
        rw [hv.1] at w3
        rw [w3, Int.toNat_natCast]
        refine ⟨fun _ => ⟨by omega, VK_of MM hv⟩, fun z => by omega, ?_, Nat.zero_le _, ?_⟩
        · rw [ef, hv.1, Int.toNat_natCast]
          unfold obN
          rw [w2, if_neg c1, cl, if_neg c2, if_pos rfl, w3, Int.toNat_natCast]
          exact (ld_cv MM hv).1
        · rw [q]
          unfold ob
          rw [kk]; rfl
  · -- 10
    right; right; right; right; right; right; right; right; right; left
    obtain ⟨z1, z2⟩ := i7 (Or.inr h)
    have z1 : 0 ≤ S.1 278 k := z1
    have z2 : S.1 278 k < S.1 254 39 := z2
    obtain ⟨c, hc⟩ : ∃ c : Nat, S.1 278 k = (c : Int) := ⟨(S.1 278 k).toNat, by omega⟩
    obtain ⟨w1, w2, -, w4⟩ := mv3 c (by omega)
    obtain ⟨⟨k1, k2⟩, ⟨k3, k3'⟩, k4, k5⟩ := ck_of (nok c (by omega))
    obtain ⟨w4, w5⟩ := w4 k1
    obtain ⟨q1, q2⟩ := A10 h
    rw [hc, Int.toNat_natCast] at q1 q2
    have ef : f k = [(15, sm 49 cs (m_kc K V sc S.1 c) (m_sof V ss S.1 (m_kc K V sc S.1 c) (S.1 283 c).toNat), if 0 < m_ko V S.1 c then S.1 284 c + 1 else S.1 284 c)] := by rw [pvS (by omega), vS_10 h, hc, Int.toNat_natCast]
    have kc0 := m_kc_in (K := K) (V := V) (sc := sc) (S := S.1) (k := c) h14 (fun s hs => (Rv.1.2.1.2 s hs).2.1.1) (Rv.1.2.2.2.2.2 c (by omega)).1 k1
    obtain ⟨u, u1, u2, u3⟩ := sof_in (V := V) (ss := ss) (S := S.1) (by omega) h297 kc0 k2
    refine ⟨h, frk (by rw [h]; rfl), c, by rw [m278 (by omega) (by omega)]; exact hc, by omega, ?_⟩
    rw [w1, w2, w4, w5, m297]
    obtain ⟨q, hq⟩ : ∃ q : Nat, m_kc K V sc S.1 c = (q : Int) := ⟨(m_kc K V sc S.1 c).toNat, by omega⟩
    rw [u1] at k3 k3' ef ⊢
    have eob : (if 0 < m_ko V S.1 c then 1 else 0 : Int) = (ob V S.1 c : Int) := by unfold ob; split <;> rfl
    have obl := ob_le V S.1 c
    have eal : (if 0 < m_ko V S.1 c then S.1 284 c + 1 else S.1 284 c) = S.1 284 c + (if 0 < m_ko V S.1 c then 1 else 0) := by
      split
      · rfl
      · rw [Int.add_zero]
    rw [eal] at ef
    by_cases c8 : m_kc K V sc S.1 c < 8
    · left
      obtain ⟨y1, y2⟩ := u2 c8
      rw [hq, Int.toNat_natCast] at y1 y2
      obtain ⟨li, nn, s1, s2, s3, s4, s5⟩ := Sy q u (by omega) y1 y2
      have e1 : S.1 284 c = S.1 301 u := by
        rw [← k3']; unfold m_mo; rw [if_pos c8, Int.toNat_natCast]
      have e2 : (if 0 < m_ko V S.1 c then 1 else 0 : Int) = S.1 300 u := by
        rw [← k3]; unfold m_me; rw [if_pos c8, Int.toNat_natCast]
      have e3 : (S.1 284 c).toNat + ob V S.1 c = nn := by omega
      have csu : cs u < 100 := by
        have := s1
        simp only [sysT, List.mem_cons, List.not_mem_nil, or_false, Prod.mk.injEq] at this
        omega
      refine ⟨q, li, cs u, nn, hq, s1, s2, by omega, by rw [e2, e1]; omega, by omega, ?_, ?_, ?_⟩
      · rw [ef]
        unfold sm
        rw [if_neg (by omega), if_pos c8, Int.toNat_natCast, e2, e1]
        show [cvl (15, (cs u : Int), S.1 301 u + S.1 300 u)] = _
        rw [cvl_n _ (by omega) (by omega), Int.toNat_natCast, show (S.1 301 u + S.1 300 u).toNat = nn by omega]; rfl
      · rw [e3] at q1; exact q1
      · rw [e3] at q2; exact q2
    · right
      have un := u3 (by omega)
      have un3 : u < p.1 3 := by omega
      obtain ⟨g1, g2, g3⟩ := SUs.1 u un3
      have gg := hgv u un3
      have e1 : S.1 284 c = S.1 267 u := by
        rw [← k3']; unfold m_mo; rw [if_neg c8, Int.toNat_natCast]
      have e2 : (if 0 < m_ko V S.1 c then 1 else 0 : Int) = (if S.1 264 u = 3 then 1 else 0) := by
        rw [← k3]; unfold m_me; rw [if_neg c8, Int.toNat_natCast]
      have e4 : (ob V S.1 c : Int) = ((if S.1 264 u = 3 then 1 else 0 : Nat) : Int) := by
        rw [← eob, e2]; split <;> rfl
      have e3 : (S.1 284 c).toNat + ob V S.1 c = gv (49 + u) := by rw [gg, e1]; omega
      have hp3 : p.1 3 ≤ 60 := Rv.2.1.2.2.2.2.1
      refine ⟨u, by omega, rfl, un3, ?_, ?_, ?_⟩
      · rw [ef]
        unfold sm
        rw [if_neg (by omega), if_neg c8, eob]
        show [cvl (15, ((49 : Nat) : Int) + (u : Int), S.1 284 c + (ob V S.1 c : Int))] = _
        rw [cvl_n _ (by omega) (by omega), show (((49 : Nat) : Int) + (u : Int)).toNat = 49 + u by omega, show (S.1 284 c + (ob V S.1 c : Int)).toNat = gv (49 + u) by omega]; rfl
      · rw [e3] at q1; exact q1
      · rw [e3] at q2; exact q2
  · -- 11
    right; right; right; right; right; right; right; right; right; right; left
    obtain ⟨q1, q2⟩ := A11 h
    have pp := tx2 (S.1 280 k).toNat
    refine ⟨h, (P (S.1 280 k).toNat).toNat, (S.1 280 k).toNat, ?_, by omega, ?_, by omega, by rw [q2, q1], q1⟩
    · rw [pvS (by omega)]
      unfold vS
      rw [h]
      show [cvl (20, P (S.1 280 k).toNat, 0)] = _
      rw [cvl_n _ (by omega) (by omega)]; rfl
    · rw [(mv4 k hk').2.2 (Or.inr h)]; omega
  · -- 12
    right; right; right; right; right; right; right; right; right; right; right; left
    obtain ⟨q1, q2, q3⟩ := A12 h
    refine ⟨h, ?_, q2, by rw [q3, q1], by show ¬ frs S.1 (k + 1) = true; rw [frn', h]; exact show ¬ false = true by decide, q1⟩
    rw [pvS (by omega)]
    unfold vS
    rw [h]; rfl
  · -- 13
    right; right; right; right; right; right; right; right; right; right; right; right; left
    obtain ⟨v, hv⟩ := vr (Or.inr h)
    obtain ⟨q1, q2⟩ := A13 (Or.inl h)
    refine ⟨h, frk (by rw [h]; rfl), ⟨by omega, by rw [q2, q1]⟩, v, ?_, VK_of MM hv, ?_⟩
    · rw [mv2 k hk', if_pos (Or.inr h)]; exact hv.1
    · rw [pvS (by omega)]
      unfold vS
      rw [h]
      show (stk (kdv S.1 (m_var V S.1 (S.1 281 k) (S.1 280 k).toNat).toNat) (plv 4 S.1 (m_var V S.1 (S.1 281 k) (S.1 280 k).toNat).toNat)).map cvl = _
      rw [hv.1, Int.toNat_natCast]
      exact (ld_cv MM hv).2
  · -- 14
    right; right; right; right; right; right; right; right; right; right; right; right; right; left
    obtain ⟨q1, q2⟩ := A14 h
    refine ⟨h, frk (by rw [h]; rfl), ?_, by omega, by rw [q2, q1]⟩
    rw [pvS (by omega)]
    unfold vS
    rw [h]; rfl
  · -- 15
    right; right; right; right; right; right; right; right; right; right; right; right; right; right; left
    obtain ⟨q1, q2⟩ := A13 (Or.inr (Or.inl h))
    obtain ⟨t', y, j1, j2, j3, j4, j5, j6, j7, j8, j9, j10, j11⟩ := jmp (Or.inl h)
    obtain ⟨x, hx⟩ : ∃ x : Nat, (f k).map cvl = [(13, x, 0), (12, y, 0), (11, x, 0)] := by
      rcases j1 with z | z
      · exact z
      · omega
    refine ⟨h, ⟨by omega, by rw [q2, q1]⟩, x, y, t', hx, by rw [m278 (by omega) (by omega)]; exact j2, j3, j4, j5, by rw [m281]; exact j6, by rw [m281]; exact j7, j8, by rw [j9, q1], by show ¬ frs S.1 (t' + 1) = true; rw [j10]; decide, ?_⟩
    rcases j11 with z | z
    · exact z
    · omega
  · -- 16
    right; right; right; right; right; right; right; right; right; right; right; right; right; right; right; left
    have q1 := A16 h
    obtain ⟨t', y, j1, j2, j3, j4, j5, j6, j7, j8, j9, j10, j11⟩ := jmp (Or.inr h)
    have hx : (f k).map cvl = [(12, y, 0)] := by
      rcases j1 with ⟨x, z⟩ | z
      · exfalso
        obtain ⟨y', hy⟩ := pv.2.2.1 h
        rw [hy] at z
        exact absurd (congrArg List.length z) (show ¬ (1 : Nat) = 3 by decide)
      · exact z.2
    refine ⟨h, y, t', hx, by rw [m278 (by omega) (by omega)]; exact j2, j3, j4, j5, by rw [m281]; exact j6, by rw [m281]; exact j7, j8, ?_, by show ¬ frs S.1 (t' + 1) = true; rw [j10]; decide, ?_⟩
    · rw [j9]
      exact Prod.ext q1.symm rfl
    · rcases j11 with z | z
      · exact Or.inl z
      · exact Or.inr z.2
  · -- 17
    right; right; right; right; right; right; right; right; right; right; right; right; right; right; right; right; left
    obtain ⟨q1, q2, tk, r, q3, q4⟩ := A17 h
    have pp := tx2 tk
    refine ⟨h, (P tk).toNat, tk, r, ?_, by omega, by omega, q3, q2, q1⟩
    rw [q4]
    show [cvl (20, P tk, 0)] = _
    rw [cvl_n _ (by omega) (by omega)]; rfl
  · -- 18
    right; right; right; right; right; right; right; right; right; right; right; right; right; right; right; right; right; left
    refine ⟨h, ?_, A18 h⟩
    rw [pvS (by omega)]
    unfold vS
    rw [h]; rfl
  · -- 19
    right; right; right; right; right; right; right; right; right; right; right; right; right; right; right; right; right; right; left
    obtain ⟨q1, q2⟩ := A13 (Or.inr (Or.inr h))
    refine ⟨h, frk (by rw [h]; rfl), ?_, by omega, by rw [q2, q1]⟩
    rw [pvS (by omega)]
    unfold vS
    rw [h]; rfl
  · -- 20
    right; right; right; right; right; right; right; right; right; right; right; right; right; right; right; right; right; right; right
    obtain ⟨q1, q2⟩ := A20 h
    obtain ⟨x, hx⟩ := pv.2.2.2.2 h
    have lx := labr k hk x (by rw [hx]; exact List.mem_singleton.2 rfl)
    refine ⟨h, ⟨x.toNat, ?_⟩, q2, by show ¬ frs S.1 (k + 1) = true; rw [frn', h]; exact show ¬ false = true by decide, q1⟩
    rw [hx]
    show [cvl (11, x, 0)] = _
    rw [cvl_n _ (by omega) (by omega)]; rfl
end
