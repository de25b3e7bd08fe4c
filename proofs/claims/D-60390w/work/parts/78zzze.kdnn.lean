/-! LOAD, 4: numbers of lines are not negative; labels are small -/
def nn3 (v : Int × Int × Int) : Prop := 0 ≤ v.1 ∧ (0 ≤ v.2.1 ∧ v.2.1 ≤ 32767) ∧ 0 ≤ v.2.2 ∧ v.2.2 ≤ 32767
section
variable {K P V sc ss t : Nat → Int} {cs : Nat → Nat} {gv : Nat → Nat} {n : Nat} {g0 c0 : am_H} {p : pr_S} {S : mi_S} {c' : ce_S} {f : Nat → List (Int × Int × Int)} {a : Nat → Nat × List Nat}
theorem nn_ld {S : am_H} {s v : Nat} {x : Int} (H : vkS S s x v) : (∀ w ∈ ldk (kdv S v) (plv 4 S v), nn3 w) ∧ ∀ w ∈ stk (kdv S v) (plv 4 S v), nn3 w := by
  obtain ⟨h1, h2, h3, h4, h5, h6, h7, h8, h9⟩ := H
  have pb : 0 ≤ plv 4 S v ∧ plv 4 S v ≤ 100 := by
    unfold plv nov
    by_cases z : S 272 v = 0
    · rw [if_pos z]; omega
    · rw [if_neg z]; split <;> omega
  have sg : 0 ≤ ce_seg (kdv S v) ∧ ce_seg (kdv S v) ≤ 3 := by unfold ce_seg; split <;> (try split) <;> omega
  unfold ldk stk
  constructor
  · intro w hw
    split at hw
    · simp only [List.mem_cons, List.not_mem_nil, or_false] at hw
      rcases hw with rfl | rfl <;> unfold nn3 <;> dsimp only <;> omega
    · rw [List.mem_singleton] at hw
      subst hw
      unfold nn3; dsimp only; omega
  · intro w hw
    split at hw
    · simp only [List.mem_cons, List.not_mem_nil, or_false] at hw
      rcases hw with rfl | rfl | rfl <;> unfold nn3 <;> dsimp only <;> omega
    · rw [List.mem_singleton] at hw
      subst hw
      unfold nn3; dsimp only; omega
theorem nn_op (Sk : SKv c0) (x : Int) : ∀ w ∈ opE c0 x false, nn3 w := by
  obtain ⟨⟨-, -, -, k4, k5⟩, -⟩ := Sk
  unfold sysS at k4 k5
  intro w hw
  unfold opE at hw
  split at hw
  · rw [List.mem_singleton] at hw
    subst hw
    unfold nn3 opk
    dsimp only
    repeat' split
    all_goals omega
  · rw [List.mem_singleton] at hw
    subst hw
    rw [if_neg (by decide)]
    by_cases z : x = 42
    · rw [if_pos z, k4]; unfold nn3; dsimp only; omega
    · rw [if_neg z, k5]; unfold nn3; dsimp only; omega
theorem nn_ch (Sk : sysS c0 30 32 = 20) (fr : Nat) : ∀ (m k : Nat), (∀ j, k ≤ j → j < k + m → 0 ≤ c0 3 (fr + j) ∧ c0 3 (fr + j) ≤ 255) → ∀ w ∈ chE c0 (sysS c0 30 32) fr false m k, nn3 w
  | 0, _, _, w, hw => by cases hw
  | m + 1, k, h, w, hw => by
    have h0 := h k (Nat.le_refl _) (by omega)
    unfold chE at hw
    rw [if_neg (by decide), Sk] at hw
    rcases List.mem_cons.1 hw with rfl | hw
    · unfold nn3; dsimp only; omega
    · rcases List.mem_cons.1 hw with rfl | hw
      · unfold nn3; dsimp only; omega
      · exact nn_ch Sk fr m (k + 1) (fun j h1 h2 => h j (by omega) (by omega)) w (by rw [Sk]; exact hw)
theorem lab_rg (X : LDX K P V sc ss t cs gv n g0 c0 p S c' f a) {N : Nat} (hN : S.1 254 33 = (N : Int)) : ∀ j, j < N → ∀ y : Int, ((11 : Int), y, (0 : Int)) ∈ f j → (152 : Int) ≤ y ∧ y < 1500 := by
  obtain ⟨⟨⟨LI, IFs, VRS, SBs⟩, ⟨FRs, JDs, WIs, SUs, CLs, NEs⟩, ⟨bt, cur, CIs, AIs⟩, Rv, Rm, pl0⟩, MVs, NN, Sk, Sy, TX, h297, hgv, h9x, h8x, hw⟩ := X
  have h9 : p.1 9 ≠ 6 := by omega
  intro j hj y hy
  have lb := CIs.2.2.1
  have e1 : y ∈ lbs (tU (vH 49 c0 S.1) f (S.1 269) (hq p) (S.1 254 33).toNat) ++ opl p.2.1 c'.2.2.2.2.2.2 := by
    rw [List.mem_append]
    left
    obtain ⟨⟨st1, st2⟩, -, st4, st5, st6⟩ := SBs j (by omega)
    have hs2 : (S.1 281 j).toNat < hq p := st4
    obtain ⟨r, er⟩ := tU_item (hd := vH 49 c0 S.1) (it := f) (fi := S.1 269) (N := N) (n3 := hq p) (s := (S.1 281 j).toNat) (k := j) hs2 (by omega) (by
      unfold sbE
      split
      · rename_i z
        have := st6 _ z (by omega)
        omega
      · exact hj)
    rw [hN, Int.toNat_natCast, er, lbs_app, lbs_app]
    refine List.mem_append_left _ (List.mem_append_right _ ?_)
    unfold lbs
    rw [List.mem_filterMap]
    exact ⟨_, hy, rfl⟩
  have := lb.2.1 y e1
  have w := lb.2.2.2
  rw [pl0] at w
  have w : 2 * (c'.1 8 4 - ((152 : Nat) : Int)) ≤ (p.2.2.2 6 : Int) + ((0 : Nat) : Int) := w
  have := hw 6
  omega
theorem kd_nn (X : LDX K P V sc ss t cs gv n g0 c0 p S c' f a) {k N : Nat} (hN : S.1 254 33 = (N : Int)) (hk : k < N) : ∀ v ∈ f k, nn3 v := by
  have labr := lab_rg X hN
  obtain ⟨⟨⟨LI, IFs, VRS, SBs⟩, ⟨FRs, JDs, WIs, SUs, CLs, NEs⟩, ⟨bt, cur, CIs, AIs⟩, Rv, Rm, pl0⟩, MVs, NN, Sk, Sy, TX, h297, hgv, h9x, h8x, hw⟩ := X
  have h9 : p.1 9 ≠ 6 := by omega
  obtain ⟨mv1, mv2, mv3, mv4, mv5, mv6, -⟩ := MVs
  obtain ⟨-, -, -, noi, nok⟩ := NN
  obtain ⟨tx1, tx2, tx3, tx4⟩ := TX
  have h14 : 0 ≤ S.1 254 14 := Rv.1.1.1
  have h17 : S.1 254 17 = (p.1 3 : Int) := Rv.2.1.2.1
  have h25 : S.1 254 25 ≤ 1050 := by have := Rm.2.2.1; have := hw 2; omega
  have h39 : S.1 254 39 ≤ 525 := by have := Rm.2.1; have := hw 1; omega
  have hN5 : N ≤ 2100 := by have := Rm.1; have := hw 0; omega
  have hk' : (k : Int) < S.1 254 33 := by omega
  obtain ⟨⟨sb1, sb2⟩, sb3, sb4, -, -⟩ := SBs k hk'
  have ifr := IFs k hk'
  obtain ⟨⟨i1, i2, i3⟩, i4, i5, i6, i7, i8, i9, i10⟩ := ifr
  have i1 : 0 ≤ S.1 277 k := i1
  have i2 : S.1 277 k ≤ 20 := i2
  have i3 : S.1 277 k ≠ 2 := i3
  have at1 := AIs.2.1 k hk'
  have ab := AIs.2.2.1
  have pv := CIs.2.1 k hk'
  obtain ⟨A0, A5, A7, A9, A10, A11, A12, A13, A14, A16, A17, A18, A20⟩ := at1
  have hs0 : S.1 281 k = ((S.1 281 k).toNat : Int) := (Int.toNat_of_nonneg sb1).symm
  obtain ⟨s, hs⟩ : ∃ s : Nat, S.1 281 k = (s : Int) := ⟨(S.1 281 k).toNat, hs0⟩
  have hsn : s < p.1 3 := by omega
  have m277 : g0 277 = S.1 277 := mv1 277 (by omega)
  have m264 : g0 264 = S.1 264 := mv1 264 (by omega)
  have m281 : g0 281 = S.1 281 := mv1 281 (by omega)
  have m297 : g0 297 = S.1 297 := mv1 297 (by omega)
  have MM : ∀ c, c = 264 ∨ c = 267 ∨ c = 268 ∨ c = 272 ∨ c = 275 ∨ c = 276 → g0 c = S.1 c := fun c hc => mv1 c (by omega)
  have m278 : S.1 277 k ≠ 4 → S.1 277 k ≠ 13 → g0 278 k = S.1 278 k := fun h1 h2 => by rw [mv2 k hk', if_neg (by omega)]
  -- a variable
  have vr : S.1 277 k = 4 ∨ S.1 277 k = 13 → ∃ v : Nat, vkS S.1 s (m_var V S.1 (S.1 281 k) (S.1 280 k).toNat) v := by
    intro h4
    have ni := noi k hk'
    unfold nt_i at ni
    rw [if_neg (by omega), if_pos h4] at ni
    obtain ⟨n1, n2⟩ := List.append_eq_nil_iff.1 ni
    rw [hs] at n1 n2 ⊢
    refine vk_of VRS.1 (by omega) (fun z => ?_) n2
    rw [if_pos z] at n1; cases n1
  have kinds : S.1 277 k = 0 ∨ S.1 277 k = 1 ∨ S.1 277 k = 3 ∨ S.1 277 k = 4 ∨ S.1 277 k = 5 ∨ S.1 277 k = 6 ∨ S.1 277 k = 7 ∨ S.1 277 k = 8 ∨ S.1 277 k = 9 ∨ S.1 277 k = 10 ∨ S.1 277 k = 11 ∨ S.1 277 k = 12 ∨ S.1 277 k = 13 ∨ S.1 277 k = 14 ∨ S.1 277 k = 15 ∨ S.1 277 k = 16 ∨ S.1 277 k = 17 ∨ S.1 277 k = 18 ∨ S.1 277 k = 19 ∨ S.1 277 k = 20 := by
    have key : ∀ z : Int, 0 ≤ z → z ≤ 20 → z ≠ 2 → z = 0 ∨ z = 1 ∨ z = 3 ∨ z = 4 ∨ z = 5 ∨ z = 6 ∨ z = 7 ∨ z = 8 ∨ z = 9 ∨ z = 10 ∨ z = 11 ∨ z = 12 ∨ z = 13 ∨ z = 14 ∨ z = 15 ∨ z = 16 ∨ z = 17 ∨ z = 18 ∨ z = 19 ∨ z = 20 := by intro z h1 h2 h3; omega
    exact key _ i1 i2 i3
  -- labels of jumps
  have jy : ∀ j : Nat, (j : Int) < S.1 254 33 → S.1 277 j = 15 ∨ S.1 277 j = 16 → ∀ y : Int, ((12 : Int), y, (0 : Int)) ∈ f j → 0 ≤ y ∧ y < 1500 := by
    intro j hj hj2 y hy
    have nh : ¬ j ∈ hol p.2.1 S.2.2.2.1 := by rw [pl0]; intro z; cases z
    rcases CIs.2.2.2.2 j hj hj2 with z | ⟨y', J1, ⟨J2, J3⟩, J4, J5⟩
    · exact absurd z nh
    have ey : y = y' := by
      rcases J1 with ⟨x, J1⟩ | ⟨-, J1⟩
      · rw [J1] at hy
        simp only [List.mem_cons, List.not_mem_nil, or_false, Prod.mk.injEq] at hy
        omega
      · rw [J1] at hy
        simp only [List.mem_cons, List.not_mem_nil, or_false, Prod.mk.injEq] at hy
        omega
    have := labr (S.1 278 j).toNat (by omega) y' (by rw [J5]; exact List.mem_singleton.2 rfl)
    omega
  have pvS : S.1 277 k ≠ 15 ∧ S.1 277 k ≠ 16 ∧ S.1 277 k ≠ 17 ∧ S.1 277 k ≠ 20 → f k = vS K P V sc ss cs 49 4 c0 S.1 k := pv.1
  have sing : ∀ L : List (Int × Int × Int), f k = L → (∀ v ∈ L, nn3 v) → ∀ v ∈ f k, nn3 v := fun L h1 h2 => by rw [h1]; exact h2
  have lit : ∀ L : List (Int × Int × Int), vS K P V sc ss cs 49 4 c0 S.1 k = L → (∀ v ∈ L, nn3 v) → (S.1 277 k ≠ 15 ∧ S.1 277 k ≠ 16 ∧ S.1 277 k ≠ 17 ∧ S.1 277 k ≠ 20) → ∀ v ∈ f k, nn3 v := fun L h1 h2 h3 => by rw [pvS h3, h1]; exact h2
  have n1 : ∀ x y z : Int, 0 ≤ x → 0 ≤ y ∧ y ≤ 32767 → 0 ≤ z ∧ z ≤ 32767 → ∀ v ∈ [(x, y, z)], nn3 v := fun x y z h1 h2 h3 v hv => by
    rw [List.mem_singleton] at hv; rw [hv]; exact ⟨h1, h2, h3⟩
  have n2 : ∀ x y z x2 y2 z2 : Int, nn3 (x, y, z) → nn3 (x2, y2, z2) → ∀ v ∈ [(x, y, z), (x2, y2, z2)], nn3 v := fun x y z x2 y2 z2 h1 h2 v hv => by
    simp only [List.mem_cons, List.not_mem_nil, or_false] at hv
    rcases hv with rfl | rfl
    · exact h1
    · exact h2
  rcases kinds with h | h | h | h | h | h | h | h | h | h | h | h | h | h | h | h | h | h | h | h
  · -- 0
    have r2 : S.1 278 k = -1 ∨ 0 ≤ S.1 278 k ∧ S.1 278 k ≤ 32767 := by
      rcases i4 h with z | z | ⟨i, z1, z2, z3⟩
      · exact Or.inl z
      · right; have z : S.1 278 k = 0 := z; omega
      · right; have := tx3 i z1 z2; have z3 : V i = S.1 278 k := z3; omega
    refine lit _ (vS_0 h) ?_ (by omega)
    by_cases z : S.1 278 k < 0
    · rw [if_pos z]; exact n2 _ _ _ _ _ _ (by unfold nn3; decide) (by unfold nn3; decide)
    · rw [if_neg z]; exact n1 _ _ _ (by decide) (by omega) (by omega)
  · -- 1
    obtain ⟨y1, y2, y3, y4, y5⟩ := i5 h
    have y2 : (S.1 280 k).toNat < 1000 := y2
    have y3 : K (S.1 280 k).toNat = 4 := y3
    have y4 : 0 ≤ V (S.1 280 k).toNat := y4
    obtain ⟨x1, x2, x3⟩ := tx4 _ y2 y3
    obtain ⟨⟨-, k2, k3, -⟩, -⟩ := Sk
    have ev : vS K P V sc ss cs 49 4 c0 S.1 k = (0, 0, V (S.1 280 k).toNat) :: (15, sysS c0 30 31, 1) :: chE c0 (sysS c0 30 32) (P (S.1 280 k).toNat + 1).toNat false (V (S.1 280 k).toNat).toNat 0 := by unfold vS; rw [h]; rfl
    refine lit _ ev (fun v hv => ?_) (by omega)
    rcases List.mem_cons.1 hv with rfl | hv
    · unfold nn3; dsimp only; omega
    · rcases List.mem_cons.1 hv with rfl | hv
      · rw [k2]; unfold nn3; dsimp only; omega
      · exact nn_ch k3 _ _ 0 (fun j h1 h2 => by have := x3 j (by omega); rw [this.1]; omega) v hv
  · exact lit [(0, 4, 0)] (by unfold vS; rw [h]; rfl) (n1 _ _ _ (by decide) (by decide) (by decide)) (by omega)
  · -- 4
    obtain ⟨v, hv⟩ := vr (Or.inl h)
    refine lit (ldk (kdv S.1 v) (plv 4 S.1 v)) ?_ (nn_ld hv).1 (by omega)
    unfold vS
    rw [h]
    show ldk (kdv S.1 (m_var V S.1 (S.1 281 k) (S.1 280 k).toNat).toNat) (plv 4 S.1 (m_var V S.1 (S.1 281 k) (S.1 280 k).toNat).toNat) = _
    rw [hv.1, Int.toNat_natCast]
  · exact lit [(2, 0, 0), (17, 1, 0)] (by unfold vS; rw [h]; rfl) (n2 _ _ _ _ _ _ (by unfold nn3; decide) (by unfold nn3; decide)) (by omega)
  · exact lit (opE c0 (S.1 278 k) false) (by unfold vS; rw [h]; rfl) (nn_op Sk _) (by omega)
  · exact lit [(4, 0, 0)] (by unfold vS; rw [h]; rfl) (n1 _ _ _ (by decide) (by decide) (by decide)) (by omega)
  · exact lit [(7, 0, 0)] (by unfold vS; rw [h]; rfl) (n1 _ _ _ (by decide) (by decide) (by decide)) (by omega)
  · -- 9
    obtain ⟨z1, z2⟩ := i7 (Or.inl h)
    have z1 : 0 ≤ S.1 278 k := z1
    have z2 : S.1 278 k < S.1 254 39 := z2
    obtain ⟨c, hc⟩ : ∃ c : Nat, S.1 278 k = (c : Int) := ⟨(S.1 278 k).toNat, by omega⟩
    have cl := CLs k hk' (Or.inl h)
    rw [hc, Int.toNat_natCast, hs] at cl
    obtain ⟨⟨k1, k2⟩, k3, k4, k5⟩ := ck_of (nok c (by omega))
    have ef : f k = oV 4 V S.1 c := by rw [pvS (by omega), vS_9 h, hc, Int.toNat_natCast]
    unfold oV at ef
    by_cases c1 : S.1 282 c = -1
    · rw [if_pos c1] at ef
      exact sing _ ef (n1 _ _ _ (by decide) (by decide) (by decide))
    · rw [if_neg c1] at ef
      by_cases c2 : m_var V S.1 (S.1 289 c) (S.1 282 c).toNat = -1
      · rw [if_pos c2] at ef
        exact sing _ ef (fun v hv => (by cases hv))
      · rw [if_neg c2] at ef
        have n5 := k5 c1
        rw [cl] at c2 ef n5
        obtain ⟨v, hv⟩ := vk_of VRS.1 (by omega) c2 n5
        rw [hv.1, Int.toNat_natCast] at ef
        exact sing _ ef (nn_ld hv).1
  · -- 10
    obtain ⟨z1, z2⟩ := i7 (Or.inr h)
    have z1 : 0 ≤ S.1 278 k := z1
    have z2 : S.1 278 k < S.1 254 39 := z2
    obtain ⟨c, hc⟩ : ∃ c : Nat, S.1 278 k = (c : Int) := ⟨(S.1 278 k).toNat, by omega⟩
    obtain ⟨⟨k1, k2⟩, ⟨k3, k3'⟩, k4, k5⟩ := ck_of (nok c (by omega))
    have ef : f k = [(15, sm 49 cs (m_kc K V sc S.1 c) (m_sof V ss S.1 (m_kc K V sc S.1 c) (S.1 283 c).toNat), if 0 < m_ko V S.1 c then S.1 284 c + 1 else S.1 284 c)] := by rw [pvS (by omega), vS_10 h, hc, Int.toNat_natCast]
    have kc0 := m_kc_in (K := K) (V := V) (sc := sc) (S := S.1) (k := c) h14 (fun s hs => (Rv.1.2.1.2 s hs).2.1.1) (Rv.1.2.2.2.2.2 c (by omega)).1 k1
    obtain ⟨u, u1, u2, u3⟩ := sof_in (V := V) (ss := ss) (S := S.1) (by omega) h297 kc0 k2
    rw [u1] at k3' ef
    have hp3 : p.1 3 ≤ 60 := Rv.2.1.2.2.2.2.1
    have a12 : 0 ≤ S.1 284 c ∧ S.1 284 c ≤ 12 ∧ 0 ≤ sm 49 cs (m_kc K V sc S.1 c) (u : Int) ∧ sm 49 cs (m_kc K V sc S.1 c) (u : Int) ≤ 200 := by
      unfold sm
      rw [if_neg (by omega)]
      by_cases c8 : m_kc K V sc S.1 c < 8
      · obtain ⟨y1, y2⟩ := u2 c8
        obtain ⟨li, nn, s1, s2, s3, s4, s5⟩ := Sy (m_kc K V sc S.1 c).toNat u (by omega) y1 y2
        have e1 : S.1 284 c = S.1 301 u := by
          rw [← k3']; unfold m_mo; rw [if_pos c8, Int.toNat_natCast]
        have csu : cs u < 100 := by
          have := s1
          simp only [sysT, List.mem_cons, List.not_mem_nil, or_false, Prod.mk.injEq] at this
          omega
        rw [if_pos c8, Int.toNat_natCast]; omega
      · have un := u3 (by omega)
        obtain ⟨g1, g2, g3⟩ := SUs.1 u (by omega)
        have e1 : S.1 284 c = S.1 267 u := by
          rw [← k3']; unfold m_mo; rw [if_neg c8, Int.toNat_natCast]
        rw [if_neg c8]; omega
    refine sing _ ef (n1 _ _ _ (by decide) (by omega) ?_)
    split <;> omega
  · -- 11
    have pp := tx2 (S.1 280 k).toNat
    exact lit [(20, P (S.1 280 k).toNat, 0)] (by unfold vS; rw [h]; rfl) (n1 _ _ _ (by decide) (by omega) (by decide)) (by omega)
  · exact lit [] (by unfold vS; rw [h]; rfl) (fun v hv => (by cases hv)) (by omega)
  · -- 13
    obtain ⟨v, hv⟩ := vr (Or.inr h)
    refine lit (stk (kdv S.1 v) (plv 4 S.1 v)) ?_ (nn_ld hv).2 (by omega)
    unfold vS
    rw [h]
    show stk (kdv S.1 (m_var V S.1 (S.1 281 k) (S.1 280 k).toNat).toNat) (plv 4 S.1 (m_var V S.1 (S.1 281 k) (S.1 280 k).toNat).toNat) = _
    rw [hv.1, Int.toNat_natCast]
  · exact lit [(1, 5, 0), (18, 1, 0)] (by unfold vS; rw [h]; rfl) (n2 _ _ _ _ _ _ (by unfold nn3; decide) (by unfold nn3; decide)) (by omega)
  · -- 15
    obtain ⟨x, y, hx⟩ := pv.2.1 h
    have lx := labr k hk x (by rw [hx]; exact List.mem_cons_of_mem _ (List.mem_cons_of_mem _ List.mem_cons_self))
    have ly := jy k hk' (Or.inl h) y (by rw [hx]; exact List.mem_cons_of_mem _ List.mem_cons_self)
    intro v hv
    rw [hx] at hv
    simp only [List.mem_cons, List.not_mem_nil, or_false] at hv
    rcases hv with rfl | rfl | rfl <;> unfold nn3 <;> dsimp only <;> omega
  · -- 16
    obtain ⟨y, hx⟩ := pv.2.2.1 h
    have ly := jy k hk' (Or.inr h) y (by rw [hx]; exact List.mem_cons_self)
    exact sing _ hx (n1 _ _ _ (by decide) (by omega) (by decide))
  · -- 17
    obtain ⟨tk, hx⟩ := pv.2.2.2.1 h
    have pp := tx2 tk
    exact sing _ hx (n1 _ _ _ (by decide) (by omega) (by decide))
  · exact lit [(16, 0, 0)] (by unfold vS; rw [h]; rfl) (n1 _ _ _ (by decide) (by decide) (by decide)) (by omega)
  · exact lit [(1, 5, 0)] (by unfold vS; rw [h]; rfl) (n1 _ _ _ (by decide) (by decide) (by decide)) (by omega)
  · -- 20
    obtain ⟨x, hx⟩ := pv.2.2.2.2 h
    have lx := labr k hk x (by rw [hx]; exact List.mem_singleton.2 rfl)
    exact sing _ hx (n1 _ _ _ (by decide) (by omega) (by decide))
end
