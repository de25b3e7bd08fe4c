/-! LOAD, 10: the model's commands are those that the component tells -/
section
variable {K P V sc ss t : Nat → Int} {cc cs : Nat → Nat} {gv : Nat → Nat} {n : Nat} {g0 c0 : am_H} {p : pr_S} {S : mi_S} {c' : ce_S} {f : Nat → List (Int × Int × Int)} {a : Nat → Nat × List Nat}
theorem chM_ch (k304 : c0 222 20 = 304) (Sk : sysS c0 30 32 = 20) (fr : Nat) : ∀ (m k : Nat), (∀ j, k ≤ j → j < k + m → c0 3 (fr + j) = g0 304 (fr + j)) → chM g0 fr m k = chE c0 (sysS c0 30 32) fr true m k
  | 0, _, _ => rfl
  | m + 1, k, h => by
    unfold chM chE
    rw [chM_ch k304 Sk fr m (k + 1) (fun j h1 h2 => h j (by omega) (by omega)), h k (Nat.le_refl _) (by omega), if_pos rfl, Sk, show (20 : Int).toNat = 20 from rfl, k304]
theorem cm_ok (X : LDX K P V sc ss t cs gv n g0 c0 p S c' f a) {N : Nat} (hN : S.1 254 33 = (N : Int)) (FT0 : FT 9 49 V S.1 c0 (p.1 0) (p.1 3)) (Y : SY 9 49 sc ss cc cs S.1 c0) (h297b : S.1 297 8 ≤ 60 ∧ ∀ q, q < 8 → S.1 297 (q + 1) ≤ S.1 297 8) :
    (∀ k, k < N → MK g0 k ∧ lM g0 k = lS K P V sc ss cs 49 c0 S.1 k) ∧ ∀ s, s < p.1 3 → (ckM g0 (8 + g0 263 s) (s : Int) ∧ (0 ≤ g0 263 s ∧ g0 263 s < 13)) ∧ hM g0 s = lH 49 c0 S.1 s := by
  have vh := fun {k : Nat} (hk : k < N) => kd0 X hN hk
  obtain ⟨⟨⟨LI, IFs, VRS, SBs⟩, ⟨FRs, JDs, WIs, SUs, CLs, NEs⟩, ⟨bt, cur, CIs, AIs⟩, Rv, Rm, pl0⟩, MVs, NN, Sk, Sy, TX, h297, hgv, h9x, h8x, hw⟩ := X
  obtain ⟨mv1, mv2, mv3, mv4, mv5, mv6, -⟩ := MVs
  obtain ⟨-, -, -, noi, nok⟩ := NN
  obtain ⟨tx1, tx2, tx3, tx4⟩ := TX
  obtain ⟨⟨k1, k2, k3, k4, k5⟩, n3, n15, n20, n10, n11⟩ := Sk
  have h14 : 0 ≤ S.1 254 14 := Rv.1.1.1
  have h14e : S.1 254 14 = (p.1 0 : Int) := Rv.2.1.1
  have p0 : p.1 0 ≤ 12 := Rv.2.1.2.2.2.1
  have h17 : S.1 254 17 = (p.1 3 : Int) := Rv.2.1.2.1
  have p3 : p.1 3 ≤ 60 := Rv.2.1.2.2.2.2.1
  have h25 : S.1 254 25 ≤ 1050 := by have := Rm.2.2.1; have := hw 2; omega
  have h39 : S.1 254 39 ≤ 525 := by have := Rm.2.1; have := hw 1; omega
  have hN5 : N ≤ 2100 := by have := Rm.1; have := hw 0; omega
  have m263 : g0 263 = S.1 263 := mv1 263 (by omega)
  have m297 : g0 297 = S.1 297 := mv1 297 (by omega)
  have m264 : g0 264 = S.1 264 := mv1 264 (by omega)
  have m277 : g0 277 = S.1 277 := mv1 277 (by omega)
  have kdn : ∀ v, kdv g0 v = kdv S.1 v ∧ nov g0 v = nov S.1 v := fun v => by
    unfold kdv nov
    rw [mv1 272 (by omega), mv1 264 (by omega), mv1 271 (by omega), mv1 275 (by omega)]
    exact ⟨rfl, rfl⟩
  have vrm : ∀ op x, vrM g0 op x = [(op, ce_lseg (kdv S.1 x.toNat), nov S.1 x.toNat)] := fun op x => by unfold vrM; rw [(kdn _).1, (kdn _).2]
  have r302 : ∀ s, s < p.1 3 → 0 ≤ g0 302 s ∧ g0 302 s ≤ 60 := fun s hs => by
    rw [mv6 s (by omega)]
    have := m_fst_rg (S := S.1) s s (s : Int) (Nat.le_refl _) (by omega) (by omega)
    omega
  have r263 : ∀ s, s < p.1 3 → 0 ≤ S.1 263 s ∧ S.1 263 s < (p.1 0 : Int) := fun s hs => by
    have := (Rv.1.2.1.2 s (by omega)).2.1
    omega
  have e222 : ∀ s, s < p.1 3 → clM g0 (8 + S.1 263 s) (s : Int) = c0 222 (49 + s) := fun s hs => by
    have := r263 s hs
    unfold clM
    rw [if_neg (by omega), Int.toNat_natCast, mv6 s (by omega), (FT0.2.2 s hs).2.1.2.2.2]
  refine ⟨fun k hk => ?_, fun s hs => ?_⟩
  · have hk' : (k : Int) < S.1 254 33 := by omega
    obtain ⟨⟨i1, i2, i3⟩, i4, i5, i6, i7, i8, i9, i10⟩ := IFs k hk'
    have m278 : S.1 277 k ≠ 4 → S.1 277 k ≠ 13 → g0 278 k = S.1 278 k := fun h1 h2 => by rw [mv2 k hk', if_neg (by omega)]
    obtain ⟨⟨sb1, sb2⟩, -⟩ := SBs k hk'
    obtain ⟨s, hs⟩ : ∃ s : Nat, S.1 281 k = (s : Int) := ⟨(S.1 281 k).toNat, (Int.toNat_of_nonneg sb1).symm⟩
    have m279 : S.1 277 k ≠ 1 → g0 279 k = S.1 279 k := (mv4 k hk').2.1
    -- variables
    have vkm : ∀ (x : Int) (v : Nat), vkS S.1 s x v → vkM g0 x := fun x v hv => by
      obtain ⟨q1, q2, q3, q4, q5, q6, q7, q8, q9⟩ := hv
      unfold vkM
      rw [q1, Int.toNat_natCast, mv1 275 (by omega), mv1 272 (by omega), mv1 271 (by omega)]
      exact ⟨by omega, by omega, by omega, fun z => by rw [q7 (by omega)]; omega⟩
    have vr : S.1 277 k = 4 ∨ S.1 277 k = 13 → ∃ v : Nat, vkS S.1 s (m_var V S.1 (S.1 281 k) (S.1 280 k).toNat) v := by
      intro h4
      have ni := noi k hk'
      unfold nt_i at ni
      rw [if_neg (by omega), if_pos h4] at ni
      obtain ⟨n1, n2⟩ := List.append_eq_nil_iff.1 ni
      rw [hs] at n1 n2 ⊢
      refine vk_of VRS.1 (by omega) (fun z => ?_) n2
      rw [if_pos z] at n1; cases n1
    have cal : S.1 277 k = 9 ∨ S.1 277 k = 10 → ∃ c : Nat, S.1 278 k = (c : Int) ∧ (c : Int) < S.1 254 39 := fun h => by
      obtain ⟨z1, z2⟩ := i7 h
      have z1 : 0 ≤ S.1 278 k := z1
      have z2 : S.1 278 k < S.1 254 39 := z2
      exact ⟨(S.1 278 k).toNat, by omega, by omega⟩
    have obj : S.1 277 k = 9 → ∀ c : Nat, S.1 278 k = (c : Int) → (c : Int) < S.1 254 39 → S.1 282 c ≠ -1 → m_var V S.1 (S.1 289 c) (S.1 282 c).toNat ≠ -1 → ∃ v : Nat, vkS S.1 s (m_var V S.1 (S.1 289 c) (S.1 282 c).toNat) v := fun h c hc hc2 c1 c2 => by
      have cl := CLs k hk' (Or.inl h)
      rw [hc, Int.toNat_natCast, hs] at cl
      obtain ⟨-, -, -, kk5⟩ := ck_of (nok c hc2)
      have n5 := kk5 c1
      rw [cl] at c2 n5 ⊢
      exact vk_of VRS.1 (by omega) c2 n5
    -- calls
    have clk : S.1 277 k = 10 → ∀ c : Nat, S.1 278 k = (c : Int) → (c : Int) < S.1 254 39 → ckM g0 (g0 287 c) (g0 288 c) ∧ (0 ≤ g0 284 c ∧ g0 284 c ≤ 100) ∧ clM g0 (g0 287 c) (g0 288 c) = c0 222 (sm 49 cs (m_kc K V sc S.1 c) (m_sof V ss S.1 (m_kc K V sc S.1 c) (S.1 283 c).toNat)).toNat := fun h c hc hc2 => by
      obtain ⟨w1, w2, -, w4⟩ := mv3 c hc2
      obtain ⟨⟨q1, q2⟩, ⟨q3, q3'⟩, q4, q5⟩ := ck_of (nok c hc2)
      obtain ⟨w4, w5⟩ := w4 q1
      have kc0 := m_kc_in (K := K) (V := V) (sc := sc) (S := S.1) (k := c) h14 (fun s hs => (Rv.1.2.1.2 s hs).2.1.1) (Rv.1.2.2.2.2.2 c hc2).1 q1
      have kcl := m_kc_lt (K := K) (V := V) (sc := sc) (S := S.1) (k := c) h14 (fun s hs => (Rv.1.2.1.2 s hs).2.1.2) (Rv.1.2.2.2.2.2 c hc2).1
      obtain ⟨u, u1, u2, u3⟩ := sof_in (V := V) (ss := ss) (S := S.1) (by omega) h297 kc0 q2
      rw [u1] at q3' ⊢
      rw [w1, w4, w5, u1]
      obtain ⟨q, hq⟩ : ∃ q : Nat, m_kc K V sc S.1 c = (q : Int) := ⟨(m_kc K V sc S.1 c).toNat, by omega⟩
      by_cases c8 : m_kc K V sc S.1 c < 8
      · obtain ⟨y1, y2⟩ := u2 c8
        rw [hq, Int.toNat_natCast] at y1 y2
        obtain ⟨li, nn, s1, s2, s3, s4, s5⟩ := Sy q u (by omega) y1 y2
        have e1 : S.1 284 c = S.1 301 u := by
          rw [← q3']; unfold m_mo; rw [if_pos c8, Int.toNat_natCast]
        have b1 := h297 q (by omega)
        have b2 := h297b.2 q (by omega)
        have ec := (Y.2.2.2.1 q u (by omega) y1 y2).2.2.2.2.2.2
        refine ⟨⟨by omega, by omega, fun _ => by rw [m297, hq, Int.toNat_natCast]; omega, fun z => by omega⟩, by omega, ?_⟩
        unfold clM sm
        rw [if_pos c8, if_neg (by omega), if_pos c8, m297, hq]
        simp only [Int.toNat_natCast]
        rw [ec]
      · have un := u3 (by omega)
        obtain ⟨g1, g2, g3⟩ := SUs.1 u (by omega)
        have e1 : S.1 284 c = S.1 267 u := by
          rw [← q3']; unfold m_mo; rw [if_neg c8, Int.toNat_natCast]
        have r3 := r302 u (by omega)
        -- the class of a sub
        have ecl : m_kc K V sc S.1 c = 8 + S.1 263 u := by
          unfold m_sof at u1
          rw [if_neg c8] at u1
          rcases p_find2_rg (S.1 263) (fun s => V (S.1 265 s).toNat) (m_kc K V sc S.1 c - 8) (V (S.1 283 c).toNat) (S.1 254 17).toNat 0 with w | ⟨-, -, w3, -⟩
          · rw [w] at u1; omega
          · rw [u1, Int.toNat_natCast] at w3; omega
        refine ⟨⟨by omega, by omega, fun z => by omega, fun _ => by rw [Int.toNat_natCast]; exact r3⟩, by omega, ?_⟩
        unfold sm
        rw [if_neg (by omega), if_neg c8, ecl, e222 u (by omega), show (((49 : Nat) : Int) + (u : Int)).toNat = 49 + u by omega]
    have mk : MK g0 k := by
      refine ⟨by omega, fun h => ?_, fun h => ?_, fun h => ?_, fun h z => ?_, fun h => ?_⟩
      · rw [m277] at h
        obtain ⟨y1, y2, y3, y4, y5⟩ := i5 h
        have y2 : (S.1 280 k).toNat < 1000 := y2
        have y3 : K (S.1 280 k).toNat = 4 := y3
        have y4 : 0 ≤ V (S.1 280 k).toNat := y4
        obtain ⟨x1, x2, x3⟩ := tx4 _ y2 y3
        have pp := tx2 (S.1 280 k).toNat
        obtain ⟨m4a, -, m4b⟩ := mv4 k hk'
        rw [m4a h, m4b (Or.inl h)]; omega
      · rw [m277] at h
        obtain ⟨v, hv⟩ := vr h
        rw [mv2 k hk', if_pos h]; exact vkm _ v hv
      · rw [m277] at h
        obtain ⟨c, c1, c2⟩ := cal h
        rw [m278 (by omega) (by omega)]; omega
      · rw [m277] at h
        obtain ⟨c, c1, c2⟩ := cal (Or.inl h)
        rw [m278 (by omega) (by omega), c1, Int.toNat_natCast] at z ⊢
        obtain ⟨w1, w2, w3, -⟩ := mv3 c c2
        rw [w2] at z
        unfold m_ko at z
        by_cases d1 : S.1 282 c = -1
        · rw [if_pos d1] at z; omega
        · rw [if_neg d1] at z
          by_cases d2 : m_var V S.1 (S.1 289 c) (S.1 282 c).toNat = -1
          · rw [if_pos d2] at z; omega
          · obtain ⟨v, hv⟩ := obj h c c1 c2 d1 d2
            rw [w3 d1]; exact vkm _ v hv
      · rw [m277] at h
        obtain ⟨c, c1, c2⟩ := cal (Or.inr h)
        rw [m278 (by omega) (by omega), c1, Int.toNat_natCast]
        obtain ⟨z1, z2, -⟩ := clk h c c1 c2
        exact ⟨z1, z2.1, z2.2⟩
    refine ⟨mk, ?_⟩
    have kinds : S.1 277 k = 0 ∨ S.1 277 k = 1 ∨ S.1 277 k = 3 ∨ S.1 277 k = 4 ∨ S.1 277 k = 5 ∨ S.1 277 k = 6 ∨ S.1 277 k = 7 ∨ S.1 277 k = 8 ∨ S.1 277 k = 9 ∨ S.1 277 k = 10 ∨ S.1 277 k = 11 ∨ S.1 277 k = 12 ∨ S.1 277 k = 13 ∨ S.1 277 k = 14 ∨ S.1 277 k = 15 ∨ S.1 277 k = 16 ∨ S.1 277 k = 17 ∨ S.1 277 k = 18 ∨ S.1 277 k = 19 ∨ S.1 277 k = 20 := by
      have key : ∀ z : Int, 0 ≤ z → z ≤ 20 → z ≠ 2 → z = 0 ∨ z = 1 ∨ z = 3 ∨ z = 4 ∨ z = 5 ∨ z = 6 ∨ z = 7 ∨ z = 8 ∨ z = 9 ∨ z = 10 ∨ z = 11 ∨ z = 12 ∨ z = 13 ∨ z = 14 ∨ z = 15 ∨ z = 16 ∨ z = 17 ∨ z = 18 ∨ z = 19 ∨ z = 20 := by intro z h1 h2 h3; omega
      exact key _ i1 i2 i3
    unfold lM
    rw [m277]
    rcases kinds with h | h | h | h | h | h | h | h | h | h | h | h | h | h | h | h | h | h | h | h
    · rw [if_pos h, lS_0 h, m278 (by omega) (by omega)]
    · -- 1
      rw [if_neg (by omega), if_pos h, lS_1 h, k2, show (15 : Int).toNat = 15 from rfl, n15]
      obtain ⟨y1, y2, y3, y4, y5⟩ := i5 h
      have y2 : (S.1 280 k).toNat < 1000 := y2
      have y3 : K (S.1 280 k).toNat = 4 := y3
      have y4 : 0 ≤ V (S.1 280 k).toNat := y4
      obtain ⟨x1, x2, x3⟩ := tx4 _ y2 y3
      have pp := tx2 (S.1 280 k).toNat
      obtain ⟨m4a, -, m4b⟩ := mv4 k hk'
      rw [m4a h, m4b (Or.inl h), chM_ch (c0 := c0) n20 k3 _ _ 0 (fun j h1 h2 => by rw [mv5 _ (by omega)]; exact (x3 j (by omega)).1)]
    · rw [if_neg (by omega), if_neg (by omega), if_neg (by omega), if_pos h, lS_3 h]
    · rw [if_neg (by omega), if_neg (by omega), if_neg (by omega), if_neg (by omega), if_pos h, lS_4 h, vrm, mv2 k hk', if_pos (Or.inl h)]
    · rw [if_neg (by omega), if_neg (by omega), if_neg (by omega), if_neg (by omega), if_neg (by omega), if_pos h, lS_5 h]
    · -- 6
      rw [if_neg (by omega), if_neg (by omega), if_neg (by omega), if_neg (by omega), if_neg (by omega), if_neg (by omega), if_pos h, lS_6 h, m278 (by omega) (by omega)]
      have po : pr_o (S.1 278 k) := i6 h
      unfold sysS at k4 k5
      rcases po with e | e | e | e | e | e | e | e | e <;> rw [e]
      · rfl
      · rfl
      · unfold opM opE opk
        rw [if_neg (by decide), if_pos rfl, show (if (42 : Int) = 43 then (2 : Int) else if (42 : Int) = 45 then 3 else if (42 : Int) = 38 then 5 else if (42 : Int) = 124 then 6 else if (42 : Int) = 60 then 9 else if (42 : Int) = 62 then 10 else if (42 : Int) = 61 then 8 else 0) = 0 from rfl, if_neg (by decide), if_pos rfl, if_pos (show (42 : Int) = 42 from rfl), k4, show (10 : Int).toNat = 10 from rfl, n10]
      · unfold opM opE opk
        rw [if_neg (by decide), if_neg (by decide), if_neg (by decide), if_neg (by decide), if_pos rfl, show (if (47 : Int) = 43 then (2 : Int) else if (47 : Int) = 45 then 3 else if (47 : Int) = 38 then 5 else if (47 : Int) = 124 then 6 else if (47 : Int) = 60 then 9 else if (47 : Int) = 62 then 10 else if (47 : Int) = 61 then 8 else 0) = 0 from rfl, if_neg (by decide), if_pos rfl, if_neg (show ¬ (47 : Int) = 42 by decide), k5, show (11 : Int).toNat = 11 from rfl, n11]
      · rfl
      · rfl
      · rfl
      · rfl
      · rfl
    · rw [if_neg (by omega), if_neg (by omega), if_neg (by omega), if_neg (by omega), if_neg (by omega), if_neg (by omega), if_neg (by omega), if_pos h, lS_7 h]
    · rw [if_neg (by omega), if_neg (by omega), if_neg (by omega), if_neg (by omega), if_neg (by omega), if_neg (by omega), if_neg (by omega), if_neg (by omega), if_pos h, lS_8 h]
    · -- 9
      rw [if_neg (by omega), if_neg (by omega), if_neg (by omega), if_neg (by omega), if_neg (by omega), if_neg (by omega), if_neg (by omega), if_neg (by omega), if_neg (by omega), if_pos h, lS_9 h]
      obtain ⟨c, c1, c2⟩ := cal (Or.inl h)
      rw [m278 (by omega) (by omega), c1, Int.toNat_natCast]
      obtain ⟨w1, w2, w3, -⟩ := mv3 c c2
      rw [w2]
      unfold oL m_ko
      by_cases d1 : S.1 282 c = -1
      · rw [if_pos d1, if_pos d1, if_neg (by decide), if_pos rfl]; rfl
      · rw [if_neg d1, if_neg d1]
        by_cases d2 : m_var V S.1 (S.1 289 c) (S.1 282 c).toNat = -1
        · rw [if_pos d2, if_pos d2, if_neg (by decide), if_neg (by decide)]; rfl
        · rw [if_neg d2, if_neg d2, if_pos rfl, if_neg (by decide), vrm, w3 d1]; rfl
    · -- 10
      rw [if_neg (by omega), if_neg (by omega), if_neg (by omega), if_neg (by omega), if_neg (by omega), if_neg (by omega), if_neg (by omega), if_neg (by omega), if_neg (by omega), if_neg (by omega), if_pos h, lS_10 h]
      obtain ⟨c, c1, c2⟩ := cal (Or.inr h)
      rw [m278 (by omega) (by omega), c1, Int.toNat_natCast]
      obtain ⟨w1, w2, -, -⟩ := mv3 c c2
      rw [(clk h c c1 c2).2.2, w1, w2]
    · rw [if_neg (by omega), if_neg (by omega), if_neg (by omega), if_neg (by omega), if_neg (by omega), if_neg (by omega), if_neg (by omega), if_neg (by omega), if_neg (by omega), if_neg (by omega), if_neg (by omega), if_pos h, lS_11 h]
    · rw [if_neg (by omega), if_neg (by omega), if_neg (by omega), if_neg (by omega), if_neg (by omega), if_neg (by omega), if_neg (by omega), if_neg (by omega), if_neg (by omega), if_neg (by omega), if_neg (by omega), if_neg (by omega), if_pos h, lS_12 h]
    · rw [if_neg (by omega), if_neg (by omega), if_neg (by omega), if_neg (by omega), if_neg (by omega), if_neg (by omega), if_neg (by omega), if_neg (by omega), if_neg (by omega), if_neg (by omega), if_neg (by omega), if_neg (by omega), if_neg (by omega), if_pos h, lS_13 h, vrm, mv2 k hk', if_pos (Or.inr h)]
    · rw [if_neg (by omega), if_neg (by omega), if_neg (by omega), if_neg (by omega), if_neg (by omega), if_neg (by omega), if_neg (by omega), if_neg (by omega), if_neg (by omega), if_neg (by omega), if_neg (by omega), if_neg (by omega), if_neg (by omega), if_neg (by omega), if_pos h, lS_14 h]
    · rw [if_neg (by omega), if_neg (by omega), if_neg (by omega), if_neg (by omega), if_neg (by omega), if_neg (by omega), if_neg (by omega), if_neg (by omega), if_neg (by omega), if_neg (by omega), if_neg (by omega), if_neg (by omega), if_neg (by omega), if_neg (by omega), if_neg (by omega), if_pos h, lS_15 h, m279 (by omega)]
    · rw [if_neg (by omega), if_neg (by omega), if_neg (by omega), if_neg (by omega), if_neg (by omega), if_neg (by omega), if_neg (by omega), if_neg (by omega), if_neg (by omega), if_neg (by omega), if_neg (by omega), if_neg (by omega), if_neg (by omega), if_neg (by omega), if_neg (by omega), if_neg (by omega), if_pos h, lS_16 h, m279 (by omega)]
    · rw [if_neg (by omega), if_neg (by omega), if_neg (by omega), if_neg (by omega), if_neg (by omega), if_neg (by omega), if_neg (by omega), if_neg (by omega), if_neg (by omega), if_neg (by omega), if_neg (by omega), if_neg (by omega), if_neg (by omega), if_neg (by omega), if_neg (by omega), if_neg (by omega), if_neg (by omega), if_pos h, lS_17 h]
    · rw [if_neg (by omega), if_neg (by omega), if_neg (by omega), if_neg (by omega), if_neg (by omega), if_neg (by omega), if_neg (by omega), if_neg (by omega), if_neg (by omega), if_neg (by omega), if_neg (by omega), if_neg (by omega), if_neg (by omega), if_neg (by omega), if_neg (by omega), if_neg (by omega), if_neg (by omega), if_neg (by omega), if_pos h, lS_18 h]
    · rw [if_neg (by omega), if_neg (by omega), if_neg (by omega), if_neg (by omega), if_neg (by omega), if_neg (by omega), if_neg (by omega), if_neg (by omega), if_neg (by omega), if_neg (by omega), if_neg (by omega), if_neg (by omega), if_neg (by omega), if_neg (by omega), if_neg (by omega), if_neg (by omega), if_neg (by omega), if_neg (by omega), if_neg (by omega), if_pos h, lS_19 h]
    · rw [if_neg (by omega), if_neg (by omega), if_neg (by omega), if_neg (by omega), if_neg (by omega), if_neg (by omega), if_neg (by omega), if_neg (by omega), if_neg (by omega), if_neg (by omega), if_neg (by omega), if_neg (by omega), if_neg (by omega), if_neg (by omega), if_neg (by omega), if_neg (by omega), if_neg (by omega), if_neg (by omega), if_neg (by omega), if_neg (by omega), if_pos h, lS_20 h, m278 (by omega) (by omega)]
  · have r := r263 s hs
    refine ⟨⟨⟨by rw [m263]; omega, by omega, fun z => by rw [m263] at z; omega, fun _ => by rw [Int.toNat_natCast]; exact r302 s hs⟩, by rw [m263]; omega⟩, ?_⟩
    unfold hM lH
    rw [m263, m264, mv1 268 (by omega), mv1 262 (by omega), e222 s hs, k1, show (3 : Int).toNat = 3 from rfl, n3]
    have r62 := SUs.2.1 (S.1 263 s).toNat (by omega)
    by_cases z3 : S.1 264 s = 3
    · rw [if_pos z3, if_pos z3]
    · rw [if_neg z3, if_neg z3]
      by_cases z1 : S.1 264 s = 1
      · rw [if_pos z1, if_pos z1]
        by_cases z : S.1 262 (S.1 263 s).toNat < 1
        · rw [if_pos z, if_pos (by omega)]
        · rw [if_neg z]
          by_cases z' : S.1 262 (S.1 263 s).toNat ≤ 1
          · rw [if_pos z', show S.1 262 (S.1 263 s).toNat = 1 by omega]
          · rw [if_neg z']
      · rw [if_neg z1, if_neg z1]
/-- numbers of commands fit -/
def r16 (v : Int × Int × Int) : Prop := (-32768 ≤ v.2.1 ∧ v.2.1 ≤ 32767) ∧ -32768 ≤ v.2.2 ∧ v.2.2 ≤ 32767
theorem r16_of {a b c : Int} (h1 : -32768 ≤ b ∧ b ≤ 32767) (h2 : -32768 ≤ c ∧ c ≤ 32767) : r16 (a, b, c) := ⟨h1, h2⟩
theorem r16_vr {g : am_H} {x op : Int} (K : vkM g x) : ∀ v ∈ vrM g op x, r16 v := by
  obtain ⟨k1, k2, k3, -⟩ := K
  intro v hv
  unfold vrM at hv
  rw [List.mem_singleton] at hv
  subst hv
  refine r16_of ?_ ?_
  · unfold ce_lseg; (repeat' split) <;> omega
  · unfold nov; split <;> omega
theorem r16_ch {g : am_H} {p : Nat} : ∀ (m k : Nat), (∀ j, k ≤ j → j < k + m → 0 ≤ g 304 (p + j) ∧ g 304 (p + j) ≤ 255) → ∀ v ∈ chM g p m k, r16 v
  | 0, _, _, v, hv => by cases hv
  | m + 1, k, H, v, hv => by
    unfold chM at hv
    have h0 := H k (Nat.le_refl _) (by omega)
    rcases List.mem_cons.1 hv with rfl | hv
    · exact r16_of (by omega) (by omega)
    · rcases List.mem_cons.1 hv with rfl | hv
      · exact r16_of (by omega) (by omega)
      · exact r16_ch m (k + 1) (fun j h1 h2 => H j (by omega) (by omega)) v hv
theorem clM_rg {g : am_H} {q s : Int} (K : ckM g q s) : -32768 ≤ clM g q s ∧ clM g q s ≤ 32767 := by
  obtain ⟨⟨k1, k2⟩, ⟨k3, k4⟩, k5, k6⟩ := K
  unfold clM
  split
  · have := k5 (by assumption); omega
  · have := k6 (by omega); omega
theorem mem_ite {α : Type} {c : Prop} [Decidable c] {A B : List α} {v : α} (h : v ∈ (if c then A else B)) : (c ∧ v ∈ A) ∨ (¬ c ∧ v ∈ B) := by
  by_cases z : c
  · rw [if_pos z] at h; exact Or.inl ⟨z, h⟩
  · rw [if_neg z] at h; exact Or.inr ⟨z, h⟩
theorem r16_lM {g : am_H} {k : Nat} (M : MK g k) (h0 : g 277 k = 0 → g 278 k ≤ 32767) (h1 : g 277 k = 1 → g 279 k ≤ 300 ∧ ∀ j, j < (g 279 k).toNat → 0 ≤ g 304 ((g 303 k + 1).toNat + j) ∧ g 304 ((g 303 k + 1).toNat + j) ≤ 255) (h15 : g 277 k = 15 ∨ g 277 k = 16 → 0 ≤ g 279 k ∧ g 279 k ≤ 4300) (h20 : g 277 k = 20 → 0 ≤ g 278 k ∧ g 278 k ≤ 4300) : ∀ v ∈ lM g k, r16 v := by
  obtain ⟨m0, m1, m4, m9, m9', m10⟩ := M
  have one : ∀ {a b c : Int} {v : Int × Int × Int}, v ∈ [(a, b, c)] → (-32768 ≤ b ∧ b ≤ 32767) → (-32768 ≤ c ∧ c ≤ 32767) → r16 v := fun {a b c v} hv q1 q2 => by
    rw [List.mem_singleton] at hv; subst hv; exact r16_of q1 q2
  intro v hv
  unfold lM at hv
  rcases mem_ite hv with ⟨z0, hv⟩ | ⟨z0, hv⟩
  · rcases mem_ite hv with ⟨z1, hv⟩ | ⟨z1, hv⟩
    · simp only [List.mem_cons, List.not_mem_nil, or_false] at hv
      rcases hv with rfl | rfl <;> exact r16_of (by omega) (by omega)
    · have := h0 (by assumption)
      exact one hv (by omega) (by omega)
  rcases mem_ite hv with ⟨z0, hv⟩ | ⟨z0, hv⟩
  · obtain ⟨x1, x2⟩ := h1 (by assumption)
    have := (m1 (by assumption)).1
    rcases List.mem_cons.1 hv with rfl | hv
    · exact r16_of (by omega) (by omega)
    rcases List.mem_cons.1 hv with rfl | hv
    · exact r16_of (by omega) (by omega)
    exact r16_ch _ _ (fun j _ h => x2 j (by omega)) v hv
  rcases mem_ite hv with ⟨z0, hv⟩ | ⟨z0, hv⟩
  · cases hv
  rcases mem_ite hv with ⟨z0, hv⟩ | ⟨z0, hv⟩
  · exact one hv (by omega) (by omega)
  rcases mem_ite hv with ⟨z0, hv⟩ | ⟨z0, hv⟩
  · exact r16_vr (m4 (Or.inl (by assumption))) v hv
  rcases mem_ite hv with ⟨z0, hv⟩ | ⟨z0, hv⟩
  · simp only [List.mem_cons, List.not_mem_nil, or_false] at hv
    rcases hv with rfl | rfl | rfl <;> exact r16_of (by omega) (by omega)
  rcases mem_ite hv with ⟨z0, hv⟩ | ⟨z0, hv⟩
  · unfold opM at hv
    rcases mem_ite hv with ⟨z1, hv⟩ | ⟨z1, hv⟩
    · exact one hv (by omega) (by omega)
    rcases mem_ite hv with ⟨z1, hv⟩ | ⟨z1, hv⟩
    · exact one hv (by omega) (by omega)
    rcases mem_ite hv with ⟨z1, hv⟩ | ⟨z1, hv⟩
    · exact one hv (by omega) (by omega)
    rcases mem_ite hv with ⟨z1, hv⟩ | ⟨z1, hv⟩
    · exact one hv (by omega) (by omega)
    rcases mem_ite hv with ⟨z1, hv⟩ | ⟨z1, hv⟩
    · exact one hv (by omega) (by omega)
    rcases mem_ite hv with ⟨z1, hv⟩ | ⟨z1, hv⟩
    · exact one hv (by omega) (by omega)
    rcases mem_ite hv with ⟨z1, hv⟩ | ⟨z1, hv⟩
    · exact one hv (by omega) (by omega)
    rcases mem_ite hv with ⟨z1, hv⟩ | ⟨z1, hv⟩
    · exact one hv (by omega) (by omega)
    · exact one hv (by omega) (by omega)
  rcases mem_ite hv with ⟨z0, hv⟩ | ⟨z0, hv⟩
  · exact one hv (by omega) (by omega)
  rcases mem_ite hv with ⟨z0, hv⟩ | ⟨z0, hv⟩
  · exact one hv (by omega) (by omega)
  rcases mem_ite hv with ⟨z0, hv⟩ | ⟨z0, hv⟩
  · rcases List.mem_append.1 hv with hv | hv
    · rcases mem_ite hv with ⟨z1, hv⟩ | ⟨z1, hv⟩
      · exact r16_vr (m9' (by assumption) (by assumption)) v hv
      · cases hv
    · rcases mem_ite hv with ⟨z1, hv⟩ | ⟨z1, hv⟩
      · exact one hv (by omega) (by omega)
      · cases hv
  rcases mem_ite hv with ⟨z0, hv⟩ | ⟨z0, hv⟩
  · obtain ⟨x1, x2⟩ := m10 (by assumption)
    have := clM_rg x1
    refine one hv (by omega) ?_
    split <;> omega
  rcases mem_ite hv with ⟨z0, hv⟩ | ⟨z0, hv⟩
  · cases hv
  rcases mem_ite hv with ⟨z0, hv⟩ | ⟨z0, hv⟩
  · cases hv
  rcases mem_ite hv with ⟨z0, hv⟩ | ⟨z0, hv⟩
  · exact r16_vr (m4 (Or.inr (by assumption))) v hv
  rcases mem_ite hv with ⟨z0, hv⟩ | ⟨z0, hv⟩
  · simp only [List.mem_cons, List.not_mem_nil, or_false] at hv
    rcases hv with rfl | rfl | rfl | rfl <;> exact r16_of (by omega) (by omega)
  rcases mem_ite hv with ⟨z0, hv⟩ | ⟨z0, hv⟩
  · have := h15 (Or.inl (by assumption))
    simp only [List.mem_cons, List.not_mem_nil, or_false] at hv
    rcases hv with rfl | rfl | rfl <;> exact r16_of (by omega) (by omega)
  rcases mem_ite hv with ⟨z0, hv⟩ | ⟨z0, hv⟩
  · have := h15 (Or.inr (by assumption))
    exact one hv (by omega) (by omega)
  rcases mem_ite hv with ⟨z0, hv⟩ | ⟨z0, hv⟩
  · cases hv
  rcases mem_ite hv with ⟨z0, hv⟩ | ⟨z0, hv⟩
  · exact one hv (by omega) (by omega)
  rcases mem_ite hv with ⟨z0, hv⟩ | ⟨z0, hv⟩
  · exact one hv (by omega) (by omega)
  rcases mem_ite hv with ⟨z0, hv⟩ | ⟨z0, hv⟩
  · have := h20 (by assumption)
    exact one hv (by omega) (by omega)
  · cases hv
theorem cm_rg (X : LDX K P V sc ss t cs gv n g0 c0 p S c' f a) {N : Nat} (hN : S.1 254 33 = (N : Int)) (FT0 : FT 9 49 V S.1 c0 (p.1 0) (p.1 3)) (Y : SY 9 49 sc ss cc cs S.1 c0) (h297b : S.1 297 8 ≤ 60 ∧ ∀ q, q < 8 → S.1 297 (q + 1) ≤ S.1 297 8) :
    (∀ k, k < N → ∀ v ∈ lS K P V sc ss cs 49 c0 S.1 k, r16 v) ∧ ∀ s, s < p.1 3 → ∀ v ∈ lH 49 c0 S.1 s, r16 v := by
  obtain ⟨c1, c2⟩ := cm_ok X hN FT0 Y h297b
  obtain ⟨⟨⟨LI, IFs, VRS, SBs⟩, ⟨FRs, JDs, WIs, SUs, CLs, NEs⟩, ⟨bt, cur, CIs, AIs⟩, Rv, Rm, pl0⟩, MVs, NN, Sk, Sy, TX, h297, hgv, h9x, h8x, hw⟩ := X
  obtain ⟨mv1, mv2, mv3, mv4, mv5, mv6, -⟩ := MVs
  obtain ⟨tx1, tx2, tx3, tx4⟩ := TX
  have m277 : g0 277 = S.1 277 := mv1 277 (by omega)
  refine ⟨fun k hk => ?_, fun s hs => ?_⟩
  · obtain ⟨M, e⟩ := c1 k hk
    rw [← e]
    have hk' : (k : Int) < S.1 254 33 := by omega
    obtain ⟨⟨i1, i2, i3⟩, i4, i5, i6, i7, i8, i9, i10⟩ := IFs k hk'
    have m278 : S.1 277 k ≠ 4 → S.1 277 k ≠ 13 → g0 278 k = S.1 278 k := fun h1 h2 => by rw [mv2 k hk', if_neg (by omega)]
    refine r16_lM M (fun h => ?_) (fun h => ?_) (fun h => ?_) (fun h => ?_) <;> rw [m277] at h
    · rw [m278 (by omega) (by omega)]
      rcases i4 h with z | z | ⟨i, z1, z2, z3⟩
      · have z : S.1 278 k = -1 := z
        omega
      · have z : S.1 278 k = 0 := z
        omega
      · have z3 : V i = S.1 278 k := z3
        have := tx3 i z1 z2
        omega
    · obtain ⟨y1, y2, y3, y4, y5⟩ := i5 h
      have y2 : (S.1 280 k).toNat < 1000 := y2
      have y3 : K (S.1 280 k).toNat = 4 := y3
      have y4 : 0 ≤ V (S.1 280 k).toNat := y4
      have y5 : V (S.1 280 k).toNat ≤ 300 := y5
      obtain ⟨x1, x2, x3⟩ := tx4 _ y2 y3
      have pp := tx2 (S.1 280 k).toNat
      obtain ⟨m4a, -, m4b⟩ := mv4 k hk'
      rw [m4a h, m4b (Or.inl h)]
      refine ⟨y5, fun j hj => ?_⟩
      rw [mv5 _ (by omega)]
      exact (x3 j hj).2
    · rw [(mv4 k hk').2.1 (by omega)]
      exact i9 h
    · rw [m278 (by omega) (by omega)]
      exact i10 h
  · obtain ⟨⟨ck, kr⟩, e⟩ := c2 s hs
    rw [← e]
    obtain ⟨s1, s2, s3⟩ := SUs.1 s hs
    have r3 : 0 ≤ S.1 263 s ∧ S.1 263 s < (p.1 0 : Int) := by
      have := (Rv.1.2.1.2 s (by have := Rv.2.1.2.1; omega)).2.1
      have := Rv.2.1.1
      omega
    have r62 := SUs.2.1 (S.1 263 s).toNat (by omega)
    have cc := clM_rg ck
    intro v hv
    unfold hM at hv
    rw [mv1 263 (by omega), mv1 264 (by omega), mv1 268 (by omega), mv1 262 (by omega)] at hv
    rw [mv1 263 (by omega)] at cc
    rcases List.mem_cons.1 hv with rfl | hv
    · exact r16_of (by omega) (by omega)
    split at hv
    · simp only [List.mem_cons, List.not_mem_nil, or_false] at hv
      rcases hv with rfl | rfl <;> exact r16_of (by omega) (by omega)
    split at hv
    · simp only [List.mem_cons, List.not_mem_nil, or_false] at hv
      rcases hv with rfl | rfl | rfl
      · refine r16_of (by omega) ?_
        split <;> omega
      · exact r16_of (by omega) (by omega)
      · exact r16_of (by omega) (by omega)
    · cases hv
end
