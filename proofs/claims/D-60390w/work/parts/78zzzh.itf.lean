/-! LOAD, 7: items and subs with their places -/
theorem lpd_0 : ∀ {vs : List vl} {pd : Nat}, vs ≠ [] → (∀ l ∈ vs, l.1 ≠ 20) → lpd pd vs = 0
  | [], _, h, _ => absurd rfl h
  | [l], pd, _, h => by
    show npd l = 0
    unfold npd
    rw [if_neg (h l (List.mem_cons_self ..))]
  | l :: m :: r, pd, _, h => by
    show lpd (npd l) (m :: r) = 0
    exact lpd_0 (List.cons_ne_nil _ _) (fun x hx => h x (List.mem_cons_of_mem _ hx))
section
variable {K P V sc ss t : Nat → Int} {cs : Nat → Nat} {gv : Nat → Nat} {n : Nat} {g0 c0 : am_H} {p : pr_S} {S : mi_S} {c' : ce_S} {f : Nat → List (Int × Int × Int)} {a : Nat → Nat × List Nat}
/-- where an item's words begin -/
def qpl (c0 S : am_H) (f : Nat → List (Int × Int × Int)) (w0 k : Nat) : Nat × Nat := lfold (w0, 0) (tU (hvl c0 S) (ivl f) (S 269) ((S 281 k).toNat + 1) k)
variable {h0 : am_H} {lab fs : Nat → Nat} {w0 N : Nat}
theorem pg_sub (X : LDX K P V sc ss t cs gv n g0 c0 p S c' f a) (hN : S.1 254 33 = (N : Int)) (U : LU h0 lab fs gv 1 (w0, 0) (tU (hvl c0 S.1) (ivl f) (S.1 269) (p.1 3) N)) {u : Nat} (hu : u < p.1 3) : SubF lab fs gv h0 g0 a (qpl c0 S.1 f w0) N 49 u := by
  obtain ⟨v1, v2, v3, v4, v5, v6⟩ := vH_cv X hu
  obtain ⟨hqp, f1, f2, f3, f4, f5, f6⟩ := sb_fact X hN
  obtain ⟨r, er⟩ := tU_head2 (hd := hvl c0 S.1) (it := ivl f) (fi := S.1 269) (N := N) (n3 := p.1 3) hu
  have LG := (lay_ok X hN).1
  have gl := gv_le X hu
  obtain ⟨⟨⟨LI, IFs, VRS, SBs⟩, ⟨FRs, JDs, WIs, SUs, CLs, NEs⟩, ⟨bt, cur, CIs, AIs⟩, Rv, Rm, pl0⟩, MVs, NN, Sk, Sy, TX, h297, hgv, h9x, h8x, hw⟩ := X
  have mm := MVs.1
  rw [er, v1] at U LG
  obtain ⟨U1, -⟩ := LU.app U
  obtain ⟨-, U2⟩ := LU.app U1
  obtain ⟨⟨c1, c2, c3⟩, -, c4, U3⟩ := U2
  have pd0 : lpd 0 (tU (hvl c0 S.1) (ivl f) (S.1 269) u (S.1 269 u).toNat) = 0 := by
    rw [LGo_app, LGo_app] at LG
    have := LG.1.2.1.2.2.2.2.1 rfl
    exact this.2.2.2
  have eq : lfold (w0, 0) (tU (hvl c0 S.1) (ivl f) (S.1 269) u (S.1 269 u).toNat) = (fs (49 + u), 0) := by
    refine Prod.ext ?_ ?_
    · exact c3.symm
    · rw [lpd_fold]; exact pd0
  rw [eq] at c1 c2 c3 c4 U3
  obtain ⟨s1, s2, s3⟩ := SUs.1 u hu
  have p3 : p.1 3 ≤ 60 := Rv.2.1.2.2.2.2.1
  have h269 := f1 u hu
  have ne : (S.1 269 u).toNat < sbE (S.1 269) (p.1 3) N u := by
    unfold sbE
    by_cases z : u + 1 < p.1 3
    · rw [if_pos z]
      have := NEs.1 u (by omega)
      have := f1 (u + 1) z
      omega
    · rw [if_neg z]
      have := NEs.2 (by omega) (by omega)
      rw [hqp, show p.1 3 - 1 = u by omega, hN] at this
      omega
  obtain ⟨k1, k2⟩ := f4 u (S.1 269 u).toNat hu (Nat.le_refl _) ne
  obtain ⟨q1, q2⟩ := (Rv.1.2.1.2 u (by rw [Rv.2.1.2.1]; omega)).2.1
  have r62 := SUs.2.1 (S.1 263 u).toNat (by have := Rv.2.1.1; omega)
  have p0 : p.1 0 ≤ 12 := Rv.2.1.2.2.2.1
  refine ⟨(S.1 267 u).toNat, (S.1 268 u).toNat, (S.1 269 u).toNat, ⟨by omega, ⟨c1, c2, rfl⟩, c4⟩, ?_, ⟨by rw [mm 267 (by omega)]; omega, by omega, by rw [mm 268 (by omega)]; omega, by omega⟩, by rw [mm 264 (by omega)]; exact s3, by rw [mm 269 (by omega)]; omega, ⟨k1, by rw [mm 281 (by omega)]; exact k2, AIs.2.2.2.2.2.2 u (by omega)⟩, fun _ => ⟨by rw [mm 263 (by omega)]; have := Rv.2.1.1; omega, by rw [mm 262 (by omega), mm 263 (by omega)]; omega⟩, U3, ?_⟩
  · rw [mm 264 (by omega), hgv u hu]
  · unfold qpl
    rw [k2, Int.toNat_natCast, tU_sub, Nat.sub_self]
    show lfold (w0, 0) (_ ++ hvl c0 S.1 u ++ []) = _
    rw [List.append_nil, lfold_app, eq, v1]
    rfl
/-- items -/
theorem pg_item (X : LDX K P V sc ss t cs gv n g0 c0 p S c' f a) (hN : S.1 254 33 = (N : Int)) (U : LU h0 lab fs gv 1 (w0, 0) (tU (hvl c0 S.1) (ivl f) (S.1 269) (p.1 3) N)) : ∀ k, k < N → ItF lab fs gv h0 g0 a P (fun k => frs S.1 k = true) (qpl c0 S.1 f w0) N 49 k := by
  have SF := fun {u : Nat} (hu : u < p.1 3) => pg_sub X hN U hu
  have kd := fun {k : Nat} (hk : k < N) => kd0 X hN hk
  have il := fun {k : Nat} (hk : k < N) => it_lgo X hN hk
  obtain ⟨hqp, f1, f2, f3, f4, f5, f6⟩ := sb_fact X hN
  have LG := (lay_ok X hN).1
  have v4 := fun {s : Nat} (hs : s < p.1 3) => (vH_cv X hs).2.2.2.1
  obtain ⟨⟨⟨LI, IFs, VRS, SBs⟩, ⟨FRs, JDs, WIs, SUs, CLs, NEs⟩, ⟨bt, cur, CIs, AIs⟩, Rv, Rm, pl0⟩, MVs, NN, Sk, Sy, TX, h297, hgv, h9x, h8x, hw⟩ := X
  have mm := MVs.1
  have hN5 : N ≤ 2100 := by have := Rm.1; have := hw 0; omega
  have m277 : g0 277 = S.1 277 := mm 277 (by omega)
  have m281 : g0 281 = S.1 281 := mm 281 (by omega)
  -- next items
  have nx : ∀ k, k < N → S.1 277 k ≠ 18 → k + 1 < N ∧ S.1 281 (k + 1) = S.1 281 k ∧ qpl c0 S.1 f w0 (k + 1) = lfold (qpl c0 S.1 f w0 k) (ivl f k) := by
    intro k hk h18
    obtain ⟨-, b3, -⟩ := SBs k (by omega)
    rcases b3 with z | ⟨z1, z2⟩
    · exact absurd z h18
    · have h1 : k + 1 < N := by
        by_cases z : (k : Int) + 1 = S.1 254 33
        · have := (z2 z).1; omega
        · omega
      have e := z1 (by omega)
      refine ⟨h1, e, ?_⟩
      unfold qpl
      rw [e, tU_next (f3 k hk).1, lfold_app]
  -- each item's words
  have lu : ∀ k, k < N → LU h0 lab fs gv 1 (qpl c0 S.1 f w0 k) (ivl f k) ∧ ((qpl c0 S.1 f w0 k).2 ≠ 0 → h0 16 (qpl c0 S.1 f w0 k).1 = ((qpl c0 S.1 f w0 k).2 : Int)) := by
    intro k hk
    obtain ⟨b1, b2, b3, b4⟩ := f3 k hk
    obtain ⟨r, er⟩ := tU_item (hd := hvl c0 S.1) (it := ivl f) (fi := S.1 269) (N := N) (n3 := p.1 3) (s := (S.1 281 k).toNat) (k := k) b3 b1 b2
    have U' := U
    rw [er, List.append_assoc] at U'
    obtain ⟨-, U2⟩ := LU.app U'
    refine ⟨(LU.app U2).1, fun hne => ?_⟩
    have U2 : LU h0 lab fs gv 1 (qpl c0 S.1 f w0 k) (ivl f k ++ r) := U2
    cases hl : ivl f k ++ r with
    | nil =>
      exfalso
      apply hne
      unfold qpl
      rw [lpd_fold]
      -- nothing is behind it: the end
      have e0 : tU (hvl c0 S.1) (ivl f) (S.1 269) (p.1 3) N = tU (hvl c0 S.1) (ivl f) (S.1 269) ((S.1 281 k).toNat + 1) k := by rw [er, List.append_assoc, hl, List.append_nil]
      have ek : ivl f k = [] := (List.append_eq_nil_iff.1 hl).1
      -- the last item of the sub is a return, whose line is there
      have s0 := f6 (S.1 281 k).toNat b3 (by omega)
      obtain ⟨g1, g2⟩ := f4 (S.1 281 k).toNat (sbE (S.1 269) (p.1 3) N (S.1 281 k).toNat - 1) b3 (by omega) (by omega)
      obtain ⟨s', -, -, D⟩ := kd g1
      unfold KD0 at D
      rw [m277, s0] at D
      have l16 : ivl f (sbE (S.1 269) (p.1 3) N (S.1 281 k).toNat - 1) = [(16, 0, 0)] := by
        rcases D with ⟨z, -⟩ | ⟨z, -⟩ | ⟨z, -⟩ | ⟨z, -⟩ | ⟨z, -⟩ | ⟨z, -⟩ | ⟨z, -⟩ | ⟨z, -⟩ | ⟨z, -⟩ | ⟨z, -⟩ | ⟨z, -⟩ | ⟨z, -⟩ | ⟨z, -⟩ | ⟨z, -⟩ | ⟨z, -⟩ | ⟨z, -⟩ | ⟨z, -⟩ | ⟨-, z, -⟩ | ⟨z, -⟩ | ⟨z, -⟩
        all_goals first
          | exact z
          | (exfalso; revert z; decide)
      exfalso
      obtain ⟨r2, er2⟩ := tU_item (hd := hvl c0 S.1) (it := ivl f) (fi := S.1 269) (N := N) (n3 := p.1 3) (s := (S.1 281 k).toNat) (k := sbE (S.1 269) (p.1 3) N (S.1 281 k).toNat - 1) b3 (by omega) (by omega)
      have ln := congrArg List.length (e0.symm.trans er2)
      rw [l16, tU_sub, tU_sub] at ln
      have mono : ∀ x y, x ≤ y → (rgn (ivl f) (S.1 269 (S.1 281 k).toNat).toNat x).length ≤ (rgn (ivl f) (S.1 269 (S.1 281 k).toNat).toNat y).length := by
        intro x y hxy
        rw [show y = x + (y - x) by omega, rgn_add, List.length_append]; omega
      have := mono (k - (S.1 269 (S.1 281 k).toNat).toNat) (sbE (S.1 269) (p.1 3) N (S.1 281 k).toNat - 1 - (S.1 269 (S.1 281 k).toNat).toNat) (by omega)
      have l1 : [((16 : Nat), (0 : Nat), (0 : Nat))].length = 1 := rfl
      simp only [List.length_append, l1] at ln
      omega
    | cons l ls =>
      rw [hl] at U2
      exact LU_pd U2 hne
  -- a value on the stack: no watch waits
  have z0 : ∀ m s, s < p.1 3 → (S.1 269 s).toNat + m < sbE (S.1 269) (p.1 3) N s → 1 ≤ (a ((S.1 269 s).toNat + m)).1 → (qpl c0 S.1 f w0 ((S.1 269 s).toNat + m)).2 = 0 := by
    intro m
    induction m with
    | zero =>
      intro s hs hm h1
      rw [Nat.add_zero, AIs.2.2.2.2.2.2 s (by omega)] at h1
      exact absurd h1 (by decide)
    | succ m ih =>
      intro s hs hm h1
      have IH := ih s hs (by omega)
      obtain ⟨kN, ks⟩ := f4 s ((S.1 269 s).toNat + m) hs (by omega) (by omega)
      obtain ⟨kN1, ks1⟩ := f4 s ((S.1 269 s).toNat + (m + 1)) hs (by omega) hm
      obtain ⟨k, hk⟩ : ∃ k, k = (S.1 269 s).toNat + m := ⟨_, rfl⟩
      rw [← hk] at IH kN ks
      rw [show (S.1 269 s).toNat + (m + 1) = k + 1 by omega] at h1 kN1 ks1 ⊢
      have e : qpl c0 S.1 f w0 (k + 1) = lfold (qpl c0 S.1 f w0 k) (ivl f k) := by
        unfold qpl
        rw [ks1, ks, tU_next (by rw [Int.toNat_natCast]; omega), lfold_app]
      have ne0 : ∀ L, ivl f k = L → L ≠ [] → (∀ l ∈ L, l.1 ≠ 20) → (qpl c0 S.1 f w0 (k + 1)).2 = 0 := fun L h1 h2 h3 => by rw [e, lpd_fold, h1]; exact lpd_0 h2 h3
      have lit1 : ∀ l : vl, ivl f k = [l] → l.1 ≠ 20 → (qpl c0 S.1 f w0 (k + 1)).2 = 0 := fun l h1 h2 => ne0 _ h1 (List.cons_ne_nil _ _) (fun x hx => by rw [List.mem_singleton] at hx; rw [hx]; exact h2)
      obtain ⟨s', -, -, D⟩ := kd kN
      have ldl : ∀ v, (ldN g0 s' v ≠ [] ∧ ∀ l ∈ ldN g0 s' v, l.1 ≠ 20) ∧ (stN g0 s' v ≠ [] ∧ ∀ l ∈ stN g0 s' v, l.1 ≠ 20) := by
        intro v
        obtain ⟨l1, l2, -⟩ := lin_ld g0 s' v
        have nl : ∀ l : vl, lin l → l.1 ≠ 20 := fun l h => by unfold lin at h; omega
        refine ⟨⟨?_, fun l hl => nl l (l1 l hl)⟩, ?_, fun l hl => nl l (l2 l hl)⟩
        · unfold ldN; repeat' split
          all_goals exact List.cons_ne_nil _ _
        · unfold stN; repeat' split
          all_goals exact List.cons_ne_nil _ _
      rcases D with ⟨-, -, d, -⟩ | ⟨-, -, -, cl, pl, d, -⟩ | ⟨-, -, d, -⟩ | ⟨-, -, -, v, -, -, d⟩ | ⟨-, -, d, -⟩ | ⟨-, -, d, -⟩ | ⟨-, -, d, -⟩ | ⟨-, -, d, -⟩ | ⟨-, -, c, -, -, -, -, d, d2⟩ | ⟨-, -, c, -, -, ⟨-, -, u, nn, -, -, -, -, -, -, d, -⟩ | ⟨u, -, -, -, d, -⟩⟩ | ⟨-, pp, tk, -, -, -, -, d, d2⟩ | ⟨-, -, -, d, -, d2⟩ | ⟨-, -, -, v, -, -, d⟩ | ⟨-, -, d, -⟩ | ⟨-, -, x, y, tt, d, -⟩ | ⟨-, y, tt, d, -⟩ | ⟨-, pp, tk, tl, -, -, -, -, d, d2⟩ | ⟨-, d, -⟩ | ⟨-, -, d, -⟩ | ⟨-, -, d, -, d2⟩
      · have d : ivl f k = _ := d
        split at d
        · exact ne0 _ d (List.cons_ne_nil _ _) (fun l hl => by
            simp only [List.mem_cons, List.not_mem_nil, or_false] at hl
            rcases hl with rfl | rfl <;> decide)
        · exact lit1 _ d (by show (0 : Nat) ≠ 20; decide)
      · have d : ivl f k = strN cl := d
        refine ne0 _ d (List.cons_ne_nil _ _) (fun l hl => ?_)
        unfold strN at hl
        rcases List.mem_cons.1 hl with rfl | hl
        · show (0 : Nat) ≠ 20; decide
        · rcases List.mem_cons.1 hl with rfl | hl
          · show (15 : Nat) ≠ 20; decide
          · have := lin_ch cl l hl
            unfold lin at this; omega
      · exact lit1 _ d (by decide)
      · exact ne0 _ d (ldl v).1.1 (ldl v).1.2
      · exact ne0 _ d (List.cons_ne_nil _ _) (fun l hl => by
          simp only [List.mem_cons, List.not_mem_nil, or_false] at hl
          rcases hl with rfl | rfl <;> decide)
      · refine ne0 _ d ?_ (fun l hl => ?_)
        · unfold opN; repeat' split
          all_goals exact List.cons_ne_nil _ _
        · have := (lin_op (g0 278 k)).1 l hl
          unfold lin at this; omega
      · exact lit1 _ d (by decide)
      · exact lit1 _ d (by decide)
      · have d : ivl f k = obN g0 s' c := d
        unfold obN at d
        by_cases c1 : g0 285 c = 1
        · rw [if_pos c1] at d; exact ne0 _ d (ldl _).1.1 (ldl _).1.2
        · rw [if_neg c1] at d
          by_cases c2 : g0 285 c = 2
          · rw [if_pos c2] at d; exact lit1 _ d (by decide)
          · rw [if_neg c2] at d
            rw [e, d]
            have d3 := d2.2
            rw [if_neg (by omega)] at d3
            rw [d3] at h1
            exact IH h1
      · exact lit1 _ d (by show (15 : Nat) ≠ 20; decide)
      · exact lit1 _ d (by show (15 : Nat) ≠ 20; decide)
      · rw [d] at h1; dsimp only at h1; omega
      · rw [d] at h1; dsimp only at h1; omega
      · exact ne0 _ d (ldl v).2.1 (ldl v).2.2
      · exact ne0 _ d (List.cons_ne_nil _ _) (fun l hl => by
          simp only [List.mem_cons, List.not_mem_nil, or_false] at hl
          rcases hl with rfl | rfl <;> decide)
      · exact ne0 _ d (List.cons_ne_nil _ _) (fun l hl => by
          simp only [List.mem_cons, List.not_mem_nil, or_false] at hl
          rcases hl with rfl | rfl | rfl
          · show (13 : Nat) ≠ 20; decide
          · show (12 : Nat) ≠ 20; decide
          · show (11 : Nat) ≠ 20; decide)
      · exact lit1 _ d (by show (12 : Nat) ≠ 20; decide)
      · rw [d] at h1; omega
      · exact lit1 _ d (by decide)
      · exact lit1 _ d (by decide)
      · rw [d] at h1; omega
  -- a label's place
  have lbp : ∀ tt y, tt < N → S.1 277 tt = 20 → ivl f tt = [(11, y, 0)] → lab y = (qpl c0 S.1 f w0 (tt + 1)).1 ∧ (qpl c0 S.1 f w0 (tt + 1)).2 = 0 := by
    intro tt y ht h20 hl
    obtain ⟨-, -, e⟩ := nx tt ht (by omega)
    have L1 := (lu tt ht).1
    rw [hl] at L1 e
    have e : qpl c0 S.1 f w0 (tt + 1) = lstp (qpl c0 S.1 f w0 tt) (11, y, 0) := e
    rw [e]
    exact ⟨L1.1.2, rfl⟩
  intro k hk
  obtain ⟨s, hs, es, D⟩ := kd hk
  obtain ⟨b1, b2, b3, b4⟩ := f3 k hk
  have ab := AIs.2.2.1 k (by omega)
  have nxk := nx k hk
  refine ⟨s, ivl f k, by omega, by rw [m281]; exact es, (lu k hk).1, (lu k hk).2, ⟨ab.1, by omega⟩, fun h18 _ => ?_, fun h1 h2 h3 h4 h5 => ?_, ?_⟩
  · rw [m277] at h18
    obtain ⟨q1, q2, q3⟩ := nxk h18
    exact ⟨q1, by rw [m281, q2]; exact es, q3⟩
  · rw [m277] at h1 h2 h3 h4
    have h5 : frn (S.1 277 k) (frs S.1 k) = true := h5
    unfold frn at h5
    rw [if_neg (by omega), if_neg (by omega)] at h5
    exact h5
  · have D : KD0 gv g0 a P (fun k => frs S.1 k = true) (fun k => (f k).map cvl) N (p.1 3) k s (ivl f k) := D
    unfold KD
    rcases D with d | ⟨d1, d2, d3, cl, pl, d4, d5, d6, d7, d8, d9⟩ | d | d | d | d | d | d | d | ⟨d1, d2, c, d3, d4, D⟩ | ⟨d1, pp, tk, d2, d3, d4, d5, d6, d7⟩ | ⟨d1, d2, d3, d4, d5, -⟩ | d | d | ⟨d1, d2, x, y, tt, d3, d4, d5, d6, d7, d8, d9, d10, d11, d12, d13⟩ | ⟨d1, y, tt, d3, d4, d5, d6, d7, d8, d9, d10, d11, d12, d13⟩ | ⟨d1, pp, tk, tl, d2, d3, d4, d5, d6, -⟩ | ⟨d1, d2, d3⟩ | d | ⟨d1, d2, d3, d4, -⟩
    · exact Or.inl d
    · exact Or.inr (Or.inl ⟨d1, d2, d3, cl, pl, d4, by omega, d6, d7, d8, fun j c hc => ⟨(d9 j c hc).1, by have := (d9 j c hc).2; omega⟩⟩)
    · exact Or.inr (Or.inr (Or.inl d))
    · exact Or.inr (Or.inr (Or.inr (Or.inl d)))
    · exact Or.inr (Or.inr (Or.inr (Or.inr (Or.inl d))))
    · exact Or.inr (Or.inr (Or.inr (Or.inr (Or.inr (Or.inl d)))))
    · exact Or.inr (Or.inr (Or.inr (Or.inr (Or.inr (Or.inr (Or.inl d))))))
    · exact Or.inr (Or.inr (Or.inr (Or.inr (Or.inr (Or.inr (Or.inr (Or.inl d)))))))
    · exact Or.inr (Or.inr (Or.inr (Or.inr (Or.inr (Or.inr (Or.inr (Or.inr (Or.inl d))))))))
    · refine Or.inr (Or.inr (Or.inr (Or.inr (Or.inr (Or.inr (Or.inr (Or.inr (Or.inr (Or.inl ⟨d1, d2, c, d3, d4, ?_⟩)))))))))
      rcases D with D | ⟨u, q1, q2, q3, q4, q5⟩
      · exact Or.inl D
      · exact Or.inr ⟨u, q1, q2, SF q3, q4, q5⟩
    · exact Or.inr (Or.inr (Or.inr (Or.inr (Or.inr (Or.inr (Or.inr (Or.inr (Or.inr (Or.inr (Or.inl ⟨d1, pp, tk, d2, by omega, d4, d5, d6, by omega⟩))))))))))
    · exact Or.inr (Or.inr (Or.inr (Or.inr (Or.inr (Or.inr (Or.inr (Or.inr (Or.inr (Or.inr (Or.inr (Or.inl ⟨d1, d2, d3, d4, d5⟩)))))))))))
    · exact Or.inr (Or.inr (Or.inr (Or.inr (Or.inr (Or.inr (Or.inr (Or.inr (Or.inr (Or.inr (Or.inr (Or.inr (Or.inl d))))))))))))
    · exact Or.inr (Or.inr (Or.inr (Or.inr (Or.inr (Or.inr (Or.inr (Or.inr (Or.inr (Or.inr (Or.inr (Or.inr (Or.inr (Or.inl d)))))))))))))
    · obtain ⟨l1, l2⟩ := lbp tt y (by omega) (by rw [m277] at d6; exact d6) d10
      exact Or.inr (Or.inr (Or.inr (Or.inr (Or.inr (Or.inr (Or.inr (Or.inr (Or.inr (Or.inr (Or.inr (Or.inr (Or.inr (Or.inr (Or.inl ⟨d1, d2, x, y, tt, d3, d4, d5, d6, d7, d9, l1, l2, d11, d12, d13⟩))))))))))))))
    · obtain ⟨l1, l2⟩ := lbp tt y (by omega) (by rw [m277] at d6; exact d6) d10
      exact Or.inr (Or.inr (Or.inr (Or.inr (Or.inr (Or.inr (Or.inr (Or.inr (Or.inr (Or.inr (Or.inr (Or.inr (Or.inr (Or.inr (Or.inr (Or.inl ⟨d1, y, tt, d3, d4, d5, d6, d7, d9, l1, l2, d11, d12, d13⟩)))))))))))))))
    · exact Or.inr (Or.inr (Or.inr (Or.inr (Or.inr (Or.inr (Or.inr (Or.inr (Or.inr (Or.inr (Or.inr (Or.inr (Or.inr (Or.inr (Or.inr (Or.inr (Or.inl ⟨d1, pp, tk, tl, d2, by omega, d4, d5, d6⟩))))))))))))))))
    · have q : (qpl c0 S.1 f w0 k).2 = 0 := by
        have := z0 (k - (S.1 269 (S.1 281 k).toNat).toNat) (S.1 281 k).toNat b3 (by omega) (by rw [show (S.1 269 (S.1 281 k).toNat).toNat + (k - (S.1 269 (S.1 281 k).toNat).toNat) = k by omega, d3]; exact Nat.le_refl 1)
        rw [show (S.1 269 (S.1 281 k).toNat).toNat + (k - (S.1 269 (S.1 281 k).toNat).toNat) = k by omega] at this
        exact this
      exact Or.inr (Or.inr (Or.inr (Or.inr (Or.inr (Or.inr (Or.inr (Or.inr (Or.inr (Or.inr (Or.inr (Or.inr (Or.inr (Or.inr (Or.inr (Or.inr (Or.inr (Or.inl ⟨d1, d2, q, d3⟩)))))))))))))))))
    · exact Or.inr (Or.inr (Or.inr (Or.inr (Or.inr (Or.inr (Or.inr (Or.inr (Or.inr (Or.inr (Or.inr (Or.inr (Or.inr (Or.inr (Or.inr (Or.inr (Or.inr (Or.inr (Or.inl d))))))))))))))))))
    · exact Or.inr (Or.inr (Or.inr (Or.inr (Or.inr (Or.inr (Or.inr (Or.inr (Or.inr (Or.inr (Or.inr (Or.inr (Or.inr (Or.inr (Or.inr (Or.inr (Or.inr (Or.inr (Or.inr ⟨d1, d2, d3, d4⟩))))))))))))))))))
end
