/-! LOAD, 6: the lines of a text, laid -/
section
variable {K P V sc ss t : Nat → Int} {cs : Nat → Nat} {gv : Nat → Nat} {n : Nat} {g0 c0 : am_H} {p : pr_S} {S : mi_S} {c' : ce_S} {f : Nat → List (Int × Int × Int)} {a : Nat → Nat × List Nat}
/-- lines ahead of a sub's items, lines of an item -/
def hvl (c0 S : am_H) (s : Nat) : List vl := (vH 49 c0 S s).map cvl
def ivl (f : Nat → List (Int × Int × Int)) (k : Nat) : List vl := (f k).map cvl
theorem vH_cv (X : LDX K P V sc ss t cs gv n g0 c0 p S c' f a) {s : Nat} (hs : s < p.1 3) : hvl c0 S.1 s = (14, 49 + s, (S.1 268 s).toNat) :: hdN g0 s ∧ (∀ v ∈ vH 49 c0 S.1 s, nn3 v) ∧ LGo gv 0 (hvl c0 S.1 s) ∧ lpd 0 (hvl c0 S.1 s) = 0 ∧ llb (hvl c0 S.1 s) = [] ∧ lsb (hvl c0 S.1 s) = [49 + s] := by
  have gl := gv_le X hs
  obtain ⟨⟨-, ⟨-, -, -, SUs, -⟩, -, Rv, -⟩, MVs, -, Sk, -⟩ := X
  have p3 : p.1 3 ≤ 60 := Rv.2.1.2.2.2.2.1
  obtain ⟨s1, s2, s3⟩ := SUs.1 s hs
  obtain ⟨q1, q2⟩ := (Rv.1.2.1.2 s (by rw [Rv.2.1.2.1]; omega)).2.1
  have r62 := SUs.2.1 (S.1 263 s).toNat (by have := Rv.2.1.1; omega)
  obtain ⟨⟨k28, -⟩, -⟩ := Sk
  have e14 : cvl (14, ((49 : Nat) : Int) + (s : Int), S.1 268 s) = (14, 49 + s, (S.1 268 s).toNat) := by
    rw [cvl_n _ (by omega) (by omega), show (((49 : Nat) : Int) + (s : Int)).toNat = 49 + s by omega]; rfl
  have g14 : lgo gv 0 (14, 49 + s, (S.1 268 s).toNat) := by
    unfold lgo; dsimp only
    exact ⟨⟨by omega, by omega, by omega, by omega⟩, ⟨by omega, by omega⟩, by omega, by omega, fun _ => ⟨by omega, by omega, by omega, rfl⟩, by omega, by omega, by omega⟩
  have one : ∀ (o x b pd : Nat), (o ≠ 14 ∧ o ≠ 11 ∧ o ≤ 19 ∧ (o = 0 → x ≤ 4) ∧ (o = 1 → 1 ≤ x ∧ x ≤ 5) ∧ x ≤ 1000 ∧ b ≤ 1000 ∧ (o = 15 → x < 130) ∧ (o = 12 ∨ o = 13 → x < 1500) ∧ (o = 17 ∨ o = 18 → x ≤ 1) ∧ (o = 0 ∨ o = 1 → 4 ≤ x → b = 0)) → lgo gv pd (o, x, b) := by
    intro o x b pd h
    unfold lgo; dsimp only
    exact ⟨⟨by omega, by omega, by omega, by omega⟩, ⟨by omega, by omega⟩, by omega, by omega, fun z => by omega, by omega, by omega, by omega⟩
  have mm : ∀ c, c = 262 ∨ c = 263 ∨ c = 264 → g0 c = S.1 c := fun c hc => MVs.1 c (by omega)
  unfold hvl hdN vH
  rw [mm 262 (by omega), mm 263 (by omega), mm 264 (by omega)]
  by_cases c3 : S.1 264 s = 3
  · rw [if_pos c3, if_pos c3, List.map_cons, e14, show List.map cvl [((0 : Int), (1 : Int), (0 : Int)), (1, 4, 0)] = [(0, 1, 0), (1, 4, 0)] from rfl]
    refine ⟨rfl, fun v hv => ?_, ⟨g14, one _ _ _ _ (by omega), one _ _ _ _ (by omega), trivial⟩, rfl, rfl, rfl⟩
    simp only [List.mem_cons, List.not_mem_nil, or_false] at hv
    rcases hv with rfl | rfl | rfl <;> unfold nn3 <;> dsimp only <;> omega
  · rw [if_neg c3, if_neg c3]
    by_cases c1 : S.1 264 s = 1
    · rw [if_pos c1, if_pos c1, List.map_cons, e14, k28]
      obtain ⟨w, hw⟩ : ∃ w : Int, w = (if S.1 262 (S.1 263 s).toNat ≤ 1 then 1 else S.1 262 (S.1 263 s).toNat) := ⟨_, rfl⟩
      have wb : 0 ≤ w ∧ w ≤ 12 := by rw [hw]; split <;> omega
      rw [← hw]
      have ew : cvl (0, 0, w) = (0, 0, w.toNat) := by rw [cvl_n _ (by omega) (by omega)]; rfl
      rw [List.map_cons, ew, show List.map cvl [((15 : Int), (3 : Int), (1 : Int)), (1, 4, 0)] = [(15, 3, 1), (1, 4, 0)] from rfl]
      refine ⟨rfl, fun v hv => ?_, ⟨g14, one _ _ _ _ (by omega), one _ _ _ _ (by omega), one _ _ _ _ (by omega), trivial⟩, rfl, rfl, rfl⟩
      simp only [List.mem_cons, List.not_mem_nil, or_false] at hv
      rcases hv with rfl | rfl | rfl | rfl <;> unfold nn3 <;> dsimp only <;> omega
    · rw [if_neg c1, if_neg c1, List.map_cons, e14]
      refine ⟨rfl, fun v hv => ?_, ⟨g14, trivial⟩, rfl, rfl, rfl⟩
      rw [List.mem_singleton] at hv
      subst hv
      unfold nn3; dsimp only; omega
/-- subs and their items -/
theorem sb_fact (X : LDX K P V sc ss t cs gv n g0 c0 p S c' f a) {N : Nat} (hN : S.1 254 33 = (N : Int)) : hq p = p.1 3 ∧ (∀ s, s < p.1 3 → 0 ≤ S.1 269 s ∧ S.1 269 s ≤ (N : Int)) ∧ (∀ s u, s ≤ u → u < p.1 3 → S.1 269 s ≤ S.1 269 u) ∧ (∀ k, k < N → (S.1 269 (S.1 281 k).toNat).toNat ≤ k ∧ k < sbE (S.1 269) (p.1 3) N (S.1 281 k).toNat ∧ (S.1 281 k).toNat < p.1 3 ∧ 0 ≤ S.1 281 k) ∧ (∀ s k, s < p.1 3 → (S.1 269 s).toNat ≤ k → k < sbE (S.1 269) (p.1 3) N s → k < N ∧ S.1 281 k = (s : Int)) ∧ (∀ s, s < p.1 3 → (S.1 269 s).toNat ≤ sbE (S.1 269) (p.1 3) N s ∧ sbE (S.1 269) (p.1 3) N s ≤ N) ∧ (∀ s, s < p.1 3 → (S.1 269 s).toNat < sbE (S.1 269) (p.1 3) N s → S.1 277 (sbE (S.1 269) (p.1 3) N s - 1) = 18) := by
  obtain ⟨⟨⟨LI, -, -, SBs⟩, -, -, -, -, -⟩, -, -, -, -, -, -, -, h9, -⟩ := X
  have hqp : hq p = p.1 3 := by unfold hq; rw [if_neg (by omega)]
  have F := LI.1
  have f1 : ∀ s, s < p.1 3 → 0 ≤ S.1 269 s ∧ S.1 269 s ≤ (N : Int) := fun s hs => by have := F s (by omega); omega
  have f2 : ∀ s u, s ≤ u → u < p.1 3 → S.1 269 s ≤ S.1 269 u := fun s u h1 h2 => (F s (by omega)).2.2 u h1 (by omega)
  have f3 : ∀ k, k < N → (S.1 269 (S.1 281 k).toNat).toNat ≤ k ∧ k < sbE (S.1 269) (p.1 3) N (S.1 281 k).toNat ∧ (S.1 281 k).toNat < p.1 3 ∧ 0 ≤ S.1 281 k := by
    intro k hk
    obtain ⟨⟨b1, b2⟩, b3, b4, b5, b6⟩ := SBs k (by omega)
    refine ⟨by omega, ?_, by omega, b1⟩
    unfold sbE
    split
    · rename_i z
      have := b6 ((S.1 281 k).toNat + 1) (by omega) (by omega)
      omega
    · exact hk
  have f4 : ∀ s k, s < p.1 3 → (S.1 269 s).toNat ≤ k → k < sbE (S.1 269) (p.1 3) N s → k < N ∧ S.1 281 k = (s : Int) := by
    intro s k hs h1 h2
    have hkN : k < N := by
      unfold sbE at h2
      split at h2
      · rename_i z
        have := f1 (s + 1) z
        omega
      · exact h2
    refine ⟨hkN, ?_⟩
    obtain ⟨⟨b1, b2⟩, b3, b4, b5, b6⟩ := SBs k (by omega)
    have h269 := f1 s hs
    by_cases c1 : S.1 281 k < (s : Int)
    · have := b6 s (by omega) c1
      omega
    · by_cases c2 : (s : Int) < S.1 281 k
      · unfold sbE at h2
        rw [if_pos (by omega)] at h2
        have := f2 (s + 1) (S.1 281 k).toNat (by omega) (by omega)
        have := f1 (s + 1) (by omega)
        omega
      · omega
  have f5 : ∀ s, s < p.1 3 → (S.1 269 s).toNat ≤ sbE (S.1 269) (p.1 3) N s ∧ sbE (S.1 269) (p.1 3) N s ≤ N := by
    intro s hs
    have := f1 s hs
    unfold sbE
    split
    · rename_i z
      have := f2 s (s + 1) (by omega) z
      have := f1 (s + 1) z
      omega
    · omega
  refine ⟨hqp, f1, f2, f3, f4, f5, fun s hs hl => ?_⟩
  obtain ⟨g1, g2⟩ := f4 s (sbE (S.1 269) (p.1 3) N s - 1) hs (by omega) (by omega)
  obtain ⟨-, b3, -⟩ := SBs _ (show ((sbE (S.1 269) (p.1 3) N s - 1 : Nat) : Int) < S.1 254 33 by omega)
  rcases b3 with z | ⟨z1, z2⟩
  · exact z
  · exfalso
    by_cases c1 : ((sbE (S.1 269) (p.1 3) N s - 1 : Nat) : Int) + 1 = S.1 254 33
    · have := (z2 c1).1; omega
    · have z1 := z1 (by omega)
      rw [g2] at z1
      have hb := (f3 (sbE (S.1 269) (p.1 3) N s - 1 + 1) (by omega)).2.1
      rw [z1, Int.toNat_natCast] at hb
      omega
/-- the whole: what the translator takes -/
theorem lay_ok (X : LDX K P V sc ss t cs gv n g0 c0 p S c' f a) {N : Nat} (hN : S.1 254 33 = (N : Int)) :
    LGo gv 0 (tU (hvl c0 S.1) (ivl f) (S.1 269) (p.1 3) N) ∧ (tgts (tU (hvl c0 S.1) (ivl f) (S.1 269) (p.1 3) N)).Nodup ∧ (∀ x ∈ tgts (tU (hvl c0 S.1) (ivl f) (S.1 269) (p.1 3) N), (152 ≤ x ∧ x < 1500) ∨ (1549 ≤ x ∧ x < 1549 + p.1 3)) ∧ (∀ j l, (tU (hvl c0 S.1) (ivl f) (S.1 269) (p.1 3) N)[j]? = some l → c'.1 9 (1572 + j) = (l.1 : Int) ∧ c'.1 10 (1572 + j) = (l.2.1 : Int) ∧ c'.1 11 (1572 + j) = (l.2.2 : Int)) ∧ c'.1 8 3 = ((1572 + (tU (hvl c0 S.1) (ivl f) (S.1 269) (p.1 3) N).length : Nat) : Int) ∧ wns (tU (hvl c0 S.1) (ivl f) (S.1 269) (p.1 3) N) ≤ 17700 ∧ (∀ l ∈ tU (hvl c0 S.1) (ivl f) (S.1 269) (p.1 3) N, l.1 = 14 → ∃ s, s < p.1 3 ∧ l.2.1 = 49 + s) := by
  obtain ⟨hqp, f1, f2, f3, f4, f5, f6⟩ := sb_fact X hN
  have vh := fun {s : Nat} (hs : s < p.1 3) => vH_cv X hs
  have il := fun {k : Nat} (hk : k < N) => it_lgo X hN hk
  have inn := fun {k : Nat} (hk : k < N) => kd_nn X hN hk
  have kd := fun {k : Nat} (hk : k < N) => kd0 X hN hk
  have lr := lab_rg X hN
  obtain ⟨⟨⟨LI, IFs, VRS, SBs⟩, ⟨FRs, JDs, WIs, SUs, CLs, NEs⟩, ⟨bt, cur, CIs, AIs⟩, Rv, Rm, pl0⟩, MVs, NN, Sk, Sy, TX, h297, hgv, h9x, h8x, hw⟩ := X
  have em : tU (hvl c0 S.1) (ivl f) (S.1 269) (p.1 3) N = (tU (vH 49 c0 S.1) f (S.1 269) (p.1 3) N).map cvl := (tU_map cvl _ _).symm
  have n18 : ∀ {k : Nat}, k < N → S.1 277 k = 18 → ivl f k = [(16, 0, 0)] := by
    intro k hk h18
    obtain ⟨s, -, -, D⟩ := kd hk
    have m277 : g0 277 = S.1 277 := MVs.1 277 (by omega)
    unfold KD0 at D
    rw [m277, h18] at D
    rcases D with ⟨z, -⟩ | ⟨z, -⟩ | ⟨z, -⟩ | ⟨z, -⟩ | ⟨z, -⟩ | ⟨z, -⟩ | ⟨z, -⟩ | ⟨z, -⟩ | ⟨z, -⟩ | ⟨z, -⟩ | ⟨z, -⟩ | ⟨z, -⟩ | ⟨z, -⟩ | ⟨z, -⟩ | ⟨z, -⟩ | ⟨z, -⟩ | ⟨z, -⟩ | ⟨-, z, -⟩ | ⟨z, -⟩ | ⟨z, -⟩
    all_goals first
      | exact z
      | (exfalso; revert z; decide)
  -- sub by sub
  have grow : ∀ s, s ≤ p.1 3 → LGo gv 0 (tU (hvl c0 S.1) (ivl f) (S.1 269) s (if s < p.1 3 then (S.1 269 s).toNat else N)) ∧ lpd 0 (tU (hvl c0 S.1) (ivl f) (S.1 269) s (if s < p.1 3 then (S.1 269 s).toNat else N)) = 0 ∧ lsb (tU (hvl c0 S.1) (ivl f) (S.1 269) s (if s < p.1 3 then (S.1 269 s).toNat else N)) = (List.range s).map (49 + ·) := by
    intro s
    induction s with
    | zero => intro _; exact ⟨trivial, rfl, rfl⟩
    | succ s ih =>
      intro hs
      obtain ⟨i1, i2, i3⟩ := ih (by omega)
      rw [if_pos (show s < p.1 3 by omega)] at i1 i2 i3
      obtain ⟨-, -, v3, v4, v5, v6⟩ := vh (show s < p.1 3 by omega)
      have eE : (if s + 1 < p.1 3 then (S.1 269 (s + 1)).toNat else N) = sbE (S.1 269) (p.1 3) N s := rfl
      rw [eE, tU_sub]
      obtain ⟨b1, b2⟩ := f5 s (by omega)
      have itm : ∀ l ∈ rgn (ivl f) (S.1 269 s).toNat (sbE (S.1 269) (p.1 3) N s - (S.1 269 s).toNat), l.1 ≠ 14 ∧ ∀ pd, lgo gv pd l := by
        intro l hl
        obtain ⟨j, h1, h2, h3⟩ := rgn_mem _ _ hl
        exact il (by omega) l h3
      refine ⟨?_, ?_, ?_⟩
      · rw [LGo_app, LGo_app]
        refine ⟨⟨i1, by rw [i2]; exact v3⟩, LGo_all _ (fun l hl => (itm l hl).2)⟩
      · rw [lpd_app, lpd_app, i2, v4]
        by_cases c : (S.1 269 s).toNat < sbE (S.1 269) (p.1 3) N s
        · have l18 := f6 s (by omega) c
          have e : sbE (S.1 269) (p.1 3) N s - (S.1 269 s).toNat = (sbE (S.1 269) (p.1 3) N s - 1 - (S.1 269 s).toNat) + 1 := by omega
          rw [e]
          show lpd 0 (rgn (ivl f) (S.1 269 s).toNat _ ++ ivl f ((S.1 269 s).toNat + (sbE (S.1 269) (p.1 3) N s - 1 - (S.1 269 s).toNat))) = 0
          rw [show (S.1 269 s).toNat + (sbE (S.1 269) (p.1 3) N s - 1 - (S.1 269 s).toNat) = sbE (S.1 269) (p.1 3) N s - 1 by omega, n18 (by omega) l18, lpd_app]
          rfl
        · rw [show sbE (S.1 269) (p.1 3) N s - (S.1 269 s).toNat = 0 by omega]
          rfl
      · rw [lsb_app, lsb_app, i3, v6, List.range_succ, List.map_append]
        have e0 : ∀ L : List vl, (∀ l ∈ L, l.1 ≠ 14) → lsb L = [] := by
          intro L
          induction L with
          | nil => intro _; rfl
          | cons l L ihL =>
            intro h
            show (if l.1 = 14 then [l.2.1] else []) ++ lsb L = []
            rw [if_neg (h l (List.mem_cons_self ..)), ihL (fun x hx => h x (List.mem_cons_of_mem _ hx))]; rfl
        rw [e0 _ (fun l hl => (itm l hl).1), List.append_nil]
        rfl
  have nnT : ∀ v ∈ tU (vH 49 c0 S.1) f (S.1 269) (p.1 3) N, nn3 v := by
    intro v hv
    rcases tU_mem (N := N) _ _ (fun s' hs' => by have := f1 s' hs'; omega) (Nat.le_refl _) hv with ⟨s', h1, h2⟩ | ⟨j, h1, h2⟩
    · exact (vh h1).2.1 v h2
    · exact inn h1 v h2
  have gfin := grow (p.1 3) (Nat.le_refl _)
  rw [if_neg (Nat.lt_irrefl _)] at gfin
  obtain ⟨g1, g2, g3⟩ := gfin
  have cl := CIs.2.2.1
  rw [hqp, hN, Int.toNat_natCast, pl0] at cl
  have cl1 : (lbs (tU (vH 49 c0 S.1) f (S.1 269) (p.1 3) N) ++ []).Nodup := cl.1
  rw [List.append_nil] at cl1
  have cl2 : ∀ x ∈ lbs (tU (vH 49 c0 S.1) f (S.1 269) (p.1 3) N), (152 : Int) ≤ x ∧ x < 1500 := by
    intro x hx
    have := cl.2.1 x (List.mem_append_left _ hx)
    have w : 2 * (c'.1 8 4 - ((152 : Nat) : Int)) ≤ (p.2.2.2 6 : Int) + ((0 : Nat) : Int) := cl.2.2.2
    have := hw 6
    omega
  have lle : llb (tU (hvl c0 S.1) (ivl f) (S.1 269) (p.1 3) N) = (lbs (tU (vH 49 c0 S.1) f (S.1 269) (p.1 3) N)).map Int.toNat := by rw [em, llb_cv nnT]
  have lrg : ∀ x ∈ llb (tU (hvl c0 S.1) (ivl f) (S.1 269) (p.1 3) N), 152 ≤ x ∧ x < 1500 := by
    intro x hx
    rw [lle] at hx
    obtain ⟨y, hy, rfl⟩ := List.mem_map.1 hx
    have := cl2 y hy; omega
  have lnd : (llb (tU (hvl c0 S.1) (ivl f) (S.1 269) (p.1 3) N)).Nodup := by
    rw [lle]
    exact List.pairwise_map.2 (List.Pairwise.imp_of_mem (fun {x y} hx hy (hne : x ≠ y) => by have := cl2 x hx; have := cl2 y hy; omega) cl1)
  have snd : (lsb (tU (hvl c0 S.1) (ivl f) (S.1 269) (p.1 3) N)).Nodup := by
    rw [g3]
    exact List.pairwise_map.2 (List.Pairwise.imp (fun {x y} (hne : x ≠ y) => by omega) List.nodup_range)
  have hlen : (tU (vH 49 c0 S.1) f (S.1 269) (p.1 3) N).length = (tU (hvl c0 S.1) (ivl f) (S.1 269) (p.1 3) N).length := by rw [em, List.length_map]
  have ci := CIs.1
  rw [hqp, hN, Int.toNat_natCast] at ci
  refine ⟨g1, tgts_nd lnd snd (fun x hx => (lrg x hx).2), fun x hx => ?_, fun j l hj => ?_, by rw [ci.1, hlen]; omega, ?_, fun l hl h14 => ?_⟩
  · rcases tgts_mem hx with z | ⟨s, z1, z2⟩
    · exact Or.inl (lrg x z)
    · right
      rw [g3] at z1
      obtain ⟨y, hy, rfl⟩ := List.mem_map.1 z1
      have := List.mem_range.1 hy
      omega
  · rw [em, List.getElem?_map] at hj
    cases hr : (tU (vH 49 c0 S.1) f (S.1 269) (p.1 3) N)[j]? with
    | none => rw [hr] at hj; cases hj
    | some v =>
      rw [hr] at hj
      have hj : cvl v = l := Option.some.inj hj
      obtain ⟨r1, r2, r3⟩ := ci.2 j v hr
      have nv := nnT v (List.mem_of_getElem? hr)
      rw [← hj, cvl_n v.1 nv.2.1 nv.2.2]
      dsimp only
      have s1 := p_s16 (x := v.2.1) (by have := nv.2.1; omega) nv.2.1.2
      have s2 := p_s16 (x := v.2.2) (by have := nv.2.2; omega) nv.2.2.2
      refine ⟨by rw [r1]; have := nv.1; omega, ?_, ?_⟩
      · have r2 : c'.1 10 (1572 + j) = am_s16 v.2.1 := r2
        rw [r2, s1]; have := nv.2.1; omega
      · have r3 : c'.1 11 (1572 + j) = am_s16 v.2.2 := r3
        rw [r3, s2]; have := nv.2.2; omega
  · have e : HR c'.1 1572 (tU (vH 49 c0 S.1) f (S.1 269) (p.1 3) N).length = tU (hvl c0 S.1) (ivl f) (S.1 269) (p.1 3) N := by
      rw [em]; exact HR_list ci.2
    have w := WIs.2
    rw [ci.1, show (((1572 : Nat) : Int) + ((tU (vH 49 c0 S.1) f (S.1 269) (p.1 3) N).length : Int) - ((1572 : Nat) : Int)).toNat = (tU (vH 49 c0 S.1) f (S.1 269) (p.1 3) N).length by omega, e] at w
    have := hw 7
    omega
  · have : l.2.1 ∈ lsb (tU (hvl c0 S.1) (ivl f) (S.1 269) (p.1 3) N) := by
      have key : ∀ L : List vl, l ∈ L → l.2.1 ∈ lsb L := by
        intro L
        induction L with
        | nil => intro h; cases h
        | cons x L ih =>
          intro h
          rcases List.mem_cons.1 h with rfl | h
          · show l.2.1 ∈ (if l.1 = 14 then [l.2.1] else []) ++ lsb L
            rw [if_pos h14]; exact List.mem_append_left _ (List.mem_singleton.2 rfl)
          · exact List.mem_append_right _ (ih h)
      exact key _ hl
    rw [g3] at this
    obtain ⟨y, hy, e⟩ := List.mem_map.1 this
    exact ⟨y, List.mem_range.1 hy, e.symm⟩
end
