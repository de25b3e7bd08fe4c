/-! PURE LAYER, 125: blocks that are open, on both sides -/
section
variable {S c0 h : am_H} {K P V sc ss : Nat → Int} {cs : Nat → Nat} {b21 b15 : Nat} {e : gx_V} {p p' : pr_S} {s s' : mi_S}
theorem bw.hd {n : Int} {pl : List Nat} {bs st : List (Int × Int × Int × Int)} (B : bw S n pl bs st) {a : Nat} (h : pl.head? = some a) : ∃ b l q r, bs = b :: l ∧ st = q :: r ∧ pl = a :: pl.tail ∧ (b.2.1 = q.1 ∧ 0 ≤ b.2.1) ∧ bw S n pl.tail l r := by
  cases pl with
  | nil => cases h
  | cons x pl =>
    cases h
    cases bs with
    | nil => cases st <;> exact B.elim
    | cons b l =>
      cases st with
      | nil => exact B.elim
      | cons q r => exact ⟨b, l, q, r, rfl, rfl, rfl, ⟨B.1.1, B.1.2.1⟩, B.2⟩
theorem ce_q_c {α : Type} {p : Prop} [Decidable p] {x : gx_R α} {a : α} (h : ce_q p x = .inr a) : p := by
  unfold ce_q at h
  split at h
  · assumption
  · cases h
theorem bw_ev (hp : pr pw K V e p = .inr p') (hm : mi V e s = .inr s') (h33 : 0 ≤ s.1 254 33) {st : List (Int × Int × Int × Int)} (B : bw S (s.1 254 33) p.2.1 s.2.2.2.1 st) (M : mx s'.1 S) {l t : Int} (ht : e.1 = 24 ∨ e.1 = 30 → t = s.1 254 50) : bw S (s'.1 254 33) p'.2.1 s'.2.2.2.1 (oE K P V sc ss cs b21 b15 h c0 e p l t st).2.2.1 := by
  have m33 := (mx_ev V e s s' hm).1 33 (by unfold mx_k; omega)
  obtain ⟨g, ty, so, bs, oc⟩ := s
  obtain ⟨n, a, b, c⟩ := e
  dsimp only at h33 B ht m33
  -- nothing is opened or closed
  have same : p'.2.1 = p.2.1 → s'.2.2.2.1 = bs → (oE K P V sc ss cs b21 b15 h c0 (n, a, b, c) p l t st).2.2.1 = st → bw S (s'.1 254 33) p'.2.1 s'.2.2.2.1 (oE K P V sc ss cs b21 b15 h c0 (n, a, b, c) p l t st).2.2.1 := fun e1 e2 e3 => by
    rw [e1, e2, e3]; exact B.mono m33
  -- the first item of this event
  have row : ∀ (k x y z : Int) (g0 : am_H), g0 254 33 = g 254 33 → mx (mi_put k x y z g0) S → S 277 (g 254 33).toNat = k := by
    intro k x y z g0 e0 mm
    rw [mm.2 277 33 rfl _ (by rw [mi_put_33]; omega), ← e0]
    exact (mi_put_277 k x y z g0).1
  by_cases hn : n = 24 ∨ n = 25 ∨ n = 26 ∨ n = 27 ∨ n = 28 ∨ n = 30 ∨ n = 31 ∨ n = 32
  · rcases hn with rfl | rfl | rfl | rfl | rfl | rfl | rfl | rfl
    · -- 24
      obtain ⟨hc, -, hq⟩ := pr_q_in (show pr_q pw 24 p _ _ _ _ = _ from hp)
      have hg := (ce_q_c (show ce_q (0 ≤ g 254 50 ∧ g 254 50 < 99990) (.inr (am_up g 254 50 (g 254 50 + 2), ty, so, (1, g 254 50, 0, g 254 33) :: bs, oc) : gx_R mi_S) = .inr s' from hm)).1
      have hm := ce_q_in (show ce_q (0 ≤ g 254 50 ∧ g 254 50 < 99990) (.inr (am_up g 254 50 (g 254 50 + 2), ty, so, (1, g 254 50, 0, g 254 33) :: bs, oc) : gx_R mi_S) = .inr s' from hm)
      cases hm
      rw [hq]
      refine ⟨⟨?_, hg, fun z => by omega, fun z => by omega⟩, B.mono m33⟩
      exact (ht (Or.inl rfl)).symm
    · -- 25
      obtain ⟨hc, -, hq⟩ := pr_q_in (show pr_q pw 25 p _ _ _ _ = _ from hp)
      obtain ⟨q, lb, r, lr, e1, e2, e3, e4, B2⟩ := B.hd hc.2.2.1
      subst e1 e2
      have hm := ce_q_in (show ce_q (lb.length < 40) (gx_b (mi_add 15 0 q.2.1 0 g) fun g1 => (.inr (mi_blk lb.length 1 q.2.1 (g 254 33) q.2.2.2 g1, ty, so, (1, q.2.1, g 254 33, q.2.2.2) :: lb, oc) : gx_R mi_S)) = .inr s' from hm)
      obtain ⟨g1, w1, w2⟩ := gx_b_ok hm
      cases w2
      rw [mi_add_in w1] at M m33 ⊢
      rw [hq]
      have c33 : mi_blk lb.length 1 q.2.1 (g 254 33) q.2.2.2 (mi_put 15 0 q.2.1 0 g) 254 33 = g 254 33 + 1 := by rw [mi_blk_f _ _ _ _ _ _ _ (by decide), mi_put_33]
      refine ⟨⟨e4.1, e4.2, fun _ => ⟨h33, by dsimp only; rw [c33]; omega, row 15 0 q.2.1 0 g rfl ((mx_blk _ _ _ _ _ _).trans M)⟩, fun z => by omega⟩, B2.mono m33⟩
    · -- 26
      obtain ⟨hc, -, hq⟩ := pr_q_in (show pr_q pw 26 p _ _ _ _ = _ from hp)
      obtain ⟨q, lb, r, lr, e1, e2, e3, e4, B2⟩ := B.hd hc.2.2.1
      subst e1 e2
      obtain ⟨g1, w1, w2⟩ := gx_b_ok (show gx_b (mi_add 16 0 (q.2.1 + 1) 0 (am_up g 254 55 (lb.length : Int))) (fun g1 => gx_b (mi_add 20 q.2.1 0 0 g1) fun g2 => (.inr (mi_blk lb.length 2 q.2.1 (g 254 33) 0 (am_up g2 278 q.2.2.1.toNat (g1 254 33)), ty, so, (2, q.2.1, g 254 33, 0) :: lb, oc) : gx_R mi_S)) = .inr s' from hm)
      obtain ⟨g2, w3, w4⟩ := gx_b_ok w2
      cases w4
      rw [mi_add_in w3, mi_add_in w1] at M m33 ⊢
      rw [hq]
      have c0' : am_up g 254 55 (lb.length : Int) 254 33 = g 254 33 := p_up_n _ _ _ _ _ _ (Or.inr (by decide))
      have c33 : mi_blk lb.length 2 q.2.1 (g 254 33) 0 (am_up (mi_put 20 q.2.1 0 0 (mi_put 16 0 (q.2.1 + 1) 0 (am_up g 254 55 (lb.length : Int)))) 278 q.2.2.1.toNat (mi_put 16 0 (q.2.1 + 1) 0 (am_up g 254 55 (lb.length : Int)) 254 33)) 254 33 = g 254 33 + 2 := by
        rw [mi_blk_f _ _ _ _ _ _ _ (by decide), p_up_c _ _ _ _ _ (by decide), mi_put_33, mi_put_33, c0']; omega
      refine ⟨⟨e4.1, e4.2, fun z => by omega, fun _ => ⟨h33, by dsimp only; rw [c33]; omega, row 16 0 (q.2.1 + 1) 0 _ c0' (((mx_put 20 _ _ _ _).trans ((mx_278 _ _ _).trans (mx_blk _ _ _ _ _ _))).trans M)⟩⟩, B2.mono m33⟩
    · -- 27
      obtain ⟨hc, -, hq⟩ := pr_q_in (show pr_q pw 27 p _ _ _ _ = _ from hp)
      obtain ⟨q, lb, r, lr, e1, e2, e3, e4, B2⟩ := B.hd hc.2.2.1
      subst e1 e2
      obtain ⟨g1, w1, w2⟩ := gx_b_ok (show gx_b (mi_add 20 q.2.1 0 0 (am_up g 254 55 (lb.length : Int))) (fun g1 => gx_b (mi_add 12 0 0 0 (am_up g1 278 q.2.2.1.toNat (g 254 33))) fun g2 => (.inr (g2, ty, so, lb, oc) : gx_R mi_S)) = .inr s' from hm)
      obtain ⟨g2, w3, w4⟩ := gx_b_ok w2
      cases w4
      rw [hq]; exact B2.mono m33
    · -- 28
      obtain ⟨hc, -, hq⟩ := pr_q_in (show pr_q pw 28 p _ _ _ _ = _ from hp)
      obtain ⟨q, lb, r, lr, e1, e2, e3, e4, B2⟩ := B.hd hc.2.2.1
      subst e1 e2
      obtain ⟨g1, w1, w2⟩ := gx_b_ok (show gx_b (mi_add 20 (q.2.1 + 1) 0 0 (am_up g 254 55 (lb.length : Int))) (fun g1 => gx_b (mi_add 12 0 0 0 (am_up g1 278 q.2.2.1.toNat (g 254 33))) fun g2 => (.inr (g2, ty, so, lb, oc) : gx_R mi_S)) = .inr s' from hm)
      obtain ⟨g2, w3, w4⟩ := gx_b_ok w2
      cases w4
      rw [hq]; exact B2.mono m33
    · -- 30
      obtain ⟨hc, -, hq⟩ := pr_q_in (show pr_q pw 30 p _ _ _ _ = _ from hp)
      have hg := (ce_q_c (show ce_q (0 ≤ g 254 50 ∧ g 254 50 < 99990) (gx_b (mi_add 20 (g 254 50) 0 0 (am_up g 254 50 (g 254 50 + 2))) fun g1 => gx_b (mi_add 17 0 0 0 g1) fun g2 => (.inr (g2, ty, so, (3, g 254 50, 0, g 254 33) :: bs, oc) : gx_R mi_S)) = .inr s' from hm)).1
      have hm := ce_q_in (show ce_q (0 ≤ g 254 50 ∧ g 254 50 < 99990) (gx_b (mi_add 20 (g 254 50) 0 0 (am_up g 254 50 (g 254 50 + 2))) fun g1 => gx_b (mi_add 17 0 0 0 g1) fun g2 => (.inr (g2, ty, so, (3, g 254 50, 0, g 254 33) :: bs, oc) : gx_R mi_S)) = .inr s' from hm)
      obtain ⟨g1, w1, w2⟩ := gx_b_ok hm
      obtain ⟨g2, w3, w4⟩ := gx_b_ok w2
      cases w4
      rw [hq]
      refine ⟨⟨?_, hg, fun z => by omega, fun z => by omega⟩, B.mono m33⟩
      exact (ht (Or.inr rfl)).symm
    · -- 31
      obtain ⟨hc, -, hq⟩ := pr_q_in (show pr_q pw 31 p _ _ _ _ = _ from hp)
      obtain ⟨q, lb, r, lr, e1, e2, e3, e4, B2⟩ := B.hd hc.2.2.1
      subst e1 e2
      have hm := ce_q_in (show ce_q (lb.length < 40) (gx_b (mi_add 15 0 (q.2.1 + 1) 0 g) fun g1 => (.inr (mi_blk lb.length 3 q.2.1 (g 254 33) q.2.2.2 g1, ty, so, (3, q.2.1, g 254 33, q.2.2.2) :: lb, oc) : gx_R mi_S)) = .inr s' from hm)
      obtain ⟨g1, w1, w2⟩ := gx_b_ok hm
      cases w2
      rw [mi_add_in w1] at M m33 ⊢
      rw [hq]
      have c33 : mi_blk lb.length 3 q.2.1 (g 254 33) q.2.2.2 (mi_put 15 0 (q.2.1 + 1) 0 g) 254 33 = g 254 33 + 1 := by rw [mi_blk_f _ _ _ _ _ _ _ (by decide), mi_put_33]
      refine ⟨⟨e4.1, e4.2, fun _ => ⟨h33, by dsimp only; rw [c33]; omega, row 15 0 (q.2.1 + 1) 0 g rfl ((mx_blk _ _ _ _ _ _).trans M)⟩, fun z => by omega⟩, B2.mono m33⟩
    · -- 32
      obtain ⟨hc, -, hq⟩ := pr_q_in (show pr_q pw 32 p _ _ _ _ = _ from hp)
      obtain ⟨q, lb, r, lr, e1, e2, e3, e4, B2⟩ := B.hd hc.2.2.1
      subst e1 e2
      obtain ⟨g1, w1, w2⟩ := gx_b_ok (show gx_b (mi_add 16 q.2.2.2 q.2.1 0 (am_up g 254 55 (lb.length : Int))) (fun g1 => gx_b (mi_add 20 (q.2.1 + 1) 0 0 g1) fun g2 => gx_b (mi_add 12 0 0 0 (am_up g2 278 q.2.2.1.toNat (g1 254 33))) fun g3 => (.inr (g3, ty, so, lb, oc) : gx_R mi_S)) = .inr s' from hm)
      obtain ⟨g2, w3, w4⟩ := gx_b_ok w2
      obtain ⟨g3, w5, w6⟩ := gx_b_ok w4
      cases w6
      rw [hq]; exact B2.mono m33
  · -- all others
    have hn' : n ≠ 24 ∧ n ≠ 25 ∧ n ≠ 26 ∧ n ≠ 27 ∧ n ≠ 28 ∧ n ≠ 30 ∧ n ≠ 31 ∧ n ≠ 32 := by omega
    have e1 : p'.2.1 = p.2.1 := by
      by_cases h12 : n = 12
      · subst h12
        cases hq : p.2.2.1 with
        | nil => unfold pr at hp; dsimp only at hp; rw [hq] at hp; cases hp
        | cons q l => unfold pr at hp; dsimp only at hp; rw [hq] at hp; obtain ⟨-, -, e⟩ := pr_q_in hp; rw [e]
      unfold pr at hp
      split at hp
      all_goals first
        | (cases hp; done)
        | (rename_i hx; have hx : n = _ := hx; omega)
        | (rename_i hx; have hx : n = _ := hx; subst hx)
      all_goals (obtain ⟨-, -, e⟩ := pr_q_in hp; rw [e])
    have e2 : s'.2.2.2.1 = bs := by
      have key : gx_P (mi V (n, a, b, c) (g, ty, so, bs, oc)) (fun s1 => s1.2.2.2.1 = bs) := by
        have hh : ∀ r, gx_P (mi_h (g, ty, so, bs, oc) r) (fun s1 => s1.2.2.2.1 = bs) := fun r => gx_P_b fun a e => gx_P_i rfl
        unfold mi
        dsimp only
        split
        all_goals first
          | (exact hh _)
          | (exact gx_P_i rfl)
          | (omega)
          | (exact gx_P_q fun _ => gx_P_i rfl)
          | (exact gx_P_q fun _ => gx_P_b fun _ _ => gx_P_i rfl)
          | (refine gx_P_q fun _ => ?_; split <;> exact gx_P_i rfl)
          | (exact fun a e => by cases e)
          | skip
        cases oc with
        | nil => exact fun a e => by cases e
        | cons x l => exact gx_P_b fun _ _ => gx_P_i rfl
      exact key s' hm
    refine same e1 e2 ?_
    obtain ⟨n1, n2, n3, n4, n5, n6, n7, n8⟩ := hn'
    unfold oE
    dsimp only
    split
    all_goals first
      | rfl
      | (exfalso; omega)
      | (split <;> first | rfl | (split <;> rfl))
theorem my_run (S' : mi_S) : ∀ (es : List gx_V) {p p' : pr_S} {s : mi_S} {st : List (Int × Int × Int × Int)}, gx_fold (pr pw K V) es p = .inr p' → gx_fold (mi V) es s = .inr S' → 0 ≤ s.1 254 33 → bw S'.1 (s.1 254 33) p.2.1 s.2.2.2.1 st → my s.1 S'.1
  | [], p, p', s, st, h1, m1, h33, B => by cases m1; exact my.refl _
  | e :: es, p, p', s, st, h1, m1, h33, B => by
    obtain ⟨p1, a1, a2⟩ := gx_b_ok h1
    obtain ⟨s1, w1, w2⟩ := gx_b_ok m1
    have M1 := mx_run V es s1 S' w2
    have M0 := (mx_ev V e s s1 w1).trans M1
    have A := my_ev a1 w1 h33 B (fun k hk => M0.2 277 33 rfl k hk)
    have B1 := bw_ev (c0 := fun _ _ => 0) (h := fun _ _ => 0) (P := fun _ => 0) (sc := fun _ => 0) (ss := fun _ => 0) (cs := fun _ => 0) (b21 := 0) (b15 := 0) (l := 0) (t := s.1 254 50) a1 w1 h33 B M1 (fun _ => rfl)
    exact A.trans (my_run S' es a2 w2 (by have := A.1; omega) B1) (fun k hk => (mx_ev V e s s1 w1).2 277 33 rfl k hk)
end
