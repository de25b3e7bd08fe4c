/-! HACK, 9: frames: how they come and go -/
def wSv : List Int := (wTake ((15 : Nat) : Int) ++ wPush) ++ ((wTake ((1 : Nat) : Int) ++ wPush) ++ ((wTake ((2 : Nat) : Int) ++ wPush) ++ ((wTake ((3 : Nat) : Int) ++ wPush) ++ ((wTake ((4 : Nat) : Int) ++ wPush) ++ ((wTake ((0 : Nat) : Int) ++ wKeep ((1 : Nat) : Int)) ++ ([((5 : Nat) : Int), -6960, ((13 : Nat) : Int), -2864] ++ wKeep ((2 : Nat) : Int)))))))
def wRs (k : Nat) : List Int := [((13 : Nat) : Int), -856, -1008] ++ wKeep (k : Int)
def wBk : List Int := (wTake ((1 : Nat) : Int) ++ wKeep ((13 : Nat) : Int)) ++ (([((5 : Nat) : Int), -6944, -1008] ++ wKeep ((14 : Nat) : Int)) ++ ((wPop ++ [((2 : Nat) : Int), -992, -7416]) ++ ((wTake ((2 : Nat) : Int) ++ [((0 : Nat) : Int), -6200]) ++ (wRs 4 ++ (wRs 3 ++ (wRs 2 ++ wRs 1))))))
section
variable {L n : Nat} {h h' : am_H} {r r2 : Nat → Int} {ab lb m w : Nat} {as ls : List Int} {th tm : Option Int} {st : List Int} {G : vG} {a d a2 d2 : Int} {ky : List Int}
theorem r_come14 {p q : Nat} (c : cmw h p [14, -992, -5497]) (E : h 17 14 ≠ 0) (h15 : r 14 = (q : Int)) (hq : q < 32768) : Hq L n h ((p : Int), a, d, r) ((q : Int), (q : Int), d, r) := by
  have m0 := c 0 _ rfl
  have m1 := c 1 _ rfl
  have m2 := c 2 _ rfl
  rw [Nat.add_zero] at m0
  have b0 := hAw (L := L) (n := n) (a := a) (d := d) (r := r) E m0.2.1 m0.1 (by decide) (by decide)
  rw [show (p : Int) + 1 = ((p + 1 : Nat) : Int) by omega] at b0
  have b1 := c_AeM (L := L) (n := n) (k := 14) (d := d) (r := r) E (by decide) m1.2.1 m1.1
  rw [h15, show ((p + 1 : Nat) : Int) + 1 = ((p + 2 : Nat) : Int) by omega] at b1
  exact b0.then E m1.2.1 m1.2.2 (b1.then E m2.2.1 m2.2.2 (c_jmp E m2.2.1 hq m2.1))
/-- a cell comes on the stack -/
theorem q_tp {sp : Nat} (k : Nat) (hk : k < 32000) (hs : r 0 = (sp : Int)) (h2 : sp < 31999) : QS L n h (wTake (k : Int) ++ wPush) (a, d, r) ((sp : Int), r k, p_set (p_set r 0 ((sp + 1 : Nat) : Int)) sp (r k)) :=
  (q_take k hk).app (q_push hs h2) (List.cons_ne_nil _ _) (List.cons_ne_nil _ _)
theorem q_tp' {sp : Nat} {v : Int} (k : Nat) (hk : k < 32000) (hs : r 0 = (sp : Int)) (h1 : 17000 ≤ sp) (h2 : sp < 31999) (hv : r k = v) : ∃ r2 a2 d2, QS L n h (wTake (k : Int) ++ wPush) (a, d, r) (a2, d2, r2) ∧ r2 0 = ((sp + 1 : Nat) : Int) ∧ r2 sp = v ∧ ∀ j, j ≠ 0 → j ≠ sp → r2 j = r j := by
  refine ⟨_, _, _, q_tp k hk hs h2, ?_, ?_, fun j h1 h2 => ?_⟩
  · rw [p_set_n _ _ _ _ (by omega), p_set_s]
  · rw [p_set_s, hv]
  · rw [p_set_n _ _ _ _ h2, p_set_n _ _ _ _ h1]
/-- a frame is made -/
theorem s_save {sp an q : Nat} {ret : Int} (S : cmw h 6 shL) (E : h 17 14 ≠ 0) (hs : r 0 = (sp : Int)) (h1 : 17000 + an ≤ sp) (h2 : sp + 5 < 31999) (h15 : r 15 = ret) (h13 : r 13 = (an : Int)) (h14 : r 14 = (q : Int)) (hq : q < 32768) : ∃ a2 d2 r2, Hq L n h (((6 : Nat) : Int), a, d, r) ((q : Int), a2, d2, r2) ∧ (r2 0 = ((sp + 5 : Nat) : Int) ∧ r2 1 = ((sp + 5 : Nat) : Int) ∧ r2 2 = ((sp - an : Nat) : Int)) ∧ (r2 sp = ret ∧ r2 (sp + 1) = r 1 ∧ r2 (sp + 2) = r 2 ∧ r2 (sp + 3) = r 3 ∧ r2 (sp + 4) = r 4) ∧ ∀ k, 2 < k → (k < sp ∨ sp + 5 ≤ k) → r2 k = r k := by
  obtain ⟨r1, a1, d1, A1, z1, v1, f1⟩ := q_tp' (L := L) (n := n) (h := h) (a := a) (d := d) (r := r) 15 (by decide) hs (by omega) (by omega) h15
  obtain ⟨r2, a2, d2, A2, z2, v2, f2⟩ := q_tp' (L := L) (n := n) (h := h) (a := a1) (d := d1) (r := r1) (v := r 1) 1 (by decide) z1 (by omega) (by omega) (f1 1 (by omega) (by omega))
  obtain ⟨r3, a3, d3, A3, z3, v3, f3⟩ := q_tp' (L := L) (n := n) (h := h) (a := a2) (d := d2) (r := r2) (v := r 2) 2 (by decide) z2 (by omega) (by omega) (by rw [f2 2 (by omega) (by omega), f1 2 (by omega) (by omega)])
  obtain ⟨r4, a4, d4, A4, z4, v4, f4⟩ := q_tp' (L := L) (n := n) (h := h) (a := a3) (d := d3) (r := r3) (v := r 3) 3 (by decide) z3 (by omega) (by omega) (by rw [f3 3 (by omega) (by omega), f2 3 (by omega) (by omega), f1 3 (by omega) (by omega)])
  obtain ⟨r5, a5, d5, A5, z5, v5, f5⟩ := q_tp' (L := L) (n := n) (h := h) (a := a4) (d := d4) (r := r4) (v := r 4) 4 (by decide) z4 (by omega) (by omega) (by rw [f4 4 (by omega) (by omega), f3 4 (by omega) (by omega), f2 4 (by omega) (by omega), f1 4 (by omega) (by omega)])
  have g : ∀ j, j ≠ 0 → (j < sp ∨ sp + 5 ≤ j) → r5 j = r j := fun j j0 hj => by
    rw [f5 j j0 (by omega), f4 j j0 (by omega), f3 j j0 (by omega), f2 j j0 (by omega), f1 j j0 (by omega)]
  have z5 : r5 0 = ((sp + 5 : Nat) : Int) := z5
  have t0 : QS L n h (wTake ((0 : Nat) : Int)) (a5, d5, r5) _ := q_take 0 (by decide)
  rw [z5] at t0
  have B := t0.app (q_keep 1 (by decide)) (List.cons_ne_nil _ _) (List.cons_ne_nil _ _)
  generalize er : p_set r5 1 ((sp + 5 : Nat) : Int) = r6 at B
  have g6 : ∀ j, j ≠ 1 → r6 j = r5 j := fun j hj => by rw [← er, p_set_n _ _ _ _ hj]
  have c1 : QS L n h [-6960] (((5 : Nat) : Int), ((sp + 5 : Nat) : Int), r6) _ := q_DmA
  rw [show am_s16 (((sp + 5 : Nat) : Int) - ((5 : Nat) : Int)) = (sp : Int) by rw [s16_id ⟨by omega, by omega⟩]; omega] at c1
  have c2 : QS L n h [-2864] (((13 : Nat) : Int), (sp : Int), r6) _ := q_DmM (by decide)
  rw [show am_s16 ((sp : Int) - r6 13) = ((sp - an : Nat) : Int) by rw [g6 13 (by omega), g 13 (by omega) (by omega), h13, s16_id ⟨by omega, by omega⟩]; omega] at c2
  have C := ((q_at (L := L) (n := n) (h := h) (a := ((1 : Nat) : Int)) (d := ((sp + 5 : Nat) : Int)) (r := r6) ((5 : Nat) : Int) (by decide) (by decide)).cons (c1.cons ((q_at ((13 : Nat) : Int) (by decide) (by decide)).cons c2 (List.cons_ne_nil _ _)) (List.cons_ne_nil _ _)) (List.cons_ne_nil _ _)).app (q_keep 2 (by decide)) (List.cons_ne_nil _ _) (List.cons_ne_nil _ _)
  have all := A1.app (A2.app (A3.app (A4.app (A5.app (B.app C (by simp [wTake]) (by simp)) (by simp [wTake]) (by simp [wTake])) (by simp [wTake]) (by simp [wTake])) (by simp [wTake]) (by simp [wTake])) (by simp [wTake]) (by simp [wTake])) (by simp [wTake]) (by simp [wTake])
  have c := S.sub 0 wSv rfl
  have ce := S.sub 40 [14, -992, -5497] rfl
  have J := r_come14 (L := L) (n := n) (a := ((2 : Nat) : Int)) (d := ((sp - an : Nat) : Int)) (r := p_set r6 2 ((sp - an : Nat) : Int)) ce E (by rw [p_set_n _ _ _ _ (by omega), g6 14 (by omega), g 14 (by omega) (by omega)]; exact h14) hq
  refine ⟨_, _, _, (all 6 c.cd E).on E _ (ce 0 _ rfl) J, ⟨?_, ?_, p_set_s _ _ _⟩, ⟨?_, ?_, ?_, ?_, ?_⟩, fun k k1 k2 => ?_⟩
  · rw [p_set_n _ _ _ _ (by omega), g6 0 (by omega), z5]
  · rw [p_set_n _ _ _ _ (by omega), ← er, p_set_s]
  · rw [p_set_n _ _ _ _ (by omega), g6 _ (by omega), f5 _ (by omega) (by omega), f4 _ (by omega) (by omega), f3 _ (by omega) (by omega), f2 _ (by omega) (by omega), v1]
  · rw [p_set_n _ _ _ _ (by omega), g6 _ (by omega), f5 _ (by omega) (by omega), f4 _ (by omega) (by omega), f3 _ (by omega) (by omega), v2]
  · rw [p_set_n _ _ _ _ (by omega), g6 _ (by omega), f5 _ (by omega) (by omega), f4 _ (by omega) (by omega), v3]
  · rw [p_set_n _ _ _ _ (by omega), g6 _ (by omega), f5 _ (by omega) (by omega), v4]
  · rw [p_set_n _ _ _ _ (by omega), g6 _ (by omega), v5]
  · rw [p_set_n _ _ _ _ (by omega), g6 _ (by omega), g _ (by omega) k2]
/-- a saved cell comes back -/
theorem q_rs {j : Nat} (k : Nat) (hk : k < 13) (hj : 16 ≤ j) (hj2 : j < 31999) (h13 : r 13 = ((j + 1 : Nat) : Int)) : QS L n h (wRs k) (a, d, r) ((k : Int), r j, p_set (p_set r 13 (j : Int)) k (r j)) := by
  have c1 : QS L n h [-856] (((13 : Nat) : Int), d, r) _ := q_AMim (by decide)
  rw [show am_s16 (r 13 - 1) = (j : Int) by rw [h13, s16_id ⟨by omega, by omega⟩]; omega] at c1
  have c2 : QS L n h [-1008] ((j : Int), d, p_set r 13 (j : Int)) _ := q_DeM (by omega)
  rw [p_set_n _ _ _ _ (by omega)] at c2
  exact ((q_at ((13 : Nat) : Int) (by decide) (by decide)).cons (c1.cons c2 (List.cons_ne_nil _ _)) (List.cons_ne_nil _ _)).app (q_keep k (by omega)) (List.cons_ne_nil _ _) (List.cons_ne_nil _ _)
theorem q_rs' {j : Nat} {v : Int} (k : Nat) (hk : k < 13) (hj : 16 ≤ j) (hj2 : j < 31999) (h13 : r 13 = ((j + 1 : Nat) : Int)) (hv : r j = v) : ∃ r2 a2 d2, QS L n h (wRs k) (a, d, r) (a2, d2, r2) ∧ r2 13 = (j : Int) ∧ r2 k = v ∧ ∀ i, i ≠ 13 → i ≠ k → r2 i = r i := by
  refine ⟨_, _, _, q_rs k hk hj hj2 h13, ?_, ?_, fun i h1 h2 => ?_⟩
  · rw [p_set_n _ _ _ _ (by omega), p_set_s]
  · rw [p_set_s, hv]
  · rw [p_set_n _ _ _ _ h2, p_set_n _ _ _ _ h1]
/-- a frame goes -/
theorem s_back {ret : Nat} {v s1 s2 s3 s4 : Int} (S : cmw h 6 shL) (E : h 17 14 ≠ 0) (X : VX r ab lb (as, ls, th, tm, v :: st, G)) (t : Nat) (hl : lb = t + 5) (ht : ab ≤ t) (e0 : r t = (ret : Int)) (e1 : r (t + 1) = s1) (e2 : r (t + 2) = s2) (e3 : r (t + 3) = s3) (e4 : r (t + 4) = s4) (hq : ret < 32768) : ∃ a2 d2 r2, Hq L n h (((49 : Nat) : Int), a, d, r) ((ret : Int), a2, d2, r2) ∧ (r2 0 = ((ab + 1 : Nat) : Int) ∧ r2 ab = v ∧ r2 1 = s1 ∧ r2 2 = s2 ∧ r2 3 = s3 ∧ r2 4 = s4) ∧ (∀ k, 17000 ≤ k → k < ab → r2 k = r k) ∧ ∀ k, 16 ≤ k → k < 17000 → r2 k = r k := by
  obtain ⟨p1, p2, -, -⟩ := X.pop
  obtain ⟨⟨x1, x2, x3⟩, x4, x5, x6, x7, x8, x9, x10, x11, x12⟩ := id X
  dsimp only at *
  have x12 : lb + ls.length + (st.length + 1) ≤ 31990 := x12
  generalize hsp : lb + ls.length + st.length = sp at *
  -- LCL is kept
  have t1 : QS L n h (wTake ((1 : Nat) : Int)) (a, d, r) _ := q_take 1 (by decide)
  rw [x2] at t1
  have A1 := t1.app (q_keep 13 (by decide)) (List.cons_ne_nil _ _) (List.cons_ne_nil _ _)
  generalize er : p_set r 13 (lb : Int) = r1 at A1
  have g1 : ∀ j, j ≠ 13 → r1 j = r j := fun j hj => by rw [← er, p_set_n _ _ _ _ hj]
  have z1 : r1 13 = (lb : Int) := by rw [← er, p_set_s]
  -- where to go
  have b1 : QS L n h [-6944] (((5 : Nat) : Int), (lb : Int), r1) _ := q_AeDmA
  rw [show am_s16 ((lb : Int) - ((5 : Nat) : Int)) = (t : Int) by rw [s16_id ⟨by omega, by omega⟩]; omega] at b1
  have b2 : QS L n h [-1008] ((t : Int), (lb : Int), r1) _ := q_DeM (by omega)
  rw [g1 t (by omega), e0] at b2
  have A2 := ((q_at (L := L) (n := n) (h := h) (a := ((13 : Nat) : Int)) (d := (lb : Int)) (r := r1) ((5 : Nat) : Int) (by decide) (by decide)).cons (b1.cons b2 (List.cons_ne_nil _ _)) (List.cons_ne_nil _ _)).app (q_keep 14 (by decide)) (List.cons_ne_nil _ _) (List.cons_ne_nil _ _)
  generalize er2 : p_set r1 14 (ret : Int) = r2 at A2
  have g2 : ∀ j, j ≠ 14 → r2 j = r1 j := fun j hj => by rw [← er2, p_set_n _ _ _ _ hj]
  have z2 : r2 14 = (ret : Int) := by rw [← er2, p_set_s]
  -- the value
  have t3 : QS L n h wPop (((14 : Nat) : Int), (ret : Int), r2) _ := q_pop (sp := sp) (by rw [g2 0 (by omega), g1 0 (by omega), p1]) (by omega) (by omega)
  rw [show r2 sp = v by rw [g2 _ (by omega), g1 _ (by omega)]; exact p2] at t3
  generalize er3 : p_set r2 0 (sp : Int) = r3 at t3
  have g3 : ∀ j, j ≠ 0 → r3 j = r2 j := fun j hj => by rw [← er3, p_set_n _ _ _ _ hj]
  have b3 : QS L n h [-992] (((2 : Nat) : Int), v, r3) _ := q_AeM (by decide)
  rw [show r3 2 = (ab : Int) by rw [g3 2 (by omega), g2 2 (by omega), g1 2 (by omega)]; exact x3] at b3
  have A3 := t3.app ((q_at (L := L) (n := n) (h := h) (a := (sp : Int)) (d := v) (r := r3) ((2 : Nat) : Int) (by decide) (by decide)).cons (b3.cons (q_MeD (show ab < 32000 by omega)) (List.cons_ne_nil _ _)) (List.cons_ne_nil _ _)) (List.cons_ne_nil _ _) (List.cons_ne_nil _ _)
  generalize er4 : p_set r3 ab v = r4 at A3
  have g4 : ∀ j, j ≠ ab → r4 j = r3 j := fun j hj => by rw [← er4, p_set_n _ _ _ _ hj]
  have z4 : r4 ab = v := by rw [← er4, p_set_s]
  -- SP
  have t5 : QS L n h (wTake ((2 : Nat) : Int)) ((ab : Int), v, r4) _ := q_take 2 (by decide)
  rw [show r4 2 = (ab : Int) by rw [g4 2 (by omega), g3 2 (by omega), g2 2 (by omega), g1 2 (by omega)]; exact x3] at t5
  have b5 : QS L n h [-6200] (((0 : Nat) : Int), (ab : Int), r4) _ := q_MeDp (by decide)
  rw [show am_s16 ((ab : Int) + 1) = ((ab + 1 : Nat) : Int) by rw [s16_id ⟨by omega, by omega⟩]; omega] at b5
  have A5 := t5.app ((q_at (L := L) (n := n) (h := h) (a := ((2 : Nat) : Int)) (d := (ab : Int)) (r := r4) ((0 : Nat) : Int) (by decide) (by decide)).cons b5 (List.cons_ne_nil _ _)) (List.cons_ne_nil _ _) (List.cons_ne_nil _ _)
  generalize er5 : p_set r4 0 ((ab + 1 : Nat) : Int) = r5 at A5
  have g5 : ∀ j, j ≠ 0 → r5 j = r4 j := fun j hj => by rw [← er5, p_set_n _ _ _ _ hj]
  have z5 : r5 0 = ((ab + 1 : Nat) : Int) := by rw [← er5, p_set_s]
  have G5 : ∀ j, j ≠ 0 → j ≠ 13 → j ≠ 14 → j ≠ ab → r5 j = r j := fun j j0 j1 j2 j3 => by rw [g5 j j0, g4 j j3, g3 j j0, g2 j j2, g1 j j1]
  obtain ⟨r6, a6, d6, A6, z6, v6, f6⟩ := q_rs' (L := L) (n := n) (h := h) (a := ((0 : Nat) : Int)) (d := (ab : Int)) (r := r5) (j := t + 4) (v := s4) 4 (by omega) (by omega) (by omega) (by rw [g5 13 (by omega), g4 13 (by omega), g3 13 (by omega), g2 13 (by omega), z1, hl]) (by rw [G5 _ (by omega) (by omega) (by omega) (by omega)]; exact e4)
  obtain ⟨r7, a7, d7, A7, z7, v7, f7⟩ := q_rs' (L := L) (n := n) (h := h) (a := a6) (d := d6) (r := r6) (j := t + 3) (v := s3) 3 (by omega) (by omega) (by omega) z6 (by rw [f6 _ (by omega) (by omega), G5 _ (by omega) (by omega) (by omega) (by omega)]; exact e3)
  obtain ⟨r8, a8, d8, A8, z8, v8, f8⟩ := q_rs' (L := L) (n := n) (h := h) (a := a7) (d := d7) (r := r7) (j := t + 2) (v := s2) 2 (by omega) (by omega) (by omega) z7 (by rw [f7 _ (by omega) (by omega), f6 _ (by omega) (by omega), G5 _ (by omega) (by omega) (by omega) (by omega)]; exact e2)
  obtain ⟨r9, a9, d9, A9, z9, v9, f9⟩ := q_rs' (L := L) (n := n) (h := h) (a := a8) (d := d8) (r := r8) (j := t + 1) (v := s1) 1 (by omega) (by omega) (by omega) z8 (by rw [f8 _ (by omega) (by omega), f7 _ (by omega) (by omega), f6 _ (by omega) (by omega), G5 _ (by omega) (by omega) (by omega) (by omega)]; exact e1)
  have all := A1.app (A2.app (A3.app (A5.app (A6.app (A7.app (A8.app A9 (by simp [wRs]) (by simp [wRs])) (by simp [wRs]) (by simp [wRs])) (by simp [wRs]) (by simp [wRs])) (by simp [wTake]) (by simp [wRs])) (by simp [wPop]) (by simp [wTake])) (by simp) (by simp [wPop])) (by simp [wTake]) (by simp)
  have G9 : ∀ j, j ≠ 13 → 5 ≤ j → r9 j = r5 j := fun j j1 j2 => by rw [f9 j j1 (by omega), f8 j j1 (by omega), f7 j j1 (by omega), f6 j j1 (by omega)]
  have c := S.sub 43 wBk rfl
  have ce := S.sub 82 [14, -992, -5497] rfl
  have J := r_come14 (L := L) (n := n) (a := a9) (d := d9) (r := r9) ce E (by rw [G9 14 (by omega) (by omega), g5 14 (by omega), g4 14 (by omega), g3 14 (by omega)]; exact z2) hq
  refine ⟨_, _, r9, (all 49 c.cd E).on E _ (ce 0 _ rfl) J, ⟨?_, ?_, v9, ?_, ?_, ?_⟩, fun k k1 k2 => ?_, fun k k1 k2 => ?_⟩
  · rw [f9 0 (by omega) (by omega), f8 0 (by omega) (by omega), f7 0 (by omega) (by omega), f6 0 (by omega) (by omega), z5]
  · rw [G9 ab (by omega) (by omega), g5 ab (by omega)]; exact z4
  · rw [f9 2 (by omega) (by omega)]; exact v8
  · rw [f9 3 (by omega) (by omega), f8 3 (by omega) (by omega)]; exact v7
  · rw [f9 4 (by omega) (by omega), f8 4 (by omega) (by omega), f7 4 (by omega) (by omega)]; exact v6
  · rw [G9 k (by omega) (by omega), G5 k (by omega) (by omega) (by omega) (by omega)]
  · rw [G9 k (by omega) (by omega), G5 k (by omega) (by omega) (by omega) (by omega)]
end
