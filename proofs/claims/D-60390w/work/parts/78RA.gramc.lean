/-! PURE LAYER, 72a: brackets and commas: what gx_count makes of an e -/
section
variable {K V : Nat → Int}
/-- from token i to j: d more are open; x at least are open at i -/
def gc (K V : Nat → Int) (i j : Nat) (d x : Int) : Prop := i ≤ j ∧ ∀ (a f : Nat) (o m : Int) (b : Bool), x ≤ o → a < i → gx_count K V a (f + (j - i)) i o m b = gx_count K V a f j (o + d) m (b || decide (i < j))
theorem gc.trans {i j k : Nat} {d e x y z : Int} (h1 : gc K V i j d x) (h2 : gc K V j k e y) (hx : x ≤ z) (hy : y - d ≤ z) : gc K V i k (d + e) z := by
  refine ⟨Nat.le_trans h1.1 h2.1, fun a f o m b ho ha => ?_⟩
  have t1 := h1.2 a (f + (k - j)) o m b (by omega) ha
  have t2 := h2.2 a f (o + d) m (b || decide (i < j)) (by omega) (by have := h1.1; omega)
  have e1 : f + (k - i) = f + (k - j) + (j - i) := by have := h1.1; have := h2.1; omega
  rw [e1, t1, t2, Int.add_assoc]
  congr 1
  have := h1.1
  have := h2.1
  cases b
  · by_cases c1 : i < j
    · rw [decide_eq_true c1, decide_eq_true (show i < k by omega)]; rfl
    · rw [decide_eq_false c1]
      have : i = j := by omega
      subst this; rfl
  · rfl
theorem gc_0 (i : Nat) (x : Int) : gc K V i i 0 x := ⟨Nat.le_refl _, fun a f o m b _ _ => by rw [Nat.sub_self, Nat.add_zero, Int.add_zero, decide_eq_false (Nat.lt_irrefl i), Bool.or_false]⟩
theorem gx_count_s {a f k : Nat} {o o2 m m2 : Int} {b : Bool} (h : ¬ (K k = 0 ∨ K k = 6)) (ho : (if K k = 5 ∧ (V k = 40 ∨ V k = 91) then o + 1 else if K k = 5 ∧ (V k = 41 ∨ V k = 93) then o - 1 else o) = o2) (hm : (if K k = 5 ∧ V k = 44 ∧ o2 = 1 then m + 1 else m) = m2) (hz : o2 ≠ 0) : gx_count K V a (f + 1) k o m b = gx_count K V a f (k + 1) o2 m2 (b || decide (a < k)) := by
  rw [gx_count, if_neg h]
  dsimp only
  rw [ho, hm, if_neg hz]
theorem gx_count_e {a f k : Nat} {o m : Int} {b : Bool} (h : ¬ (K k = 0 ∨ K k = 6)) (ho : (if K k = 5 ∧ (V k = 40 ∨ V k = 91) then o + 1 else if K k = 5 ∧ (V k = 41 ∨ V k = 93) then o - 1 else o) = 0) : gx_count K V a (f + 1) k o m b = some (if b = true then m + 1 else 0) := by
  rw [gx_count, if_neg h]
  dsimp only
  rw [ho, if_pos rfl, if_neg (c := K k = 5 ∧ V k = 44 ∧ (0 : Int) = 1) (fun z => absurd z.2.2 (by decide))]
/-- a token that is no bracket and no comma -/
theorem gc_1 {i : Nat} (h0 : K i ≠ 0) (h6 : K i ≠ 6) (h : K i = 5 → V i ≠ 40 ∧ V i ≠ 91 ∧ V i ≠ 41 ∧ V i ≠ 93 ∧ V i ≠ 44) : gc K V i (i + 1) 0 1 := by
  refine ⟨Nat.le_succ _, fun a f o m b ho ha => ?_⟩
  rw [show f + (i + 1 - i) = f + 1 by omega, gx_count_s (o2 := o) (m2 := m) (by omega) ?_ ?_ (by omega), Int.add_zero, decide_eq_true ha, decide_eq_true (Nat.lt_succ_self i)]
  · rw [if_neg (fun z => by have := h z.1; omega), if_neg (fun z => by have := h z.1; omega)]
  · rw [if_neg (fun z => by have := h z.1; omega)]
theorem gc_o {i : Nat} (h5 : K i = 5) (h : V i = 40 ∨ V i = 91) : gc K V i (i + 1) 1 0 := by
  refine ⟨Nat.le_succ _, fun a f o m b ho ha => ?_⟩
  rw [show f + (i + 1 - i) = f + 1 by omega, gx_count_s (o2 := o + 1) (m2 := m) (by omega) ?_ ?_ (by omega), decide_eq_true ha, decide_eq_true (Nat.lt_succ_self i)]
  · rw [if_pos ⟨h5, h⟩]
  · rw [if_neg (by omega)]
theorem gc_c {i : Nat} (h5 : K i = 5) (h : V i = 41 ∨ V i = 93) : gc K V i (i + 1) (-1) 2 := by
  refine ⟨Nat.le_succ _, fun a f o m b ho ha => ?_⟩
  rw [show f + (i + 1 - i) = f + 1 by omega, gx_count_s (o2 := o + -1) (m2 := m) (by omega) ?_ ?_ (by omega), decide_eq_true ha, decide_eq_true (Nat.lt_succ_self i)]
  · rw [if_neg (by omega), if_pos ⟨h5, h⟩]; rfl
  · rw [if_neg (by omega)]
theorem gc_k {i : Nat} (h5 : K i = 5) (h : V i = 44) : gc K V i (i + 1) 0 2 := by
  refine ⟨Nat.le_succ _, fun a f o m b ho ha => ?_⟩
  rw [show f + (i + 1 - i) = f + 1 by omega, gx_count_s (o2 := o) (m2 := m) (by omega) ?_ ?_ (by omega), Int.add_zero, decide_eq_true ha, decide_eq_true (Nat.lt_succ_self i)]
  · rw [if_neg (by omega), if_neg (by omega)]
  · rw [if_neg (by omega)]
section
variable {P : Nat → Int} {σ : Type} {C : gx_V → σ → gx_R σ} {nx : Nat → gx_R Nat} {sx : Nat → Int × Int}
/-- the modes of an e -/
def gc_m (K V : Nat → Int) (m i j : Nat) : Prop := if m < 2 then gc K V i j 0 1 else gc K V i j (-1) 2
/-- kinds that are the same up to 1000, as far as there are tokens -/
abbrev ag (K K2 : Nat → Int) : Prop := ∀ i, i < 1000 → K i ≠ 0 → K2 i = K i
/-- K2: such kinds -/
def gc_2 (K K2 V : Nat → Int) (m i j : Nat) : Prop := i ≤ j ∧ (ag K K2 → j ≤ 1000 → gc_m K2 V m i j)
theorem xe_gc (K2 : Nat → Int) (hn : ∀ i, gx_P (nx i) (fun j => j = i + 1)) : ∀ (f m deep st i : Nat) (s : σ), gx_P (xe nx sx K V P C f m deep st i s) (fun a => gc_2 K K2 V m i a.1)
  | 0, m, _, _, _, _ => by
    rw [xe]; exact gx_P_e
  | f + 1, 0, deep, st, i, s => by
    have ih := xe_gc K2 hn f
    have sg : ∀ {c : Int} {i : Nat}, gx_P (xx_sign nx sx K V c i) (fun j => K i = 5 ∧ V i = c ∧ j = i + 1) := fun {c i} => gx_P_if fun z j hj => ⟨z.1, z.2, hn i j hj⟩
    have op : ∀ {d i : Nat}, gx_P (xx_open nx P d i) (fun j => j = i + 1) := fun {d i} => gx_P_if fun _ => hn i
    have pl : ∀ {n : Int}, K i = n → n ≠ 0 → n ≠ 6 → n ≠ 5 → ag K K2 → i < 1000 → gc K2 V i (i + 1) 0 1 := fun h h0 h6 h5 e hi => by
      have := e i hi (by omega)
      exact gc_1 (by omega) (by omega) (fun z => by omega)
    show gx_P _ (fun a : Nat × Nat × σ × Nat => gc_2 K K2 V 0 i a.1)
    rw [xe]
    split
    · rename_i k
      exact gx_P_b fun _ _ => gx_P_b fun j hj => gx_P_i (by rw [hn i j hj]; exact ⟨by omega, fun e hi => pl k (by decide) (by decide) (by decide) e (by omega)⟩)
    split
    · rename_i k
      exact gx_P_if fun _ => gx_P_b fun _ _ => gx_P_b fun j hj => gx_P_i (by show gc_2 K K2 V 0 i j; rw [hn i j hj]; exact ⟨by omega, fun e hi => pl k (by decide) (by decide) (by decide) e (by omega)⟩)
    split
    · rename_i k
      exact gx_P_if fun _ => gx_P_b fun _ _ => gx_P_b fun j hj => gx_P_i (by show gc_2 K K2 V 0 i j; rw [hn i j hj]; exact ⟨by omega, fun e hi => pl k (by decide) (by decide) (by decide) e (by omega)⟩)
    split
    · rename_i k
      refine gx_P_b fun j hj => ?_
      have := hn i j hj
      subst this
      split
      · rename_i c
        refine gx_P_b fun _ _ => gx_P_b fun j1 h1 => gx_P_b fun r1 h2 => gx_P_b fun r2 h3 => gx_P_b fun j2 h4 => gx_P_b fun _ _ => gx_P_i ?_
        have a1 := op j1 h1
        subst a1
        have a2 : gc_2 K K2 V 0 (i + 1 + 1) r1.1 := ih 0 _ _ _ _ r1 h2
        have a3 : gc_2 K K2 V 1 r1.1 r2.1 := ih 1 _ _ _ _ r2 h3
        obtain ⟨b1, b2, b3⟩ := sg j2 h4
        show gc_2 K K2 V 0 i j2
        rw [b3]
        have l1 := a2.1
        have l2 := a3.1
        refine ⟨by omega, fun e hi => ?_⟩
        have g1 := pl k (by decide) (by decide) (by decide) e (by omega)
        have e1 := e (i + 1) (by omega) (by omega)
        have e2 := e r2.1 (by omega) (by omega)
        have a2 : gc K2 V (i + 1 + 1) r1.1 0 1 := a2.2 e (by omega)
        have a3 : gc K2 V r1.1 r2.1 0 1 := a3.2 e (by omega)
        exact (((g1.trans (gc_o (by rw [e1]; exact c.1) (Or.inr c.2)) (z := 1) (by decide) (by decide)).trans a2 (z := 1) (by decide) (by decide)).trans a3 (z := 1) (by decide) (by decide)).trans (gc_c (by rw [e2]; exact b1) (Or.inr b2)) (z := 1) (by decide) (by decide)
      split
      · rename_i c
        refine gx_P_b fun j1 h1 => gx_P_b fun j2 h2 => gx_P_b fun _ _ => gx_P_b fun j3 h3 => gx_P_b fun r h4 => gx_P_b fun _ _ => gx_P_i ?_
        have a1 := hn _ j1 h1
        subst a1
        have a2 : K (i + 1 + 1) = 2 ∧ j2 = i + 1 + 1 + 1 := (gx_P_if fun z j hj => ⟨z, hn _ j hj⟩ : gx_P (xx_name nx sx K (i + 1 + 1)) (fun j => K (i + 1 + 1) = 2 ∧ j = i + 1 + 1 + 1)) j2 h2
        obtain ⟨a2, a3⟩ := a2
        subst a3
        have a4 : (K (i + 1 + 1 + 1) = 5 ∧ V (i + 1 + 1 + 1) = 40) ∧ j3 = i + 1 + 1 + 1 + 1 := (gx_P_if fun z j hj => ⟨z, op j hj⟩ : gx_P (xx_opens nx sx K V P 40 deep (i + 1 + 1 + 1)) (fun j => (K (i + 1 + 1 + 1) = 5 ∧ V (i + 1 + 1 + 1) = 40) ∧ j = i + 1 + 1 + 1 + 1)) j3 h3
        obtain ⟨a4, a5⟩ := a4
        subst a5
        have a6 : gc_2 K K2 V 2 (i + 1 + 1 + 1 + 1) r.1 := ih 2 _ _ _ _ r h4
        show gc_2 K K2 V 0 i r.1
        have l1 := a6.1
        refine ⟨by omega, fun e hi => ?_⟩
        have g1 := pl k (by decide) (by decide) (by decide) e (by omega)
        have e1 := e (i + 1) (by omega) (by omega)
        have e2 := e (i + 1 + 1) (by omega) (by omega)
        have e3 := e (i + 1 + 1 + 1) (by omega) (by omega)
        have a6 : gc K2 V (i + 1 + 1 + 1 + 1) r.1 (-1) 2 := a6.2 e (by omega)
        exact ((((g1.trans (gc_1 (by rw [e1, c.1]; decide) (by rw [e1, c.1]; decide) (fun _ => by omega)) (z := 1) (by decide) (by decide)).trans (gc_1 (by rw [e2, a2]; decide) (by rw [e2, a2]; decide) (fun z => by rw [e2, a2] at z; exact absurd z (by decide))) (z := 1) (by decide) (by decide)).trans (gc_o (by rw [e3]; exact a4.1) (Or.inl a4.2)) (z := 1) (by decide) (by decide))).trans a6 (z := 1) (by decide) (by decide)
      split
      · rename_i c
        refine gx_P_b fun _ _ => gx_P_b fun j3 h3 => gx_P_b fun r h4 => gx_P_b fun _ _ => gx_P_i ?_
        have a1 := op j3 h3
        subst a1
        have a6 : gc_2 K K2 V 2 (i + 1 + 1) r.1 := ih 2 _ _ _ _ r h4
        show gc_2 K K2 V 0 i r.1
        have l1 := a6.1
        refine ⟨by omega, fun e hi => ?_⟩
        have g1 := pl k (by decide) (by decide) (by decide) e (by omega)
        have e1 := e (i + 1) (by omega) (by omega)
        have a6 : gc K2 V (i + 1 + 1) r.1 (-1) 2 := a6.2 e (by omega)
        exact (g1.trans (gc_o (by rw [e1]; exact c.1) (Or.inl c.2)) (z := 1) (by decide) (by decide)).trans a6 (z := 1) (by decide) (by decide)
      · exact gx_P_b fun _ _ => gx_P_i ⟨by show i ≤ i + 1; omega, fun e hi => pl k (by decide) (by decide) (by decide) e (by have hi : i + 1 ≤ 1000 := hi; omega)⟩
    split
    · rename_i c
      refine gx_P_b fun j1 h1 => gx_P_b fun r1 h2 => gx_P_b fun r2 h3 => gx_P_b fun j2 h4 => gx_P_i ?_
      have a1 := op j1 h1
      subst a1
      have a2 : gc_2 K K2 V 0 (i + 1) r1.1 := ih 0 _ _ _ _ r1 h2
      have a3 : gc_2 K K2 V 1 r1.1 r2.1 := ih 1 _ _ _ _ r2 h3
      obtain ⟨b1, b2, b3⟩ := sg j2 h4
      show gc_2 K K2 V 0 i j2
      rw [b3]
      have l1 := a2.1
      have l2 := a3.1
      refine ⟨by omega, fun e hi => ?_⟩
      have e1 := e i (by omega) (by omega)
      have e2 := e r2.1 (by omega) (by omega)
      have a2 : gc K2 V (i + 1) r1.1 0 1 := a2.2 e (by omega)
      have a3 : gc K2 V r1.1 r2.1 0 1 := a3.2 e (by omega)
      exact (((gc_o (by rw [e1]; exact c.1) (Or.inl c.2)).trans a2 (z := 1) (by decide) (by decide)).trans a3 (z := 1) (by decide) (by decide)).trans (gc_c (by rw [e2]; exact b1) (Or.inl b2)) (z := 1) (by decide) (by decide)
    · refine gx_P_if fun c => gx_P_b fun j1 h1 => gx_P_b fun r1 h2 => gx_P_b fun _ _ => gx_P_i ?_
      have a1 := op j1 h1
      subst a1
      have a2 : gc_2 K K2 V 0 (i + 1) r1.1 := ih 0 _ _ _ _ r1 h2
      have c5 : K i = 5 ∧ (V i = 45 ∨ V i = 126) := by
        rcases c with c | c
        · exact ⟨c.1, Or.inl c.2⟩
        · exact ⟨c.1, Or.inr c.2⟩
      have l1 := a2.1
      refine ⟨by show i ≤ r1.1; omega, fun e hi => ?_⟩
      have hi : r1.1 ≤ 1000 := hi
      have e1 := e i (by omega) (by omega)
      have a2 : gc K2 V (i + 1) r1.1 0 1 := a2.2 e (by omega)
      exact (gc_1 (by rw [e1, c5.1]; decide) (by rw [e1, c5.1]; decide) (fun _ => by omega)).trans a2 (z := 1) (by decide) (by decide)
  | f + 1, 1, deep, st, i, s => by
    have ih := xe_gc K2 hn f
    show gx_P _ (fun a : Nat × Nat × σ × Nat => gc_2 K K2 V 1 i a.1)
    rw [xe]
    split
    · rename_i c
      refine gx_P_b fun j hj => gx_P_b fun r1 h1 => gx_P_b fun s1 _ a h2 => ?_
      have := hn i j hj
      subst this
      have a2 : gc_2 K K2 V 0 (i + 1) r1.1 := ih 0 _ _ _ _ r1 h1
      have a3 : gc_2 K K2 V 1 r1.1 a.1 := ih 1 _ _ _ _ a h2
      have l1 := a2.1
      have l2 := a3.1
      refine ⟨by omega, fun e hi => ?_⟩
      have e1 := e i (by omega) (by omega)
      have a2 : gc K2 V (i + 1) r1.1 0 1 := a2.2 e (by omega)
      have a3 : gc K2 V r1.1 a.1 0 1 := a3.2 e (by omega)
      exact ((gc_1 (by rw [e1, c.1]; decide) (by rw [e1, c.1]; decide) (fun _ => by omega)).trans a2 (z := 1) (by decide) (by decide)).trans a3 (z := 1) (by decide) (by decide)
    · exact gx_P_i ⟨Nat.le_refl _, fun _ _ => gc_0 i 1⟩
  | f + 1, 2, deep, st, i, s => by
    have ih := xe_gc K2 hn f
    show gx_P _ (fun a : Nat × Nat × σ × Nat => gc_2 K K2 V 2 i a.1)
    rw [xe]
    split
    · rename_i c
      exact gx_P_b fun j hj => gx_P_i (by show gc_2 K K2 V 2 i j; rw [hn i j hj]; exact ⟨by omega, fun e hi => gc_c (by rw [e i (by omega) (by rw [c.1]; decide)]; exact c.1) (Or.inl c.2)⟩)
    · refine gx_P_b fun r1 h1 => gx_P_b fun r2 h2 => gx_P_b fun r3 h3 => gx_P_i ?_
      have a1 : gc_2 K K2 V 0 i r1.1 := ih 0 _ _ _ _ r1 h1
      have a2 : gc_2 K K2 V 1 r1.1 r2.1 := ih 1 _ _ _ _ r2 h2
      have a3 : gc_2 K K2 V 3 r2.1 r3.1 := ih 3 _ _ _ _ r3 h3
      have l1 := a1.1
      have l2 := a2.1
      have l3 := a3.1
      refine ⟨by show i ≤ r3.1; omega, fun e hi => ?_⟩
      have hi : r3.1 ≤ 1000 := hi
      have a1 : gc K2 V i r1.1 0 1 := a1.2 e (by omega)
      have a2 : gc K2 V r1.1 r2.1 0 1 := a2.2 e (by omega)
      have a3 : gc K2 V r2.1 r3.1 (-1) 2 := a3.2 e (by omega)
      exact (a1.trans a2 (z := 1) (by decide) (by decide)).trans a3 (z := 2) (by decide) (by decide)
  | f + 1, m + 3, deep, st, i, s => by
    have ih := xe_gc K2 hn f
    show gx_P _ (fun a : Nat × Nat × σ × Nat => gc_2 K K2 V (m + 3) i a.1)
    have e3 : ∀ j, gc K2 V i j (-1) 2 → gc_m K2 V (m + 3) i j := fun j h => by unfold gc_m; rw [if_neg (by omega)]; exact h
    rw [xe]
    · split
      · rename_i c
        exact gx_P_b fun j hj => gx_P_i (by show gc_2 K K2 V (m + 3) i j; rw [hn i j hj]; exact ⟨by omega, fun e hi => e3 _ (gc_c (by rw [e i (by omega) (by rw [c.1]; decide)]; exact c.1) (Or.inl c.2))⟩)
      · refine gx_P_b fun j hj => gx_P_b fun r1 h1 => gx_P_b fun r2 h2 => gx_P_b fun r3 h3 => gx_P_i ?_
        obtain ⟨b1, b2, b3⟩ := (gx_P_if fun z j hj => ⟨z.1, z.2, hn i j hj⟩ : gx_P (xx_sign nx sx K V 44 i) (fun j => K i = 5 ∧ V i = 44 ∧ j = i + 1)) j hj
        subst b3
        have a1 : gc_2 K K2 V 0 (i + 1) r1.1 := ih 0 _ _ _ _ r1 h1
        have a2 : gc_2 K K2 V 1 r1.1 r2.1 := ih 1 _ _ _ _ r2 h2
        have a3 : gc_2 K K2 V 3 r2.1 r3.1 := ih 3 _ _ _ _ r3 h3
        have l1 := a1.1
        have l2 := a2.1
        have l3 := a3.1
        refine ⟨by show i ≤ r3.1; omega, fun e hi => e3 _ ?_⟩
        have hi : r3.1 ≤ 1000 := hi
        have e1 := e i (by omega) (by omega)
        have a1 : gc K2 V (i + 1) r1.1 0 1 := a1.2 e (by omega)
        have a2 : gc K2 V r1.1 r2.1 0 1 := a2.2 e (by omega)
        have a3 : gc K2 V r2.1 r3.1 (-1) 2 := a3.2 e (by omega)
        exact (((gc_k (by rw [e1]; exact b1) b2).trans a1 (z := 2) (by decide) (by decide)).trans a2 (z := 2) (by decide) (by decide)).trans a3 (z := 2) (by decide) (by decide)
    all_goals (intro z; omega)
end
/-- the count of a call whose last name stands at t -/
def pr_c (K V : Nat → Int) (t : Nat) (z : Int) : Prop := gx_count K V (t + 1) 4500 (t + 1) 0 0 false = some z
/-- the same, whatever stands from 1000 on -/
def pr_cs (K V : Nat → Int) (t : Nat) (z : Int) : Prop := ∀ K2 : Nat → Int, ag K K2 → pr_c K2 V t z
/-- the counting of a call has come to token i, with m commas -/
def sc (K V : Nat → Int) (t i : Nat) (m : Int) : Prop := t + 2 ≤ i ∧ ∃ f, f + i = 4500 + (t + 1) ∧ gx_count K V (t + 1) 4500 (t + 1) 0 0 false = gx_count K V (t + 1) f i 1 m (decide (t + 2 < i))
theorem sc_0 {t : Nat} (h5 : K (t + 1) = 5) (h : V (t + 1) = 40) : sc K V t (t + 2) 0 := by
  refine ⟨Nat.le_refl _, 4499, by omega, ?_⟩
  rw [show (4500 : Nat) = 4499 + 1 from rfl, gx_count_s (o2 := 1) (m2 := 0) (by omega) ?_ ?_ (by decide), decide_eq_false (Nat.lt_irrefl _), decide_eq_false (Nat.lt_irrefl _)]
  · rfl
  · rw [if_pos ⟨h5, Or.inl h⟩]; rfl
  · rw [if_neg (by omega)]
theorem sc.go {t i j : Nat} {m : Int} (S : sc K V t i m) (h : gc K V i j 0 1) (hij : i < j) (hj : j ≤ 1001) : sc K V t j m := by
  obtain ⟨s1, f, s2, s3⟩ := S
  refine ⟨by omega, f - (j - i), by omega, ?_⟩
  have t := h.2 (t + 1) (f - (j - i)) 1 m (decide (t + 2 < i)) (Int.le_refl _) (by omega)
  rw [show f - (j - i) + (j - i) = f by omega, decide_eq_true hij, Bool.or_true, Int.add_zero] at t
  rw [s3, t, decide_eq_true (show _ + 2 < j by omega)]
theorem sc.comma {t i : Nat} {m : Int} (S : sc K V t i m) (h5 : K i = 5) (h : V i = 44) (hi : i ≤ 1000) : sc K V t (i + 1) (m + 1) := by
  obtain ⟨s1, f, s2, s3⟩ := S
  obtain ⟨g, rfl⟩ : ∃ g, f = g + 1 := ⟨f - 1, by omega⟩
  refine ⟨by omega, g, by omega, ?_⟩
  rw [s3, gx_count_s (o2 := 1) (m2 := m + 1) (by omega) ?_ ?_ (by decide), decide_eq_true (show t + 1 < i by omega), Bool.or_true, decide_eq_true (show t + 2 < i + 1 by omega)]
  · rw [if_neg (by omega), if_neg (by omega)]
  · rw [if_pos ⟨h5, h, rfl⟩]
theorem sc.end {t i : Nat} {m : Int} (S : sc K V t i m) (h5 : K i = 5) (h : V i = 41) (hi : i ≤ 1000) : pr_c K V t (if t + 2 < i then m + 1 else 0) := by
  obtain ⟨s1, f, s2, s3⟩ := S
  obtain ⟨g, rfl⟩ : ∃ g, f = g + 1 := ⟨f - 1, by omega⟩
  unfold pr_c
  rw [s3, gx_count_e (by omega) (by rw [if_neg (by omega), if_pos ⟨h5, Or.inl h⟩]; rfl)]
  by_cases c : t + 2 < i
  · rw [if_pos c, if_pos (decide_eq_true c)]
  · rw [if_neg c, if_neg (by rw [decide_eq_false c]; decide)]
/-- counts only grow -/
theorem gx_count_le (a : Nat) : ∀ (f k : Nat) (o m : Int) (b : Bool) (z : Int), gx_count K V a f k o m b = some z → 0 ≤ m → 0 ≤ z ∧ (b = true → m ≤ z)
  | 0, _, _, _, _, _, h, _ => by cases h
  | f + 1, k, o, m, b, z, h, hm => by
    rw [gx_count] at h
    by_cases c : K k = 0 ∨ K k = 6
    · rw [if_pos c] at h; cases h; exact ⟨hm, fun _ => Int.le_refl _⟩
    · rw [if_neg c] at h
      dsimp only at h
      generalize (if K k = 5 ∧ (V k = 40 ∨ V k = 91) then o + 1 else if K k = 5 ∧ (V k = 41 ∨ V k = 93) then o - 1 else o) = o2 at h
      have hm2 : m ≤ (if K k = 5 ∧ V k = 44 ∧ o2 = 1 then m + 1 else m) := by split <;> omega
      generalize (if K k = 5 ∧ V k = 44 ∧ o2 = 1 then m + 1 else m) = m2 at h hm2
      by_cases c2 : o2 = 0
      · rw [if_pos c2] at h
        cases h
        cases b
        · exact ⟨by show (0 : Int) ≤ 0; decide, fun z => by cases z⟩
        · exact ⟨by show 0 ≤ m2 + 1; omega, fun _ => by show m ≤ m2 + 1; omega⟩
      · rw [if_neg c2] at h
        have t := gx_count_le a f (k + 1) o2 m2 _ z h (by omega)
        refine ⟨t.1, fun hb => ?_⟩
        have := t.2 (by rw [hb]; rfl)
        omega
theorem sc.le {t i : Nat} {m z : Int} (S : sc K V t i m) (hm : 0 ≤ m) (h : t + 2 < i ∨ m = 0) (hz : pr_c K V t z) : m ≤ z := by
  obtain ⟨s1, f, s2, s3⟩ := S
  unfold pr_c at hz
  rw [s3] at hz
  have t := gx_count_le _ _ _ _ _ _ _ hz hm
  rcases h with h | h
  · exact t.2 (decide_eq_true h)
  · omega
/-- where kinds are 0 from some place on, the count ends -/
theorem gx_count_some (a Z : Nat) (hZ : K Z = 0) : ∀ (f k : Nat) (o m : Int) (b : Bool), k ≤ Z → Z < k + f → ∃ z, gx_count K V a f k o m b = some z
  | 0, _, _, _, _, h1, h2 => by omega
  | f + 1, k, o, m, b, h1, h2 => by
    rw [gx_count]
    by_cases c : K k = 0 ∨ K k = 6
    · rw [if_pos c]; exact ⟨_, rfl⟩
    · rw [if_neg c]
      dsimp only
      generalize (if K k = 5 ∧ (V k = 40 ∨ V k = 91) then o + 1 else if K k = 5 ∧ (V k = 41 ∨ V k = 93) then o - 1 else o) = o2
      generalize (if K k = 5 ∧ V k = 44 ∧ o2 = 1 then m + 1 else m) = m2
      split
      · exact ⟨_, rfl⟩
      · refine gx_count_some a Z hZ f (k + 1) _ _ _ ?_ (by omega)
        have : k ≠ Z := fun e => c (Or.inl (by rw [e]; exact hZ))
        omega
end
