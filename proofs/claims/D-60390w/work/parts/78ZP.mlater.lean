/-! PURE LAYER, 95: what a stream adds to the model's tables -/
/-- entries that come later -/
def lt_e (p : pr_S) (s s' : mi_S) : Prop :=
  (∀ k : Nat, s.1 254 14 ≤ k → k < s'.1 254 14 → (p.1 10 : Int) ≤ s'.1 261 k) ∧
  (∀ k : Nat, s.1 254 17 ≤ k → k < s'.1 254 17 → (p.1 10 : Int) ≤ s'.1 265 k ∧ (s'.1 266 k = s.2.1 ∨ s'.1 266 k = -1 ∨ (p.1 10 : Int) ≤ s'.1 266 k) ∧ (p.1 0 : Int) - 1 ≤ s'.1 263 k) ∧
  (∀ k : Nat, s.1 254 25 ≤ k → k < s'.1 254 25 → (p.1 10 : Int) ≤ s'.1 273 k ∧ (s'.1 274 k = s.2.1 ∨ s'.1 274 k = -1 ∨ (p.1 10 : Int) ≤ s'.1 274 k) ∧ (s'.1 271 k = -1 ∧ ((p.1 0 : Int) ≤ s'.1 270 k ∨ s'.1 270 k = (p.1 0 : Int) - 1 ∧ p.1 9 = 2) ∨ (p.1 3 : Int) ≤ s'.1 271 k ∨ s'.1 271 k = (p.1 3 : Int) - 1 ∧ (p.1 9 = 4 ∨ p.1 9 = 5))) ∧
  (∀ k : Nat, s.1 254 33 ≤ k → k < s'.1 254 33 → ((s'.1 277 k = 3 ∨ s'.1 277 k = 4) → (p.1 10 : Int) ≤ s'.1 280 k) ∧ (s'.1 277 k = 13 → s'.1 280 k + 1 = (p.1 15 : Int) ∧ p.1 15 ≠ 0 ∧ s'.1 281 k = (p.1 3 : Int) - 1 ∨ (p.1 10 : Int) ≤ s'.1 280 k) ∧ (p.1 3 : Int) - 1 ≤ s'.1 281 k) ∧
  (∀ k : Nat, s.1 254 39 ≤ k → k < s'.1 254 39 → (p.1 10 : Int) ≤ s'.1 283 k ∧ (s'.1 282 k = -1 ∨ (p.1 10 : Int) ≤ s'.1 282 k) ∧ (p.1 3 : Int) - 1 ≤ s'.1 289 k)
section
variable {K V : Nat → Int}
theorem lt_run : ∀ (es : List gx_V) {p p' : pr_S} {s s' : mi_S}, gx_fold (pr pw K V) es p = .inr p' → gx_fold (mi V) es s = .inr s' → rv K p s → pq p → lt_e p s s'
  | [], p, p', s, s', h, hm, R, Q => by
    cases h; cases hm
    exact ⟨fun _ h1 h2 => by omega, fun _ h1 h2 => by omega, fun _ h1 h2 => by omega, fun _ h1 h2 => by omega, fun _ h1 h2 => by omega⟩
  | e :: es, p, p', s, s', h, hm, R, Q => by
    obtain ⟨p1, e1, e2⟩ := gx_b_ok h
    obtain ⟨s1, m1, m2⟩ := gx_b_ok hm
    have R1 := rv_ev e1 m1 R
    obtain ⟨l1, l2, l3, l4, l5⟩ := lt_run es e2 m2 R1 (pq_ev e1 Q)
    obtain ⟨⟨⟨n1, n2, n3, n4, n5⟩, ty1, -, -⟩, -⟩ := na_ev e1 m1 R Q
    obtain ⟨q1, q2, q3, q4, q5, q6, -⟩ := pm_ev e1
    have M := (mx_run V es s1 s' m2).2
    refine ⟨fun k h1 h2 => ?_, fun k h1 h2 => ?_, fun k h1 h2 => ?_, fun k h1 h2 => ?_, fun k h1 h2 => ?_⟩
    · by_cases c : (k : Int) < s1.1 254 14
      · rw [M 261 14 rfl k c]; exact n1 k h1 c
      · have := l1 k (by omega) h2; omega
    · by_cases c : (k : Int) < s1.1 254 17
      · rw [M 265 17 rfl k c, M 266 17 rfl k c, M 263 17 rfl k c]
        have := n2 k h1 c
        omega
      · have := l2 k (by omega) h2; omega
    · by_cases c : (k : Int) < s1.1 254 25
      · rw [M 273 25 rfl k c, M 274 25 rfl k c, M 271 25 rfl k c, M 270 25 rfl k c]
        have := n3 k h1 c
        omega
      · have := l3 k (by omega) h2; omega
    · by_cases c : (k : Int) < s1.1 254 33
      · rw [M 277 33 rfl k c, M 280 33 rfl k c, M 281 33 rfl k c]
        obtain ⟨a1, a2, a3, a4⟩ := n4 k h1 c
        refine ⟨a3, fun z => Or.inl ⟨a4 z, fun z2 => ?_, a1⟩, by omega⟩
        have t := a4 z
        obtain ⟨-, t2⟩ := R1.1.2.2.2.1.2 k c
        obtain ⟨u, u1, -⟩ := t2 (Or.inr (Or.inr z))
        omega
      · obtain ⟨a1, a2, a3⟩ := l4 k (by omega) h2
        refine ⟨fun z => by have := a1 z; omega, fun z => ?_, by omega⟩
        have q8 := (pm_ev e1).2.2.2.2.2.2.2
        have q9 := Q.2.2.2.2.2.2
        rcases a2 z with ⟨b1, b2, b3⟩ | b1
        · rcases q6 with c1 | c1 | c1
          · have := q8 (q9 (by omega))
            exact Or.inl ⟨by omega, by omega, by omega⟩
          · exact absurd c1 b2
          · exact Or.inr (by omega)
        · exact Or.inr (by omega)
    · by_cases c : (k : Int) < s1.1 254 39
      · rw [M 283 39 rfl k c, M 282 39 rfl k c, M 289 39 rfl k c]
        have := n5 k h1 c
        omega
      · have := l5 k (by omega) h2; omega
/-- a type that waits gets its name -/
theorem ex_14 {es : List gx_V} {p p' : pr_S} {s s' : mi_S} (h : gx_fold (pr pw K V) es p = .inr p') (hm : gx_fold (mi V) es s = .inr s') (R : rv K p s) (Q : pq p) (h14 : p.1 14 = 1) (h0 : p'.1 14 = 0) : (∃ k : Nat, s.1 254 17 ≤ k ∧ k < s'.1 254 17 ∧ s'.1 266 k = s.2.1) ∨ (∃ k : Nat, s.1 254 25 ≤ k ∧ k < s'.1 254 25 ∧ s'.1 274 k = s.2.1) := by
  cases es with
  | nil => cases h; omega
  | cons e es =>
    obtain ⟨p1, e1, e2⟩ := gx_b_ok h
    obtain ⟨s1, m1, m2⟩ := gx_b_ok hm
    obtain ⟨⟨⟨n1, n2, n3, n4, n5⟩, -, x14, -⟩, -⟩ := na_ev e1 m1 R Q
    have M := mx_run V es s1 s' m2
    have P17 : 0 ≤ s.1 254 17 := R.1.2.1.1
    have P25 : 0 ≤ s.1 254 25 := R.1.2.2.1.1
    rcases x14 h14 with c | c
    · refine Or.inl ⟨(s.1 254 17).toNat, by omega, by have := M.1 17 (by unfold mx_k; omega); omega, ?_⟩
      rw [M.2 266 17 rfl _ (by omega)]
      exact (n2 _ (by omega) (by omega)).2.1
    · refine Or.inr ⟨(s.1 254 25).toNat, by omega, by have := M.1 25 (by unfold mx_k; omega); omega, ?_⟩
      rw [M.2 274 25 rfl _ (by omega)]
      exact (n3 _ (by omega) (by omega)).2.1
/-- a let that waits is ended -/
theorem ex_15 : ∀ (es : List gx_V) {p p' : pr_S} {s s' : mi_S}, gx_fold (pr pw K V) es p = .inr p' → gx_fold (mi V) es s = .inr s' → rv K p s → pq p → p.1 9 = 6 → p.1 15 ≠ 0 → p'.1 9 ≠ 6 → ∃ k : Nat, s.1 254 33 ≤ k ∧ k < s'.1 254 33 ∧ s'.1 277 k = 13 ∧ s'.1 280 k + 1 = (p.1 15 : Int)
  | [], p, p', s, s', h, hm, R, Q, h9, h15, h0 => by cases h; exact absurd h9 h0
  | e :: es, p, p', s, s', h, hm, R, Q, h9, h15, h0 => by
    obtain ⟨p1, e1, e2⟩ := gx_b_ok h
    obtain ⟨s1, m1, m2⟩ := gx_b_ok hm
    have R1 := rv_ev e1 m1 R
    obtain ⟨⟨⟨n1, n2, n3, n4, n5⟩, -, -, x15⟩, -⟩ := na_ev e1 m1 R Q
    have M := mx_run V es s1 s' m2
    have M1 := mx_ev V e s s1 m1
    rcases x15 h15 with c | c | ⟨k, k1, k2, k3⟩
    · have c9 : p1.1 9 = 6 := ((pm_ev e1).2.2.2.2.2.2.1 h9).resolve_right h15
      obtain ⟨k, k1, k2, k3, k4⟩ := ex_15 es e2 m2 R1 (pq_ev e1 Q) c9 (by omega) h0
      exact ⟨k, by have := M1.1 33 (by unfold mx_k; omega); omega, k2, k3, by omega⟩
    · exact absurd h9 c
    · refine ⟨k, k1, by have := M.1 33 (by unfold mx_k; omega); omega, ?_, ?_⟩
      · rw [M.2 277 33 rfl k k2]; exact k3
      · rw [M.2 280 33 rfl k k2]; exact (n4 k k1 k2).2.2.2 k3
/-- calls that are open beside the stream's -/
def ro (g : am_H) : List Int → List (Int × Int × Nat) → Prop
  | [], [] => True
  | c :: cs, q :: qs => (0 ≤ c ∧ c < g 254 39 ∧ g 283 c.toNat = q.2.1 ∧ c ∉ cs) ∧ ro g cs qs
  | _, _ => False
theorem ro.fr {g g' : am_H} (h39 : g 254 39 ≤ g' 254 39) (h283 : ∀ k : Nat, (k : Int) < g 254 39 → g' 283 k = g 283 k) : ∀ {cs : List Int} {qs : List (Int × Int × Nat)}, ro g cs qs → ro g' cs qs
  | [], [], _ => trivial
  | c :: cs, q :: qs, ⟨⟨h1, h2, h3, h4⟩, h5⟩ => ⟨⟨h1, by omega, by rw [h283 _ (by omega)]; exact h3, h4⟩, ro.fr h39 h283 h5⟩
  | [], _ :: _, h => h.elim
  | _ :: _, [], h => h.elim
def rk (K V : Nat → Int) (p : pr_S) (s : mi_S) : Prop := ro s.1 s.2.2.2.2 p.2.2.1 ∧ ∀ k : Nat, (k : Int) < s.1 254 39 → (k : Int) ∉ s.2.2.2.2 → pr_cs K V (s.1 283 k).toNat (s.1 284 k)
theorem rk_ev {e : gx_V} {p p' : pr_S} {s s' : mi_S} (h : pr pw K V e p = .inr p') (hm : mi V e s = .inr s') (R : rv K p s) (Q : pq p) (O : rk K V p s) : rk K V p' s' := by
  rcases (na_ev h hm R Q).2 with c | c | ⟨⟨f1, f2, f3, -⟩, f4, f5⟩
  · obtain ⟨n, x, y, z⟩ := e
    have c : n = 11 := c
    subst c
    obtain ⟨g, ty, so, bs, oc⟩ := s
    obtain ⟨hc, hb, hp⟩ := pr_q_in (show pr_q pw 11 p _ _ _ _ = _ from h)
    have hm := ce_q_in (show ce_q (g 254 39 < 990) (gx_b (mi_add 9 (g 254 39) 0 0 (mi_call (if z = 1 then x else -1) y g)) fun g1 => (.inr (g1, ty, so, bs, g 254 39 :: oc) : gx_R mi_S)) = .inr s' from hm)
    obtain ⟨g1, h1, h2⟩ := gx_b_ok hm
    cases h2
    rw [mi_add_in h1]
    have P39 : 0 ≤ g 254 39 := R.1.2.2.2.2.1
    have e39 : mi_put 9 (g 254 39) 0 0 (mi_call (if z = 1 then x else -1) y g) 254 39 = g 254 39 + 1 := by
      rw [mi_put_f _ _ _ _ _ _ (by decide)]; simp [mi_call, p_up]
    have e283 : ∀ k, mi_put 9 (g 254 39) 0 0 (mi_call (if z = 1 then x else -1) y g) 283 k = if k = (g 254 39).toNat then y else g 283 k := by
      intro k; rw [mi_put_c _ _ _ _ _ _ (by decide)]; simp [mi_call, p_up]
    have e284 : ∀ k, mi_put 9 (g 254 39) 0 0 (mi_call (if z = 1 then x else -1) y g) 284 k = if k = (g 254 39).toNat then 0 else g 284 k := by
      intro k; rw [mi_put_c _ _ _ _ _ _ (by decide)]; simp [mi_call, p_up]
    obtain ⟨O1, O2⟩ := O
    have lt : ∀ {cs : List Int} {qs : List (Int × Int × Nat)}, ro g cs qs → ∀ c ∈ cs, c < g 254 39 := by
      intro cs
      induction cs with
      | nil => intro qs _ c hc; cases hc
      | cons d cs ih =>
        intro qs h c hc
        cases qs with
        | nil => exact h.elim
        | cons q qs =>
          rcases List.mem_cons.1 hc with hc | hc
          · rw [hc]; exact h.1.2.1
          · exact ih h.2 c hc
    refine ⟨?_, fun k hk ho => ?_⟩
    · rw [hp]
      show ro _ (g 254 39 :: oc) ((x, y, p.1 6) :: p.2.2.1)
      refine ⟨⟨P39, by dsimp only; rw [e39]; omega, by dsimp only; rw [e283, if_pos rfl], fun hm => by have := lt O1 _ hm; omega⟩, O1.fr (by dsimp only; rw [e39]; omega) (fun k hk => ?_)⟩
      dsimp only
      rw [e283, if_neg (by have : (k : Int) < g 254 39 := hk; omega)]
    · have hk : (k : Int) < mi_put 9 (g 254 39) 0 0 (mi_call (if z = 1 then x else -1) y g) 254 39 := hk
      rw [e39] at hk
      have ho : (k : Int) ∉ g 254 39 :: oc := ho
      have n1 : k ≠ (g 254 39).toNat := fun e => ho (by rw [e, Int.toNat_of_nonneg P39]; exact List.mem_cons_self)
      show pr_cs K V (mi_put 9 (g 254 39) 0 0 (mi_call (if z = 1 then x else -1) y g) 283 k).toNat (mi_put 9 (g 254 39) 0 0 (mi_call (if z = 1 then x else -1) y g) 284 k)
      rw [e283, e284, if_neg n1, if_neg n1]
      exact O2 k (by show (k : Int) < g 254 39; omega) (fun hm => ho (List.mem_cons_of_mem _ hm))
  · obtain ⟨n, x, y, z⟩ := e
    have c : n = 12 := c
    subst c
    obtain ⟨g, ty, so, bs, oc⟩ := s
    obtain ⟨O1, O2⟩ := O
    cases hq : p.2.2.1 with
    | nil => unfold pr at h; dsimp only at h; rw [hq] at h; cases h
    | cons q l =>
      cases oc with
      | nil => cases hm
      | cons c cs =>
        obtain ⟨g1, h1, h2⟩ := gx_b_ok (show (gx_b (mi_add 10 c 0 0 (am_up g 284 c.toNat z)) fun g1 => (.inr (g1, ty, so, bs, cs) : gx_R mi_S)) = .inr s' from hm)
        cases h2
        rw [mi_add_in h1]
        rw [pr_12 rfl hq] at h
        obtain ⟨hc, hb, hp⟩ := pr_q_in h
        rw [hq] at O1
        have e39 : mi_put 10 c 0 0 (am_up g 284 c.toNat z) 254 39 = g 254 39 := by
          rw [mi_put_f _ _ _ _ _ _ (by decide)]; simp [p_up]
        have e283 : mi_put 10 c 0 0 (am_up g 284 c.toNat z) 283 = g 283 := by
          rw [mi_put_c _ _ _ _ _ _ (by decide), p_up_c _ _ _ _ _ (by decide)]
        have e284 : ∀ k, mi_put 10 c 0 0 (am_up g 284 c.toNat z) 284 k = if k = c.toNat then z else g 284 k := by
          intro k; rw [mi_put_c _ _ _ _ _ _ (by decide)]; simp [p_up]
        have O1a := O1.1
        dsimp only at O1a
        refine ⟨?_, fun k hk ho => ?_⟩
        · rw [hp]
          exact O1.2.fr (by dsimp only; rw [e39]; exact Int.le_refl _) (fun k _ => by dsimp only; rw [e283])
        · have hk : (k : Int) < mi_put 10 c 0 0 (am_up g 284 c.toNat z) 254 39 := hk
          rw [e39] at hk
          have ho : (k : Int) ∉ cs := ho
          show pr_cs K V (mi_put 10 c 0 0 (am_up g 284 c.toNat z) 283 k).toNat (mi_put 10 c 0 0 (am_up g 284 c.toNat z) 284 k)
          rw [e283, e284]
          by_cases n1 : k = c.toNat
          · rw [if_pos n1, n1, O1a.2.2.1]
            have t := hc.2.2.2.2.2.1
            rw [hc.2.2.1]
            exact t
          · rw [if_neg n1]
            refine O2 k hk (fun hm => ?_)
            rcases List.mem_cons.1 hm with hm | hm
            · exact n1 (by omega)
            · exact ho hm
  · obtain ⟨O1, O2⟩ := O
    refine ⟨?_, fun k hk ho => ?_⟩
    · rw [f4, f5]
      exact O1.fr (by rw [f3]; exact Int.le_refl _) (fun k _ => by rw [f1])
    · rw [f3] at hk
      rw [f4] at ho
      rw [f1, f2]
      exact O2 k hk ho
theorem rk_run : ∀ (es : List gx_V) {p p' : pr_S} {s s' : mi_S}, gx_fold (pr pw K V) es p = .inr p' → gx_fold (mi V) es s = .inr s' → rv K p s → pq p → rk K V p s → rk K V p' s' ∧ pq p'
  | [], p, p', s, s', h, hm, R, Q, O => by cases h; cases hm; exact ⟨O, Q⟩
  | e :: es, p, p', s, s', h, hm, R, Q, O => by
    obtain ⟨p1, e1, e2⟩ := gx_b_ok h
    obtain ⟨s1, m1, m2⟩ := gx_b_ok hm
    exact rk_run es e2 m2 (rv_ev e1 m1 R) (pq_ev e1 Q) (rk_ev e1 m1 R Q O)
end
