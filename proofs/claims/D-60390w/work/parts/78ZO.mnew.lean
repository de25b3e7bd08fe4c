/-! PURE LAYER, 94: what an event adds to the model's tables -/
/-- what the counts of a stream do -/
def pm (p p' : pr_S) : Prop := p.1 10 ≤ p'.1 10 ∧ p.1 0 ≤ p'.1 0 ∧ p.1 3 ≤ p'.1 3 ∧ (p'.1 9 = 2 → p.1 9 = 2 ∨ p.1 0 < p'.1 0) ∧ (p'.1 9 = 4 ∨ p'.1 9 = 5 → (p.1 9 = 4 ∨ p.1 9 = 5) ∨ p.1 3 < p'.1 3) ∧ (p'.1 15 = p.1 15 ∨ p'.1 15 = 0 ∨ p.1 10 < p'.1 15) ∧ (p.1 9 = 6 → p'.1 9 = 6 ∨ p.1 15 = 0) ∧ (p.1 9 = 6 → p'.1 3 = p.1 3 ∧ p'.1 0 = p.1 0)
section
variable {w : Nat → Nat → Nat} {K V : Nat → Int} {p p' : pr_S}
theorem pm_ev {e : gx_V} (h : pr w K V e p = .inr p') : pm p p' := by
  obtain ⟨n, x, y, z⟩ := e
  unfold pr at h
  split at h
  all_goals first
    | (cases h; done)
    | (obtain ⟨hc, hb, hp⟩ := pr_q_in h; subst hp; (try unfold pr_t at hc); (try dsimp only at hc); simp [pm, pu]; first | done | omega)
    | skip
  · split at h
    · cases h
    · obtain ⟨hc, hb, hp⟩ := pr_q_in h
      subst hp
      simp [pm, pu]
      omega
  · obtain ⟨hc, hb, hp⟩ := pr_q_in h
    subst hp
    unfold pr_t at hc
    dsimp only at hc
    by_cases c : y = 1
    · simp [pm, pu, c]; omega
    · simp [pm, pu, c]; omega
end
/-- new entries: their tokens, types, owners -/
def na (p : pr_S) (ty so : Int) (g g' : am_H) : Prop :=
  (∀ k : Nat, g 254 14 ≤ k → k < g' 254 14 → (p.1 10 : Int) ≤ g' 261 k) ∧
  (∀ k : Nat, g 254 17 ≤ k → k < g' 254 17 → (p.1 10 : Int) ≤ g' 265 k ∧ g' 266 k = ty ∧ g' 263 k = (p.1 0 : Int) - 1 ∧ g' 264 k = so) ∧
  (∀ k : Nat, g 254 25 ≤ k → k < g' 254 25 → (p.1 10 : Int) ≤ g' 273 k ∧ g' 274 k = ty ∧ g' 270 k = (p.1 0 : Int) - 1 ∧ (g' 271 k = -1 ∧ p.1 9 = 2 ∧ (g' 272 k = 0 ∨ g' 272 k = 1) ∨ g' 271 k = (p.1 3 : Int) - 1 ∧ (p.1 9 = 4 ∧ g' 272 k = 2 ∨ p.1 9 = 5 ∧ g' 272 k = 3))) ∧
  (∀ k : Nat, g 254 33 ≤ k → k < g' 254 33 → g' 281 k = (p.1 3 : Int) - 1 ∧ p.1 9 = 6 ∧ ((g' 277 k = 3 ∨ g' 277 k = 4) → (p.1 10 : Int) ≤ g' 280 k) ∧ (g' 277 k = 13 → g' 280 k + 1 = (p.1 15 : Int))) ∧
  (∀ k : Nat, g 254 39 ≤ k → k < g' 254 39 → g' 289 k = (p.1 3 : Int) - 1 ∧ p.1 9 = 6 ∧ (p.1 10 : Int) ≤ g' 283 k ∧ (g' 282 k = -1 ∨ (p.1 10 : Int) ≤ g' 282 k))
section
variable {K V : Nat → Int} {p p' : pr_S} {ty so : Int} {g x : am_H}
theorem na.refl (p : pr_S) (ty so : Int) (g : am_H) : na p ty so g g := ⟨fun _ h1 h2 => by omega, fun _ h1 h2 => by omega, fun _ h1 h2 => by omega, fun _ h1 h2 => by omega, fun _ h1 h2 => by omega⟩
theorem na.fr {y : am_H} (N : na p ty so g x) (h : ∀ a c, mx_c a = some c → y a = x a) (hc : ∀ c, mx_k c → y 254 c = x 254 c) : na p ty so g y := by
  unfold na at *
  rw [hc 14 (by unfold mx_k; omega), hc 17 (by unfold mx_k; omega), hc 25 (by unfold mx_k; omega), hc 33 (by unfold mx_k; omega), hc 39 (by unfold mx_k; omega), h 261 _ rfl, h 263 _ rfl, h 264 _ rfl, h 265 _ rfl, h 266 _ rfl, h 270 _ rfl, h 271 _ rfl, h 272 _ rfl, h 273 _ rfl, h 274 _ rfl, h 281 _ rfl, h 277 _ rfl, h 280 _ rfl, h 289 _ rfl, h 283 _ rfl, h 282 _ rfl]
  exact N
theorem na.up (N : na p ty so g x) {a k : Nat} {v : Int} (ha : a ≠ 254) (h : mx_c a = none) : na p ty so g (am_up x a k v) :=
  N.fr (fun b c hb => p_up_c _ _ _ _ _ (fun e => by rw [e, h] at hb; cases hb)) (fun c _ => by rw [p_up_c _ _ _ _ _ (fun e => ha e.symm)])
theorem na.upf (N : na p ty so g x) {k : Nat} {v : Int} (h : ¬ mx_k k) : na p ty so g (am_up x 254 k v) :=
  N.fr (fun b c hb => p_up_c _ _ _ _ _ (mx_ck hb).2) (fun c hc => p_up_n _ _ _ _ _ _ (Or.inr (fun e => h (e ▸ hc))))
theorem na.put (N : na p ty so g x) (k a b t : Int) (h33 : 0 ≤ x 254 33) (h17 : x 254 17 = (p.1 3 : Int)) (h9 : p.1 9 = 6) (hk : (k = 3 ∨ k = 4) → (p.1 10 : Int) ≤ t) (hk2 : k = 13 → t + 1 = (p.1 15 : Int)) : na p ty so g (mi_put k a b t x) := by
  obtain ⟨n1, n2, n3, n4, n5⟩ := N
  unfold na
  rw [mi_put_f _ _ _ _ _ 14 (by decide), mi_put_f _ _ _ _ _ 17 (by decide), mi_put_f _ _ _ _ _ 25 (by decide), mi_put_f _ _ _ _ _ 39 (by decide), mi_put_33, mi_put_c _ _ _ _ _ 261 (by decide), mi_put_c _ _ _ _ _ 265 (by decide), mi_put_c _ _ _ _ _ 263 (by decide), mi_put_c _ _ _ _ _ 264 (by decide), mi_put_c _ _ _ _ _ 266 (by decide), mi_put_c _ _ _ _ _ 270 (by decide), mi_put_c _ _ _ _ _ 271 (by decide), mi_put_c _ _ _ _ _ 272 (by decide), mi_put_c _ _ _ _ _ 273 (by decide), mi_put_c _ _ _ _ _ 274 (by decide), mi_put_c _ _ _ _ _ 289 (by decide), mi_put_c _ _ _ _ _ 283 (by decide), mi_put_c _ _ _ _ _ 282 (by decide)]
  refine ⟨n1, n2, n3, fun j hj1 hj2 => ?_, n5⟩
  by_cases e : j = (x 254 33).toNat
  · subst e
    obtain ⟨e1, e2, e3⟩ := mi_put_at k a b t x
    rw [e1, e2, e3, h17]
    exact ⟨rfl, h9, hk, hk2⟩
  · rw [mi_put_o _ _ _ _ _ _ _ (by decide) e, mi_put_o _ _ _ _ _ _ _ (by decide) e, mi_put_o _ _ _ _ _ _ _ (by decide) e]
    exact n4 j hj1 (by omega)
theorem na.blk (N : na p ty so g x) (k : Nat) (a b c e : Int) : na p ty so g (mi_blk k a b c e x) := ((((N.up (by decide) rfl).up (by decide) rfl).up (by decide) rfl).up (by decide) rfl).upf (by unfold mx_k; omega)
theorem na_call (hs : g 254 17 = (p.1 3 : Int)) (h39 : 0 ≤ g 254 39) (h9 : p.1 9 = 6) {a b : Int} (hb : (p.1 10 : Int) ≤ b) (ha : a = -1 ∨ (p.1 10 : Int) ≤ a) : na p ty so g (mi_call a b g) := by
  unfold na
  refine ⟨fun k h1 h2 => ?_, fun k h1 h2 => ?_, fun k h1 h2 => ?_, fun k h1 h2 => ?_, fun k h1 h2 => ?_⟩
  all_goals (simp [mi_call, p_up] at h1 h2)
  · omega
  · omega
  · omega
  · omega
  · have e : k = (g 254 39).toNat := by omega
    subst e
    simp [mi_call, p_up]
    exact ⟨by omega, h9, hb, ha⟩
theorem na_dec (h25 : 0 ≤ g 254 25) (h14 : g 254 14 = (p.1 0 : Int)) {x1 x2 x4 x5 x6 : Int} (h4 : (p.1 10 : Int) ≤ x4) (h1 : x1 = -1 ∧ p.1 9 = 2 ∧ (x2 = 0 ∨ x2 = 1) ∨ x1 = (p.1 3 : Int) - 1 ∧ (p.1 9 = 4 ∧ x2 = 2 ∨ p.1 9 = 5 ∧ x2 = 3)) : na p ty so g (mi_dec x1 x2 ty x4 x5 x6 g) := by
  unfold na
  refine ⟨fun k h1 h2 => ?_, fun k h1 h2 => ?_, fun k h1 h2 => ?_, fun k h1 h2 => ?_, fun k h1 h2 => ?_⟩
  all_goals (simp [mi_dec, p_up] at h1 h2)
  · omega
  · omega
  · have e : k = (g 254 25).toNat := by omega
    subst e
    simp [mi_dec, p_up]
    exact ⟨h4, by omega, by omega⟩
  · omega
  · omega
theorem na_sub (h17 : 0 ≤ g 254 17) (h14 : g 254 14 = (p.1 0 : Int)) {t : Int} (h4 : (p.1 10 : Int) ≤ t) : na p ty so g (mi_sub so t ty g) := by
  unfold na
  refine ⟨fun k h1 h2 => ?_, fun k h1 h2 => ?_, fun k h1 h2 => ?_, fun k h1 h2 => ?_, fun k h1 h2 => ?_⟩
  all_goals (simp [mi_sub, p_up] at h1 h2)
  · omega
  · have e : k = (g 254 17).toNat := by omega
    subst e
    simp [mi_sub, p_up]
    exact ⟨h4, by omega⟩
  · omega
  · omega
  · omega
theorem na_cls (h14 : 0 ≤ g 254 14) {t : Int} (h4 : (p.1 10 : Int) ≤ t) : na p ty so g (mi_cls t g) := by
  unfold na
  refine ⟨fun k h1 h2 => ?_, fun k h1 h2 => ?_, fun k h1 h2 => ?_, fun k h1 h2 => ?_, fun k h1 h2 => ?_⟩
  all_goals (simp [mi_cls, p_up] at h1 h2)
  · have e : k = (g 254 14).toNat := by omega
    subst e
    simp [mi_cls, p_up]
    exact h4
  · omega
  · omega
  · omega
  · omega
/-- calls stay as they are -/
def fk (g x : am_H) : Prop := x 283 = g 283 ∧ x 284 = g 284 ∧ x 254 39 = g 254 39 ∧ x 282 = g 282
theorem fk.refl (g : am_H) : fk g g := ⟨rfl, rfl, rfl, rfl⟩
theorem fk.up (N : fk g x) {a k : Nat} {v : Int} (ha : a ≠ 254 ∧ a ≠ 283 ∧ a ≠ 284 ∧ a ≠ 282) : fk g (am_up x a k v) := ⟨by rw [p_up_c _ _ _ _ _ (by omega)]; exact N.1, by rw [p_up_c _ _ _ _ _ (by omega)]; exact N.2.1, by rw [p_up_c _ _ _ _ _ (by omega)]; exact N.2.2.1, by rw [p_up_c _ _ _ _ _ (by omega)]; exact N.2.2.2⟩
theorem fk.upf (N : fk g x) {k : Nat} {v : Int} (h : k ≠ 39) : fk g (am_up x 254 k v) := ⟨by rw [p_up_c _ _ _ _ _ (by decide)]; exact N.1, by rw [p_up_c _ _ _ _ _ (by decide)]; exact N.2.1, by rw [p_up_n _ _ _ _ _ _ (Or.inr (by omega))]; exact N.2.2.1, by rw [p_up_c _ _ _ _ _ (by decide)]; exact N.2.2.2⟩
theorem fk.put (N : fk g x) (k a b t : Int) : fk g (mi_put k a b t x) := ⟨by rw [mi_put_c _ _ _ _ _ _ (by decide)]; exact N.1, by rw [mi_put_c _ _ _ _ _ _ (by decide)]; exact N.2.1, by rw [mi_put_f _ _ _ _ _ _ (by decide)]; exact N.2.2.1, by rw [mi_put_c _ _ _ _ _ _ (by decide)]; exact N.2.2.2⟩
theorem fk.blk (N : fk g x) (k : Nat) (a b c e : Int) : fk g (mi_blk k a b c e x) := ((((N.up (by decide)).up (by decide)).up (by decide)).up (by decide)).upf (by decide)
theorem fk.dec (N : fk g x) (x1 x2 x3 x4 x5 x6 : Int) : fk g (mi_dec x1 x2 x3 x4 x5 x6 x) := (((((((N.up (by decide)).up (by decide)).up (by decide)).up (by decide)).up (by decide)).up (by decide)).up (by decide)).upf (by decide)
/-- what an event adds -/
def nx_e (p p' : pr_S) (s s' : mi_S) : Prop := na p s.2.1 s.2.2.1 s.1 s'.1 ∧ (s'.2.1 = s.2.1 ∨ s'.2.1 = -1 ∨ (p.1 10 : Int) ≤ s'.2.1) ∧ (p.1 14 = 1 → s.1 254 17 < s'.1 254 17 ∨ s.1 254 25 < s'.1 254 25) ∧ (p.1 15 ≠ 0 → p'.1 15 = p.1 15 ∨ p.1 9 ≠ 6 ∨ ∃ k : Nat, s.1 254 33 ≤ k ∧ k < s'.1 254 33 ∧ s'.1 277 k = 13)
/-- in bodies no type waits -/
def pq (p : pr_S) : Prop := (p.1 9 = 6 ∨ p.1 9 < 2 → p.1 14 = 0) ∧ (p.1 14 = 0 ∨ p.1 14 = 1) ∧ (3 ≤ p.1 9 → p.1 12 = 1) ∧ (5 ≤ p.1 9 → p.1 13 = 1) ∧ (4 ≤ p.1 9 → p.1 17 = 1) ∧ p.1 9 ≤ 6 ∧ (p.1 15 ≠ 0 → p.1 9 = 6)
theorem pq_ev {w : Nat → Nat → Nat} {e : gx_V} (h : pr w K V e p = .inr p') (Q : pq p) : pq p' := by
  obtain ⟨n, x, y, z⟩ := e
  unfold pq at Q
  unfold pr at h
  split at h
  all_goals first
    | (cases h; done)
    | (obtain ⟨hc, hb, hp⟩ := pr_q_in h; subst hp; (try dsimp only at hc); simp [pq, pu]; first | done | omega)
    | skip
  · split at h
    · cases h
    · obtain ⟨hc, hb, hp⟩ := pr_q_in h
      subst hp
      simp [pq, pu]
      omega
  · obtain ⟨hc, hb, hp⟩ := pr_q_in h
    subst hp
    by_cases c : y = 1
    · simp [pq, pu, c]; omega
    · simp [pq, pu, c]; omega
theorem na_ev {e : gx_V} {s s' : mi_S} (h : pr pw K V e p = .inr p') (hm : mi V e s = .inr s') (R : rv K p s) (Q : pq p) : nx_e p p' s s' ∧ (e.1 = 11 ∨ e.1 = 12 ∨ (fk s.1 s'.1 ∧ s'.2.2.2.2 = s.2.2.2.2 ∧ p'.2.2.1 = p.2.2.1)) := by
  obtain ⟨n, x, y, z⟩ := e
  obtain ⟨g, ty, so, bs, oc⟩ := s
  have G14 : g 254 14 = (p.1 0 : Int) := R.2.1.1
  have G17 : g 254 17 = (p.1 3 : Int) := R.2.1.2.1
  have P25 : 0 ≤ g 254 25 := R.1.2.2.1.1
  have P33 : 0 ≤ g 254 33 := R.1.2.2.2.1.1
  have P39 : 0 ≤ g 254 39 := R.1.2.2.2.2.1
  have N0 := na.refl p ty so g
  have F0 := fk.refl g
  have q6 : p.1 9 = 6 → p.1 14 = 1 → False := fun h1 h2 => by have := Q.1 (Or.inl h1); omega
  -- a body's event
  have bd : ∀ {g' : am_H} {bs' : List (Int × Int × Int × Int)} {oc' : List Int}, p.1 9 = 6 → na p ty so g g' → p'.1 15 = p.1 15 → nx_e p p' (g, ty, so, bs, oc) (g', ty, so, bs', oc') := fun h9 N h15 => ⟨N, Or.inl rfl, fun z => (q6 h9 z).elim, fun _ => Or.inl h15⟩
  have one : ∀ {k a b t : Int} {c' : Nat → Nat} {ec : Nat → Nat} {n0 : Nat}, p.1 9 = 6 → ((k = 3 ∨ k = 4) → (p.1 10 : Int) ≤ t) → k ≠ 13 → p' = (c', p.2.1, p.2.2.1, ec) → c' 15 = p.1 15 → mi_h (g, ty, so, bs, oc) (mi_add k a b t g) = .inr s' → nx_e p p' (g, ty, so, bs, oc) s' ∧ (n0 = 11 ∨ n0 = 12 ∨ (fk g s'.1 ∧ s'.2.2.2.2 = oc ∧ p'.2.2.1 = p.2.2.1)) := by
    intro k a b t c' ec n0 h9 hk h13 hp hc hm
    obtain ⟨g1, h1, h2⟩ := mi_h_in hm
    rw [h2, mi_add_in h1]
    exact ⟨bd h9 (N0.put _ _ _ _ P33 G17 h9 hk (fun z => absurd z h13)) (by rw [hp]; exact hc), Or.inr (Or.inr ⟨F0.put _ _ _ _, rfl, by rw [hp]⟩)⟩
  have un6 : ∀ v, pu p.1 6 v 15 = p.1 15 := fun v => rfl
  unfold pr at h
  split at h
  all_goals first
    | (cases h; done)
    | (rename_i hn; have hn : n = _ := hn; subst hn)
  · obtain ⟨hc, hb, hp⟩ := pr_q_in h
    exact one hc.1.1 (by omega) (by decide) hp rfl hm
  · obtain ⟨hc, hb, hp⟩ := pr_q_in h
    exact one hc.1.1 (by omega) (by decide) hp rfl hm
  · obtain ⟨hc, hb, hp⟩ := pr_q_in h
    exact one hc.1.1 (by omega) (by decide) hp rfl hm
  · obtain ⟨hc, hb, hp⟩ := pr_q_in h
    have t := hc.2.1
    unfold pr_t at t
    dsimp only at t
    exact one hc.1.1 (fun _ => by dsimp only; omega) (by decide) hp rfl hm
  · obtain ⟨hc, hb, hp⟩ := pr_q_in h
    exact one hc.1.1 (by omega) (by decide) hp rfl hm
  · obtain ⟨hc, hb, hp⟩ := pr_q_in h
    have t := hc.2.1
    unfold pr_t at t
    dsimp only at t
    exact one hc.1.1 (fun _ => by dsimp only; omega) (by decide) hp rfl hm
  · obtain ⟨hc, hb, hp⟩ := pr_q_in h
    exact one hc.1.1 (by omega) (by decide) hp rfl hm
  · obtain ⟨hc, hb, hp⟩ := pr_q_in h
    exact one hc.1.1 (by omega) (by decide) hp rfl hm
  · obtain ⟨hc, hb, hp⟩ := pr_q_in h
    exact one hc.1.1 (by omega) (by decide) hp rfl hm
  · obtain ⟨hc, hb, hp⟩ := pr_q_in h
    exact one hc.1.1 (by omega) (by decide) hp rfl hm
  · -- 11
    obtain ⟨hc, hb, hp⟩ := pr_q_in h
    have hm := ce_q_in (show ce_q (g 254 39 < 990) (gx_b (mi_add 9 (g 254 39) 0 0 (mi_call (if z = 1 then x else -1) y g)) fun g1 => (.inr (g1, ty, so, bs, g 254 39 :: oc) : gx_R mi_S)) = .inr s' from hm)
    obtain ⟨g1, h1, h2⟩ := gx_b_ok hm
    cases h2
    rw [mi_add_in h1]
    obtain ⟨⟨h9, -⟩, c1, c2, c3⟩ := hc
    unfold pr_t at c1 c2
    dsimp only at c1 c2
    refine ⟨bd h9 ((na_call G17 P39 h9 (by omega) ?_).put _ _ _ _ ?_ ?_ h9 (by omega) (by omega)) (by rw [hp]; rfl), Or.inl rfl⟩
    · split
      · exact Or.inr (by omega)
      · exact Or.inl rfl
    · simp [mi_call, p_up]; exact P33
    · simp [mi_call, p_up]; exact G17
  · -- 12
    split at h
    · cases h
    · obtain ⟨hc, hb, hp⟩ := pr_q_in h
      cases oc with
      | nil => cases hm
      | cons c l =>
        obtain ⟨g1, h1, h2⟩ := gx_b_ok (show (gx_b (mi_add 10 c 0 0 (am_up g 284 c.toNat z)) fun g1 => (.inr (g1, ty, so, bs, l) : gx_R mi_S)) = .inr s' from hm)
        cases h2
        rw [mi_add_in h1]
        exact ⟨bd hc.1.1 ((N0.up (by decide) rfl).put _ _ _ _ (by rw [p_up_c _ _ _ _ _ (by decide)]; exact P33) (by rw [p_up_c _ _ _ _ _ (by decide)]; exact G17) hc.1.1 (by omega) (by omega)) (by rw [hp]; rfl), Or.inr (Or.inl rfl)⟩
  · obtain ⟨hc, hb, hp⟩ := pr_q_in h
    exact one hc.1 (by omega) (by decide) hp rfl hm
  · -- 21
    obtain ⟨hc, hb, hp⟩ := pr_q_in h
    cases hm
    exact ⟨⟨N0, Or.inl rfl, fun z => (q6 hc.1.1 z).elim, fun z => absurd hc.2.2 z⟩, Or.inr (Or.inr ⟨F0, rfl, by rw [hp]⟩)⟩
  · -- 22
    obtain ⟨hc, hb, hp⟩ := pr_q_in h
    have x0 : (0 : Int) ≤ x := hc.2.2.2.1
    have x15 : p.1 15 = x.toNat + 1 := hc.2.2.2.2.2.2.1
    have h9 := hc.1.1
    obtain ⟨g1, h1, h2⟩ := mi_h_in hm
    obtain ⟨g3, h3, h4⟩ := gx_b_ok h1
    have e3 := mi_add_in h3
    have e4 := mi_add_in h4
    subst e4
    subst e3
    subst h2
    have N1 := N0.put 13 0 0 x P33 G17 h9 (by omega) (fun _ => by omega)
    have N2 := N1.put 12 0 0 0 (by rw [mi_put_33]; omega) (by rw [mi_put_f _ _ _ _ _ _ (by decide)]; exact G17) h9 (by omega) (by omega)
    refine ⟨⟨N2, Or.inl rfl, fun z => (q6 h9 z).elim, fun _ => Or.inr (Or.inr ⟨(g 254 33).toNat, by show g 254 33 ≤ _; omega, ?_, ?_⟩)⟩, Or.inr (Or.inr ⟨(F0.put _ _ _ _).put _ _ _ _, rfl, by rw [hp]⟩)⟩
    · show _ < mi_put 12 0 0 0 (mi_put 13 0 0 x g) 254 33
      rw [mi_put_33, mi_put_33]; omega
    · show mi_put 12 0 0 0 (mi_put 13 0 0 x g) 277 (g 254 33).toNat = 13
      rw [mi_put_o _ _ _ _ _ _ _ (by decide) (by rw [mi_put_33]; omega)]
      exact (mi_put_at 13 0 0 x g).1
  · -- 23
    obtain ⟨hc, hb, hp⟩ := pr_q_in h
    have h9 := hc.1.1
    obtain ⟨g1, h1, h2⟩ := mi_h_in hm
    obtain ⟨g3, h3, h4⟩ := gx_b_ok h1
    have e3 := mi_add_in h3
    have e4 := mi_add_in h4
    subst e4
    subst e3
    subst h2
    have N1 := N0.put 14 0 0 0 P33 G17 h9 (by omega) (by omega)
    exact ⟨bd h9 (N1.put 12 0 0 0 (by rw [mi_put_33]; omega) (by rw [mi_put_f _ _ _ _ _ _ (by decide)]; exact G17) h9 (by omega) (by omega)) (by rw [hp]; rfl), Or.inr (Or.inr ⟨(F0.put _ _ _ _).put _ _ _ _, rfl, by rw [hp]⟩)⟩
  · -- 24
    obtain ⟨hc, hb, hp⟩ := pr_q_in h
    have hm := ce_q_in (show ce_q (0 ≤ g 254 50 ∧ g 254 50 < 99990) (.inr (am_up g 254 50 (g 254 50 + 2), ty, so, (1, g 254 50, 0, g 254 33) :: bs, oc) : gx_R mi_S) = .inr s' from hm)
    cases hm
    exact ⟨bd hc.1.1 (N0.upf (by unfold mx_k; omega)) (by rw [hp]), Or.inr (Or.inr ⟨F0.upf (by decide), rfl, by rw [hp]⟩)⟩
  · -- 25
    obtain ⟨hc, hb, hp⟩ := pr_q_in h
    cases bs with
    | nil => cases hm
    | cons b l =>
      have hm := ce_q_in (show ce_q (l.length < 40) (gx_b (mi_add 15 0 b.2.1 0 g) fun g1 => (.inr (mi_blk l.length 1 b.2.1 (g 254 33) b.2.2.2 g1, ty, so, (1, b.2.1, g 254 33, b.2.2.2) :: l, oc) : gx_R mi_S)) = .inr s' from hm)
      obtain ⟨g1, h1, h2⟩ := gx_b_ok hm
      cases h2
      rw [mi_add_in h1]
      exact ⟨bd hc.1.1 ((N0.put _ _ _ _ P33 G17 hc.1.1 (by omega) (by omega)).blk _ _ _ _ _) (by rw [hp]; rfl), Or.inr (Or.inr ⟨(F0.put _ _ _ _).blk _ _ _ _ _, rfl, by rw [hp]⟩)⟩
  · -- 26
    obtain ⟨hc, hb, hp⟩ := pr_q_in h
    cases bs with
    | nil => cases hm
    | cons b l =>
      obtain ⟨g1, h1, h2⟩ := gx_b_ok (show (gx_b (mi_add 16 0 (b.2.1 + 1) 0 (am_up g 254 55 (l.length : Int))) fun g1 => gx_b (mi_add 20 b.2.1 0 0 g1) fun g2 => (.inr (mi_blk l.length 2 b.2.1 (g 254 33) 0 (am_up g2 278 b.2.2.1.toNat (g1 254 33)), ty, so, (2, b.2.1, g 254 33, 0) :: l, oc) : gx_R mi_S)) = .inr s' from hm)
      obtain ⟨g2, h3, h4⟩ := gx_b_ok h2
      cases h4
      have e1 := mi_add_in h1
      have e2 := mi_add_in h3
      subst e2
      subst e1
      have u : am_up g 254 55 (l.length : Int) 254 33 = g 254 33 := p_up_n _ _ _ _ _ _ (Or.inr (by decide))
      have v : am_up g 254 55 (l.length : Int) 254 17 = g 254 17 := p_up_n _ _ _ _ _ _ (Or.inr (by decide))
      have N1 := (N0.upf (k := 55) (v := (l.length : Int)) (by unfold mx_k; omega)).put 16 0 (b.2.1 + 1) 0 (by rw [u]; exact P33) (by rw [v]; exact G17) hc.1 (by omega) (by omega)
      have N2 := N1.put 20 b.2.1 0 0 (by rw [mi_put_33, u]; omega) (by rw [mi_put_f _ _ _ _ _ _ (by decide), v]; exact G17) hc.1 (by omega) (by omega)
      exact ⟨bd hc.1 ((N2.up (by decide) rfl).blk _ _ _ _ _) (by rw [hp]), Or.inr (Or.inr ⟨((((F0.upf (by decide)).put _ _ _ _).put _ _ _ _).up (by decide)).blk _ _ _ _ _, rfl, by rw [hp]⟩)⟩
  · -- 27
    obtain ⟨hc, hb, hp⟩ := pr_q_in h
    cases bs with
    | nil => cases hm
    | cons b l =>
      obtain ⟨g1, h1, h2⟩ := gx_b_ok (show (gx_b (mi_add 20 b.2.1 0 0 (am_up g 254 55 (l.length : Int))) fun g1 => gx_b (mi_add 12 0 0 0 (am_up g1 278 b.2.2.1.toNat (g 254 33))) fun g2 => (.inr (g2, ty, so, l, oc) : gx_R mi_S)) = .inr s' from hm)
      obtain ⟨g2, h3, h4⟩ := gx_b_ok h2
      cases h4
      have e1 := mi_add_in h1
      have e2 := mi_add_in h3
      subst e2
      subst e1
      have u : am_up g 254 55 (l.length : Int) 254 33 = g 254 33 := p_up_n _ _ _ _ _ _ (Or.inr (by decide))
      have v : am_up g 254 55 (l.length : Int) 254 17 = g 254 17 := p_up_n _ _ _ _ _ _ (Or.inr (by decide))
      have N1 := ((N0.upf (k := 55) (v := (l.length : Int)) (by unfold mx_k; omega)).put 20 b.2.1 0 0 (by rw [u]; exact P33) (by rw [v]; exact G17) hc.1 (by omega) (by omega)).up (a := 278) (k := b.2.2.1.toNat) (v := g 254 33) (by decide) rfl
      have N2 := N1.put 12 0 0 0 (by rw [p_up_c _ _ _ _ _ (by decide), mi_put_33, u]; omega) (by rw [p_up_c _ _ _ _ _ (by decide), mi_put_f _ _ _ _ _ _ (by decide), v]; exact G17) hc.1 (by omega) (by omega)
      exact ⟨bd hc.1 N2 (by rw [hp]), Or.inr (Or.inr ⟨(((F0.upf (by decide)).put _ _ _ _).up (by decide)).put _ _ _ _, rfl, by rw [hp]⟩)⟩
  · -- 28
    obtain ⟨hc, hb, hp⟩ := pr_q_in h
    cases bs with
    | nil => cases hm
    | cons b l =>
      obtain ⟨g1, h1, h2⟩ := gx_b_ok (show (gx_b (mi_add 20 (b.2.1 + 1) 0 0 (am_up g 254 55 (l.length : Int))) fun g1 => gx_b (mi_add 12 0 0 0 (am_up g1 278 b.2.2.1.toNat (g 254 33))) fun g2 => (.inr (g2, ty, so, l, oc) : gx_R mi_S)) = .inr s' from hm)
      obtain ⟨g2, h3, h4⟩ := gx_b_ok h2
      cases h4
      have e1 := mi_add_in h1
      have e2 := mi_add_in h3
      subst e2
      subst e1
      have u : am_up g 254 55 (l.length : Int) 254 33 = g 254 33 := p_up_n _ _ _ _ _ _ (Or.inr (by decide))
      have v : am_up g 254 55 (l.length : Int) 254 17 = g 254 17 := p_up_n _ _ _ _ _ _ (Or.inr (by decide))
      have N1 := ((N0.upf (k := 55) (v := (l.length : Int)) (by unfold mx_k; omega)).put 20 (b.2.1 + 1) 0 0 (by rw [u]; exact P33) (by rw [v]; exact G17) hc.1 (by omega) (by omega)).up (a := 278) (k := b.2.2.1.toNat) (v := g 254 33) (by decide) rfl
      have N2 := N1.put 12 0 0 0 (by rw [p_up_c _ _ _ _ _ (by decide), mi_put_33, u]; omega) (by rw [p_up_c _ _ _ _ _ (by decide), mi_put_f _ _ _ _ _ _ (by decide), v]; exact G17) hc.1 (by omega) (by omega)
      exact ⟨bd hc.1 N2 (by rw [hp]), Or.inr (Or.inr ⟨(((F0.upf (by decide)).put _ _ _ _).up (by decide)).put _ _ _ _, rfl, by rw [hp]⟩)⟩
  · -- 30
    obtain ⟨hc, hb, hp⟩ := pr_q_in h
    have hm := ce_q_in (show ce_q (0 ≤ g 254 50 ∧ g 254 50 < 99990) (gx_b (mi_add 20 (g 254 50) 0 0 (am_up g 254 50 (g 254 50 + 2))) fun g1 => gx_b (mi_add 17 0 0 0 g1) fun g2 => (.inr (g2, ty, so, (3, g 254 50, 0, g 254 33) :: bs, oc) : gx_R mi_S)) = .inr s' from hm)
    obtain ⟨g1, h1, h2⟩ := gx_b_ok hm
    obtain ⟨g2, h3, h4⟩ := gx_b_ok h2
    cases h4
    have e1 := mi_add_in h1
    have e2 := mi_add_in h3
    subst e2
    subst e1
    have u : am_up g 254 50 (g 254 50 + 2) 254 33 = g 254 33 := p_up_n _ _ _ _ _ _ (Or.inr (by decide))
    have v : am_up g 254 50 (g 254 50 + 2) 254 17 = g 254 17 := p_up_n _ _ _ _ _ _ (Or.inr (by decide))
    have N1 := (N0.upf (k := 50) (v := g 254 50 + 2) (by unfold mx_k; omega)).put 20 (g 254 50) 0 0 (by rw [u]; exact P33) (by rw [v]; exact G17) hc.1.1 (by omega) (by omega)
    have N2 := N1.put 17 0 0 0 (by rw [mi_put_33, u]; omega) (by rw [mi_put_f _ _ _ _ _ _ (by decide), v]; exact G17) hc.1.1 (by omega) (by omega)
    exact ⟨bd hc.1.1 N2 (by rw [hp]), Or.inr (Or.inr ⟨((F0.upf (by decide)).put _ _ _ _).put _ _ _ _, rfl, by rw [hp]⟩)⟩
  · -- 31
    obtain ⟨hc, hb, hp⟩ := pr_q_in h
    cases bs with
    | nil => cases hm
    | cons b l =>
      have hm := ce_q_in (show ce_q (l.length < 40) (gx_b (mi_add 15 0 (b.2.1 + 1) 0 g) fun g1 => (.inr (mi_blk l.length 3 b.2.1 (g 254 33) b.2.2.2 g1, ty, so, (3, b.2.1, g 254 33, b.2.2.2) :: l, oc) : gx_R mi_S)) = .inr s' from hm)
      obtain ⟨g1, h1, h2⟩ := gx_b_ok hm
      cases h2
      rw [mi_add_in h1]
      exact ⟨bd hc.1.1 ((N0.put _ _ _ _ P33 G17 hc.1.1 (by omega) (by omega)).blk _ _ _ _ _) (by rw [hp]; rfl), Or.inr (Or.inr ⟨(F0.put _ _ _ _).blk _ _ _ _ _, rfl, by rw [hp]⟩)⟩
  · -- 32
    obtain ⟨hc, hb, hp⟩ := pr_q_in h
    cases bs with
    | nil => cases hm
    | cons b l =>
      obtain ⟨g1, h1, h2⟩ := gx_b_ok (show (gx_b (mi_add 16 b.2.2.2 b.2.1 0 (am_up g 254 55 (l.length : Int))) fun g1 => gx_b (mi_add 20 (b.2.1 + 1) 0 0 g1) fun g2 => gx_b (mi_add 12 0 0 0 (am_up g2 278 b.2.2.1.toNat (g1 254 33))) fun g3 => (.inr (g3, ty, so, l, oc) : gx_R mi_S)) = .inr s' from hm)
      obtain ⟨g2, h3, h4⟩ := gx_b_ok h2
      obtain ⟨g3, h5, h6⟩ := gx_b_ok h4
      cases h6
      have e1 := mi_add_in h1
      have e2 := mi_add_in h3
      have e3 := mi_add_in h5
      subst e3
      subst e2
      subst e1
      have u : am_up g 254 55 (l.length : Int) 254 33 = g 254 33 := p_up_n _ _ _ _ _ _ (Or.inr (by decide))
      have v : am_up g 254 55 (l.length : Int) 254 17 = g 254 17 := p_up_n _ _ _ _ _ _ (Or.inr (by decide))
      have N1 := (N0.upf (k := 55) (v := (l.length : Int)) (by unfold mx_k; omega)).put 16 b.2.2.2 b.2.1 0 (by rw [u]; exact P33) (by rw [v]; exact G17) hc.1 (by omega) (by omega)
      have N2 := (N1.put 20 (b.2.1 + 1) 0 0 (by rw [mi_put_33, u]; omega) (by rw [mi_put_f _ _ _ _ _ _ (by decide), v]; exact G17) hc.1 (by omega) (by omega)).up (a := 278) (k := b.2.2.1.toNat) (v := mi_put 16 b.2.2.2 b.2.1 0 (am_up g 254 55 (l.length : Int)) 254 33) (by decide) rfl
      have N3 := N2.put 12 0 0 0 (by rw [p_up_c _ _ _ _ _ (by decide), mi_put_33, mi_put_33, u]; omega) (by rw [p_up_c _ _ _ _ _ (by decide), mi_put_f _ _ _ _ _ _ (by decide), mi_put_f _ _ _ _ _ _ (by decide), v]; exact G17) hc.1 (by omega) (by omega)
      exact ⟨bd hc.1 N3 (by rw [hp]), Or.inr (Or.inr ⟨((((F0.upf (by decide)).put _ _ _ _).put _ _ _ _).up (by decide)).put _ _ _ _, rfl, by rw [hp]⟩)⟩
  · obtain ⟨hc, hb, hp⟩ := pr_q_in h
    exact one hc.1.1 (by omega) (by decide) hp rfl hm
  · -- 34
    obtain ⟨hc, hb, hp⟩ := pr_q_in h
    have h9 := hc.1.1
    obtain ⟨g1, h1, h2⟩ := mi_h_in hm
    obtain ⟨g3, h3, h4⟩ := gx_b_ok h1
    have e3 := mi_add_in h3
    have e4 := mi_add_in h4
    subst e4
    subst e3
    subst h2
    have N1 := N0.put 19 0 0 0 P33 G17 h9 (by omega) (by omega)
    exact ⟨bd h9 (N1.put 12 0 0 0 (by rw [mi_put_33]; omega) (by rw [mi_put_f _ _ _ _ _ _ (by decide)]; exact G17) h9 (by omega) (by omega)) (by rw [hp]; rfl), Or.inr (Or.inr ⟨(F0.put _ _ _ _).put _ _ _ _, rfl, by rw [hp]⟩)⟩
  · -- 39
    obtain ⟨hc, hb, hp⟩ := pr_q_in h
    cases hm
    exact ⟨⟨N0, Or.inl rfl, fun z => by have := hc.2; omega, fun _ => Or.inl (by rw [hp]; rfl)⟩, Or.inr (Or.inr ⟨F0, rfl, by rw [hp]⟩)⟩
  · -- 40
    obtain ⟨hc, hb, hp⟩ := pr_q_in h
    have hm : (.inr (mi_cls x g, ty, so, bs, oc) : gx_R mi_S) = .inr s' := hm
    cases hm
    have t := hc.2.2
    unfold pr_t at t
    dsimp only at t
    exact ⟨⟨na_cls (by show 0 ≤ g 254 14; omega) (by show (p.1 10 : Int) ≤ x; omega), Or.inl rfl, fun z => by have := Q.1 (Or.inr (by rw [hc.1]; decide)); omega, fun _ => Or.inl (by rw [hp]; rfl)⟩, Or.inr (Or.inr ⟨(((F0.up (by decide)).up (by decide)).upf (by decide)).upf (by decide), rfl, by rw [hp]⟩)⟩
  · -- 38
    obtain ⟨hc, hb, hp⟩ := pr_q_in h
    cases hm
    exact ⟨⟨N0, Or.inl rfl, fun z => by have := hc.2.2; omega, fun _ => Or.inl (by rw [hp]; rfl)⟩, Or.inr (Or.inr ⟨F0, rfl, by rw [hp]⟩)⟩
  · -- 41
    obtain ⟨hc, hb, hp⟩ := pr_q_in h
    cases hm
    have t : (p.1 10 : Int) ≤ x := by
      rcases hc.2.1 with t | t
      · unfold pr_t at t; dsimp only at t; omega
      · unfold pr_t at t; dsimp only at t; omega
    exact ⟨⟨N0, Or.inr (Or.inr t), fun z => by have := hc.2.2; omega, fun _ => Or.inl (by rw [hp]; rfl)⟩, Or.inr (Or.inr ⟨F0, rfl, by rw [hp]⟩)⟩
  · -- 42
    obtain ⟨hc, hb, hp⟩ := pr_q_in h
    have hm := ce_q_in hm
    have t := hc.2.1
    unfold pr_t at t
    dsimp only at t
    have p15 : p'.1 15 = p.1 15 := by
      rw [hp]
      by_cases c : y = 1
      · simp [pu, c]
      · simp [pu, c]
    by_cases c : y = 1
    · rw [if_pos (show (42, x, y, z).2.2.1 = 1 from c)] at hm
      cases hm
      refine ⟨⟨(na_dec P25 G14 (by show (p.1 10 : Int) ≤ x; omega) (Or.inl ⟨rfl, hc.1, Or.inr rfl⟩)).up (by decide) rfl, Or.inl rfl, fun _ => Or.inr ?_, fun _ => Or.inl p15⟩, Or.inr (Or.inr ⟨(F0.dec _ _ _ _ _ _).up (by decide), rfl, by rw [hp]⟩)⟩
      simp [mi_dec, p_up]
      omega
    · rw [if_neg (show ¬ (42, x, y, z).2.2.1 = 1 from c)] at hm
      cases hm
      refine ⟨⟨((na_dec P25 G14 (by show (p.1 10 : Int) ≤ x; omega) (Or.inl ⟨rfl, hc.1, Or.inl rfl⟩)).upf (by unfold mx_k; omega)).upf (by unfold mx_k; omega), Or.inl rfl, fun _ => Or.inr ?_, fun _ => Or.inl p15⟩, Or.inr (Or.inr ⟨((F0.dec _ _ _ _ _ _).upf (by decide)).upf (by decide), rfl, by rw [hp]⟩)⟩
      simp [mi_dec, p_up]
      omega
  · -- 43
    obtain ⟨hc, hb, hp⟩ := pr_q_in h
    cases hm
    exact ⟨⟨N0, Or.inl rfl, fun z => by have := hc.2; omega, fun _ => Or.inl (by rw [hp]; rfl)⟩, Or.inr (Or.inr ⟨F0, rfl, by rw [hp]⟩)⟩
  · -- 44
    obtain ⟨hc, hb, hp⟩ := pr_q_in h
    cases hm
    exact ⟨⟨N0, Or.inr (Or.inl rfl), fun z => by have := hc.2.2.2; omega, fun _ => Or.inl (by rw [hp]; rfl)⟩, Or.inr (Or.inr ⟨F0, rfl, by rw [hp]⟩)⟩
  · -- 45
    obtain ⟨hc, hb, hp⟩ := pr_q_in h
    have hm : (.inr (mi_sub so x ty g, ty, so, bs, oc) : gx_R mi_S) = .inr s' := hm
    cases hm
    have t := hc.2.2
    unfold pr_t at t
    dsimp only at t
    refine ⟨⟨na_sub (by show 0 ≤ g 254 17; omega) G14 (by show (p.1 10 : Int) ≤ x; omega), Or.inl rfl, fun _ => Or.inl ?_, fun _ => Or.inl (by rw [hp]; rfl)⟩, Or.inr (Or.inr ⟨((((((((F0.up (by decide)).up (by decide)).up (by decide)).up (by decide)).up (by decide)).up (by decide)).up (by decide)).upf (by decide)).upf (by decide), rfl, by rw [hp]⟩)⟩
    simp [mi_sub, p_up]
    omega
  · -- 51
    obtain ⟨hc, hb, hp⟩ := pr_q_in h
    cases hm
    exact ⟨⟨N0, Or.inl rfl, fun z => by have := hc.2.2; omega, fun _ => Or.inl (by rw [hp]; rfl)⟩, Or.inr (Or.inr ⟨F0, rfl, by rw [hp]⟩)⟩
  · -- 46
    obtain ⟨hc, hb, hp⟩ := pr_q_in h
    have hm := ce_q_in hm
    have t := hc.2.2.1
    unfold pr_t at t
    dsimp only at t
    cases hm
    refine ⟨⟨(na_dec P25 G14 (by show (p.1 10 : Int) ≤ x; omega) (Or.inr ⟨by show g 254 17 - 1 = _; omega, Or.inl ⟨hc.1, rfl⟩⟩)).up (by decide) rfl, Or.inl rfl, fun _ => Or.inr ?_, fun _ => Or.inl (by rw [hp]; rfl)⟩, Or.inr (Or.inr ⟨(F0.dec _ _ _ _ _ _).up (by decide), rfl, by rw [hp]⟩)⟩
    simp [mi_dec, p_up]
    omega
  · -- 47
    obtain ⟨hc, hb, hp⟩ := pr_q_in h
    cases hm
    exact ⟨⟨N0, Or.inl rfl, fun z => by have := hc.2; omega, fun _ => Or.inl (by rw [hp]; rfl)⟩, Or.inr (Or.inr ⟨F0, rfl, by rw [hp]⟩)⟩
  · -- 50
    obtain ⟨hc, hb, hp⟩ := pr_q_in h
    have hm := ce_q_in hm
    have t := hc.2.2.1
    unfold pr_t at t
    dsimp only at t
    cases hm
    refine ⟨⟨(na_dec P25 G14 (by show (p.1 10 : Int) ≤ x; omega) (Or.inr ⟨by show g 254 17 - 1 = _; omega, Or.inr ⟨hc.1, rfl⟩⟩)).up (by decide) rfl, Or.inl rfl, fun _ => Or.inr ?_, fun _ => Or.inl (by rw [hp]; rfl)⟩, Or.inr (Or.inr ⟨(F0.dec _ _ _ _ _ _).up (by decide), rfl, by rw [hp]⟩)⟩
    simp [mi_dec, p_up]
    omega
  · -- 48
    obtain ⟨hc, hb, hp⟩ := pr_q_in h
    cases hm
    exact ⟨⟨(N0.up (by decide) rfl).upf (by unfold mx_k; omega), Or.inl rfl, fun z => by have := hc.2.2.2.2; omega, fun _ => Or.inr (Or.inl (by rw [hc.1]; decide))⟩, Or.inr (Or.inr ⟨(F0.up (by decide)).upf (by decide), rfl, by rw [hp]⟩)⟩
  · -- 49
    obtain ⟨hc, hb, hp⟩ := pr_q_in h
    have h9 := hc.1
    obtain ⟨g1, h1, h2⟩ := mi_h_in hm
    obtain ⟨g3, h3, h4⟩ := gx_b_ok h1
    have e3 := mi_add_in h3
    have e4 := mi_add_in h4
    subst e4
    subst e3
    subst h2
    have N1 := N0.put 0 0 0 0 P33 G17 h9 (by omega) (by omega)
    exact ⟨bd h9 (N1.put 18 1 0 0 (by rw [mi_put_33]; omega) (by rw [mi_put_f _ _ _ _ _ _ (by decide)]; exact G17) h9 (by omega) (by omega)) (by rw [hp]; rfl), Or.inr (Or.inr ⟨(F0.put _ _ _ _).put _ _ _ _, rfl, by rw [hp]⟩)⟩
end
