/-! PURE LAYER, 80: the model takes every stream of events -/
/-- weights: 0 items, 1 calls, 2 variables, 3 labels, 4 lines of code, 5 commands, 6 labels of code (twice), 7 words (by sevens) -/
def pw (k n : Nat) : Nat := match k with
  | 0 => (match n with | 1 => 1 | 2 => 1 | 3 => 1 | 4 => 1 | 5 => 1 | 6 => 1 | 7 => 1 | 8 => 1 | 9 => 1 | 10 => 1 | 11 => 1 | 12 => 1 | 20 => 1 | 22 => 2 | 23 => 2 | 25 => 1 | 26 => 2 | 27 => 2 | 28 => 2 | 30 => 2 | 31 => 1 | 32 => 3 | 33 => 1 | 34 => 2 | 49 => 2 | _ => 0)
  | 1 => (match n with | 11 => 4 | _ => 0)
  | 2 => (match n with | 42 => 2 | 46 => 2 | 50 => 2 | _ => 0)
  | 3 => (match n with | 24 => 1 | 30 => 1 | _ => 0)
  | 4 => (match n with | 1 => 1 | 2 => 2 | 3 => 1 | 4 => 1 | 5 => 2 | 6 => 2 | 7 => 2 | 8 => 1 | 9 => 1 | 10 => 1 | 11 => 2 | 12 => 1 | 20 => 1 | 22 => 3 | 23 => 2 | 25 => 3 | 26 => 2 | 27 => 1 | 28 => 1 | 30 => 2 | 31 => 3 | 32 => 2 | 33 => 1 | 34 => 1 | 48 => 4 | 49 => 2 | _ => 0)
  | 5 => (match n with | 1 => 1 | 2 => 2 | 3 => 1 | 4 => 1 | 5 => 2 | 6 => 1 | 7 => 3 | 8 => 1 | 9 => 1 | 10 => 1 | 11 => 1 | 12 => 1 | 22 => 1 | 23 => 4 | 25 => 3 | 26 => 2 | 27 => 1 | 28 => 1 | 30 => 1 | 31 => 3 | 32 => 2 | 33 => 1 | 34 => 1 | 48 => 4 | 49 => 2 | _ => 0)
  | 6 => (match n with | 25 => 4 | 26 => 2 | 30 => 3 | 31 => 4 | _ => 0)
  | 7 => (match n with | 1 => 1 | 2 => 2 | 3 => 1 | 4 => 1 | 5 => 2 | 6 => 2 | 7 => 2 | 8 => 1 | 9 => 1 | 10 => 1 | 11 => 2 | 12 => 1 | 20 => 1 | 22 => 3 | 23 => 2 | 25 => 1 | 26 => 1 | 30 => 1 | 31 => 1 | 32 => 1 | 33 => 1 | 34 => 1 | 48 => 4 | 49 => 2 | 50 => 1 | _ => 0)
  | _ => 0
theorem pw_ok : pr_w pw
  | 0 => by decide
  | 1 => by decide
  | 2 => by decide
  | 3 => by decide
  | 4 => by decide
  | 5 => by decide
  | 6 => by decide
  | 7 => by decide
  | k + 8 => by
    show (0 ≤ 2 ∧ 0 ≤ 2 ∧ 0 ≤ 2 ∧ 0 ≤ 2 ∧ 0 ≤ 2 ∧ 0 ≤ 2 ∧ 0 ≤ 4 ∧ 0 ≤ 2 ∧ 0 ≤ 2 ∧ 0 ≤ 2 ∧ 0 ≤ 4 ∧ 0 ≤ 2) ∧ (0 ≤ 1 ∧ 0 ≤ 1 ∧ 0 ≤ 3 ∧ 0 ≤ 4 ∧ 0 ≤ 1 ∧ 0 ≤ 4 ∧ 0 ≤ 4 ∧ 0 ≤ 2 ∧ 0 ≤ 2 ∧ 0 ≤ 1 ∧ 0 ≤ 2) ∧ (0 ≤ 3 ∧ 0 + 0 ≤ 7 ∧ 0 + 0 + 0 ≤ 9) ∧ (0 ≤ 1 ∧ 0 ≤ 1 ∧ 0 ≤ 1 ∧ 0 ≤ 1 ∧ 0 ≤ 1 ∧ 0 ≤ 2 ∧ 0 ≤ 2 ∧ 0 ≤ 2) ∧ (0 ≤ 1 ∧ 0 ≤ 2 ∧ 0 ≤ 1 ∧ 0 ≤ 1 ∧ 0 ≤ 5 ∧ 0 ≤ 3)
    decide
/-- counts of the model beside the stream's -/
def rm (p : pr_S) (s : mi_S) : Prop := s.1 254 33 = (p.2.2.2 0 : Int) ∧ 4 * s.1 254 39 = (p.2.2.2 1 : Int) ∧ 2 * s.1 254 25 = (p.2.2.2 2 : Int) ∧ ((0 ≤ s.1 254 50 ∨ p.1 9 < 4) ∧ (s.1 254 50 ≤ 2 * (p.2.2.2 3 : Int) ∨ p.1 9 < 4)) ∧ s.2.2.2.1.length = p.2.1.length ∧ s.2.2.2.2.length = p.2.2.1.length ∧ p.2.1.length ≤ 25
theorem mi_put_33 (k a b t : Int) (g : am_H) : mi_put k a b t g 254 33 = g 254 33 + 1 := p_up_s _ _ _ _
theorem mi_put_f (k a b t : Int) (g : am_H) (j : Nat) (h : j ≠ 33) : mi_put k a b t g 254 j = g 254 j := by
  unfold mi_put
  rw [p_up_n _ _ _ _ _ _ (Or.inr h), p_up_c _ _ _ _ _ (by decide), p_up_c _ _ _ _ _ (by decide), p_up_c _ _ _ _ _ (by decide), p_up_c _ _ _ _ _ (by decide), p_up_c _ _ _ _ _ (by decide)]
theorem mi_add_t {k a b t : Int} {g : am_H} (h : g 254 33 < 4900) : mi_add k a b t g = .inr (mi_put k a b t g) := if_pos h
theorem mi_h_t {s : mi_S} {k a b t : Int} (h : s.1 254 33 < 4900) : mi_h s (mi_add k a b t s.1) = .inr (mi_put k a b t s.1, s.2) := by
  unfold mi_h; rw [mi_add_t h]; rfl
theorem mi_h_2 {s : mi_S} {k a b t k2 a2 b2 t2 : Int} (h : s.1 254 33 < 4800) : mi_h s (gx_b (mi_add k a b t s.1) (mi_add k2 a2 b2 t2)) = .inr (mi_put k2 a2 b2 t2 (mi_put k a b t s.1), s.2) := by
  unfold mi_h
  rw [mi_add_t (by omega)]
  show gx_b (mi_add k2 a2 b2 t2 (mi_put k a b t s.1)) _ = _
  rw [mi_add_t (by rw [mi_put_33]; omega)]
  rfl
theorem mi_dec_25 (x1 x2 x3 x4 x5 x6 : Int) (g : am_H) : mi_dec x1 x2 x3 x4 x5 x6 g 254 25 = g 254 25 + 1 := p_up_s _ _ _ _
theorem rm_g {p p' : pr_S} {s : mi_S} {g' : am_H} {ty so : Int} {bs : List (Int × Int × Int × Int)} {oc : List Int} {n : Nat} (R : rm p s) (hp : ∀ k, p'.2.2.2 k = p.2.2.2 k + pw k n) (h33 : g' 254 33 = s.1 254 33 + (pw 0 n : Int)) (h39 : 4 * g' 254 39 = 4 * s.1 254 39 + (pw 1 n : Int)) (h25 : 2 * g' 254 25 = 2 * s.1 254 25 + (pw 2 n : Int)) (h50 : (0 ≤ g' 254 50 ∨ p.1 9 < 4) ∧ (g' 254 50 ≤ s.1 254 50 + 2 * (pw 3 n : Int) ∧ (p.1 9 < 4 → p'.1 9 < 4 ∧ pw 3 n = 0) ∨ g' 254 50 = 0)) (hb : bs.length = p'.2.1.length) (ho : oc.length = p'.2.2.1.length) (hl : p'.2.1.length ≤ 25) : rm p' (g', ty, so, bs, oc) := by
  obtain ⟨r1, r2, r3, r4, r5, r6, r7⟩ := R
  unfold rm
  rw [hp 0, hp 1, hp 2, hp 3]
  exact ⟨by show g' 254 33 = _; omega, by show 4 * g' 254 39 = _; omega, by show 2 * g' 254 25 = _; omega, by show (0 ≤ g' 254 50 ∨ _) ∧ (g' 254 50 ≤ _ ∨ _); omega, hb, ho, hl⟩
theorem mi_blk_f (k : Nat) (a b c e : Int) (g : am_H) (j : Nat) (h : j ≠ 55) : mi_blk k a b c e g 254 j = g 254 j := by
  unfold mi_blk
  rw [p_up_n _ _ _ _ _ _ (Or.inr h), p_up_c _ _ _ _ _ (by decide), p_up_c _ _ _ _ _ (by decide), p_up_c _ _ _ _ _ (by decide), p_up_c _ _ _ _ _ (by decide)]
/-- one item -/
theorem rm_1 {p p' : pr_S} {s : mi_S} {n : Nat} {c : Nat → Nat} {k a b t : Int} (R : rm p s) (hp : p' = (c, p.2.1, p.2.2.1, fun k => p.2.2.2 k + pw k n)) (hb : ∀ k, p.2.2.2 k + pw k n ≤ 2100) (h0 : pw 0 n = 1) (h1 : pw 1 n = 0) (h2 : pw 2 n = 0) (h3 : pw 3 n = 0) (h9 : p.1 9 = 6) : ∃ s', mi_h s (mi_add k a b t s.1) = .inr s' ∧ rm p' s' := by
  have r := R
  obtain ⟨r1, r2, r3, r4, r5, r6, r7⟩ := R
  have := hb 0
  obtain ⟨q1, q2, q3, q4⟩ := pr_parts hp
  exact ⟨_, mi_h_t (by omega), rm_g r q4 (by rw [mi_put_33, h0]; omega) (by rw [mi_put_f _ _ _ _ _ _ (by decide), h1]; omega) (by rw [mi_put_f _ _ _ _ _ _ (by decide), h2]; omega) (by rw [mi_put_f _ _ _ _ _ _ (by decide)]; exact ⟨r4.1, Or.inl ⟨by omega, fun z => by omega⟩⟩) (by rw [q2]; exact r5) (by rw [q3]; exact r6) (by rw [q2]; exact r7)⟩
/-- two items -/
theorem rm_2 {p p' : pr_S} {s : mi_S} {n : Nat} {c : Nat → Nat} {k a b t k2 a2 b2 t2 : Int} (R : rm p s) (hp : p' = (c, p.2.1, p.2.2.1, fun k => p.2.2.2 k + pw k n)) (hb : ∀ k, p.2.2.2 k + pw k n ≤ 2100) (h0 : pw 0 n = 2) (h1 : pw 1 n = 0) (h2 : pw 2 n = 0) (h3 : pw 3 n = 0) (h9 : p.1 9 = 6) : ∃ s', mi_h s (gx_b (mi_add k a b t s.1) (mi_add k2 a2 b2 t2)) = .inr s' ∧ rm p' s' := by
  have r := R
  obtain ⟨r1, r2, r3, r4, r5, r6, r7⟩ := R
  have := hb 0
  obtain ⟨q1, q2, q3, q4⟩ := pr_parts hp
  exact ⟨_, mi_h_2 (by omega), rm_g r q4 (by rw [mi_put_33, mi_put_33, h0]; omega) (by rw [mi_put_f _ _ _ _ _ _ (by decide), mi_put_f _ _ _ _ _ _ (by decide), h1]; omega) (by rw [mi_put_f _ _ _ _ _ _ (by decide), mi_put_f _ _ _ _ _ _ (by decide), h2]; omega) (by rw [mi_put_f _ _ _ _ _ _ (by decide), mi_put_f _ _ _ _ _ _ (by decide)]; exact ⟨r4.1, Or.inl ⟨by omega, fun z => by omega⟩⟩) (by rw [q2]; exact r5) (by rw [q3]; exact r6) (by rw [q2]; exact r7)⟩
/-- no item -/
theorem rm_0 {p p' : pr_S} {s : mi_S} {n : Nat} {c : Nat → Nat} {g' : am_H} {ty so : Int} (R : rm p s) (hp : p' = (c, p.2.1, p.2.2.1, fun k => p.2.2.2 k + pw k n)) (g33 : g' 254 33 = s.1 254 33 + (pw 0 n : Int)) (g39 : 4 * g' 254 39 = 4 * s.1 254 39 + (pw 1 n : Int)) (g25 : 2 * g' 254 25 = 2 * s.1 254 25 + (pw 2 n : Int)) (g50 : g' 254 50 = s.1 254 50 ∧ (p.1 9 < 4 → c 9 < 4) ∧ pw 3 n = 0 ∨ g' 254 50 = 0) : rm p' (g', ty, so, s.2.2.2) := by
  have r := R
  obtain ⟨r1, r2, r3, r4, r5, r6, r7⟩ := R
  obtain ⟨q1, q2, q3, q4⟩ := pr_parts hp
  exact rm_g r q4 g33 g39 g25 (by
    rcases g50 with ⟨z1, z2, z3⟩ | z
    · rw [z1]; exact ⟨r4.1, Or.inl ⟨by omega, fun h => ⟨by rw [q1]; exact z2 h, z3⟩⟩⟩
    · rw [z]; exact ⟨Or.inl (Int.le_refl _), Or.inr rfl⟩) (by rw [q2]; exact r5) (by rw [q3]; exact r6) (by rw [q2]; exact r7)
theorem mi_ev_ok {K V : Nat → Int} {e : gx_V} {p p' : pr_S} {s : mi_S} (h : pr pw K V e p = .inr p') (R : rm p s) : ∃ s', mi V e s = .inr s' ∧ rm p' s' := by
  obtain ⟨n, x, y, z⟩ := e
  obtain ⟨g, ty, so, bs, oc⟩ := s
  unfold pr at h
  split at h
  all_goals first
    | (cases h; done)
    | (rename_i hn; have hn : n = _ := hn; subst hn)
  · obtain ⟨hc, hb, hp⟩ := pr_q_in h; exact rm_1 R hp hb rfl rfl rfl rfl hc.1.1
  · obtain ⟨hc, hb, hp⟩ := pr_q_in h; exact rm_1 R hp hb rfl rfl rfl rfl hc.1.1
  · obtain ⟨hc, hb, hp⟩ := pr_q_in h; exact rm_1 R hp hb rfl rfl rfl rfl hc.1.1
  · obtain ⟨hc, hb, hp⟩ := pr_q_in h; exact rm_1 R hp hb rfl rfl rfl rfl hc.1.1
  · obtain ⟨hc, hb, hp⟩ := pr_q_in h; exact rm_1 R hp hb rfl rfl rfl rfl hc.1.1
  · obtain ⟨hc, hb, hp⟩ := pr_q_in h; exact rm_1 R hp hb rfl rfl rfl rfl hc.1.1
  · obtain ⟨hc, hb, hp⟩ := pr_q_in h; exact rm_1 R hp hb rfl rfl rfl rfl hc.1.1
  · obtain ⟨hc, hb, hp⟩ := pr_q_in h; exact rm_1 R hp hb rfl rfl rfl rfl hc.1.1
  · obtain ⟨hc, hb, hp⟩ := pr_q_in h; exact rm_1 R hp hb rfl rfl rfl rfl hc.1.1
  · obtain ⟨hc, hb, hp⟩ := pr_q_in h; exact rm_1 R hp hb rfl rfl rfl rfl hc.1.1
  · -- 11
    obtain ⟨hc, hb, hp⟩ := pr_q_in h
    have r := R
    obtain ⟨r1, r2, r3, r4, r5, r6, r7⟩ := R
    have r1 : g 254 33 = (p.2.2.2 0 : Int) := r1
    have r2 : 4 * g 254 39 = (p.2.2.2 1 : Int) := r2
    have b0 := hb 0
    have b1 := hb 1
    obtain ⟨q1, q2, q3, q4⟩ := pr_parts hp
    have c33 : ∀ a b, mi_call a b g 254 33 = g 254 33 := fun a b => by unfold mi_call; rw [p_up_c _ _ _ _ _ (by decide), p_up_c _ _ _ _ _ (by decide), p_up_c _ _ _ _ _ (by decide), p_up_c _ _ _ _ _ (by decide), p_up_n _ _ _ _ _ _ (Or.inr (by decide))]
    have c39 : ∀ a b, mi_call a b g 254 39 = g 254 39 + 1 := fun a b => by unfold mi_call; rw [p_up_c _ _ _ _ _ (by decide), p_up_c _ _ _ _ _ (by decide), p_up_c _ _ _ _ _ (by decide), p_up_c _ _ _ _ _ (by decide), p_up_s]
    have c25 : ∀ a b, mi_call a b g 254 25 = g 254 25 := fun a b => by unfold mi_call; rw [p_up_c _ _ _ _ _ (by decide), p_up_c _ _ _ _ _ (by decide), p_up_c _ _ _ _ _ (by decide), p_up_c _ _ _ _ _ (by decide), p_up_n _ _ _ _ _ _ (Or.inr (by decide))]
    have c50 : ∀ a b, mi_call a b g 254 50 = g 254 50 := fun a b => by unfold mi_call; rw [p_up_c _ _ _ _ _ (by decide), p_up_c _ _ _ _ _ (by decide), p_up_c _ _ _ _ _ (by decide), p_up_c _ _ _ _ _ (by decide), p_up_n _ _ _ _ _ _ (Or.inr (by decide))]
    refine ⟨(mi_put 9 (g 254 39) 0 0 (mi_call (if z = 1 then x else -1) y g), ty, so, bs, g 254 39 :: oc), ?_, rm_g r q4 ?_ ?_ ?_ ?_ (by rw [q2]; exact r5) (by rw [q3]; show oc.length + 1 = p.2.2.1.length + 1; have r6 : oc.length = p.2.2.1.length := r6; omega) (by rw [q2]; exact r7)⟩
    · show ce_q (g 254 39 < 990) (gx_b (mi_add 9 (g 254 39) 0 0 (mi_call (if z = 1 then x else -1) y g)) fun g1 => .inr (g1, ty, so, bs, g 254 39 :: oc)) = _
      unfold ce_q
      rw [if_pos (by omega), mi_add_t (by rw [c33]; omega)]
      rfl
    · rw [mi_put_33, c33]; rfl
    · rw [mi_put_f _ _ _ _ _ _ (by decide), c39]; show 4 * (g 254 39 + 1) = 4 * g 254 39 + 4; omega
    · rw [mi_put_f _ _ _ _ _ _ (by decide), c25]; show 2 * g 254 25 = 2 * g 254 25 + 0; omega
    · rw [mi_put_f _ _ _ _ _ _ (by decide), c50]; have r4 : (0 ≤ g 254 50 ∨ p.1 9 < 4) ∧ _ := r4; exact ⟨r4.1, Or.inl ⟨by show g 254 50 ≤ g 254 50 + 2 * 0; omega, fun z => by have := hc.1; omega⟩⟩
  · -- 12
    have r := R
    obtain ⟨r1, r2, r3, r4, r5, r6, r7⟩ := R
    have r1 : g 254 33 = (p.2.2.2 0 : Int) := r1
    split at h
    · cases h
    · rename_i q l ho
      obtain ⟨hc, hb, hp⟩ := pr_q_in h
      obtain ⟨q1, q2, q3, q4⟩ := pr_parts hp
      have b0 := hb 0
      cases oc with
      | nil => rw [ho] at r6; cases r6
      | cons c l2 =>
        have r6 : l2.length + 1 = p.2.2.1.length := r6
        rw [ho] at r6
        have u : ∀ j, am_up g 284 c.toNat z 254 j = g 254 j := fun j => by rw [p_up_c _ _ _ _ _ (by decide)]
        refine ⟨(mi_put 10 c 0 0 (am_up g 284 c.toNat z), ty, so, bs, l2), ?_, rm_g r q4 ?_ ?_ ?_ ?_ (by rw [q2]; exact r5) (by rw [q3]; simp at r6; exact r6) (by rw [q2]; exact r7)⟩
        · show (gx_b (mi_add 10 c 0 0 (am_up g 284 c.toNat z)) fun g1 => (.inr (g1, ty, so, bs, l2) : gx_R mi_S)) = _
          rw [mi_add_t (by rw [u]; omega)]
          rfl
        · rw [mi_put_33, u]; rfl
        · rw [mi_put_f _ _ _ _ _ _ (by decide), u]; show 4 * g 254 39 = 4 * g 254 39 + 0; omega
        · rw [mi_put_f _ _ _ _ _ _ (by decide), u]; show 2 * g 254 25 = 2 * g 254 25 + 0; omega
        · rw [mi_put_f _ _ _ _ _ _ (by decide), u]; have r4 : (0 ≤ g 254 50 ∨ p.1 9 < 4) ∧ _ := r4; exact ⟨r4.1, Or.inl ⟨by show g 254 50 ≤ g 254 50 + 2 * 0; omega, fun z => by have := hc.1; omega⟩⟩
  · obtain ⟨hc, hb, hp⟩ := pr_q_in h; exact rm_1 R hp hb rfl rfl rfl rfl hc.1
  · obtain ⟨hc, hb, hp⟩ := pr_q_in h
    exact ⟨_, rfl, rm_0 R hp (Int.add_zero _).symm (Int.add_zero _).symm (Int.add_zero _).symm (Or.inl ⟨rfl, (fun z => by have := hc.1; omega), rfl⟩)⟩
  · obtain ⟨hc, hb, hp⟩ := pr_q_in h; exact rm_2 R hp hb rfl rfl rfl rfl hc.1.1
  · obtain ⟨hc, hb, hp⟩ := pr_q_in h; exact rm_2 R hp hb rfl rfl rfl rfl hc.1.1
  · -- 24
    obtain ⟨hc, hb, hp⟩ := pr_q_in h
    have r := R
    obtain ⟨r1, r2, r3, r4, r5, r6, r7⟩ := R
    have r4 : (0 ≤ g 254 50 ∨ p.1 9 < 4) ∧ (g 254 50 ≤ 2 * (p.2.2.2 3 : Int) ∨ p.1 9 < 4) := r4
    have h96 := hc.1
    obtain ⟨q1, q2, q3, q4⟩ := pr_parts hp
    have b3 := hb 3
    refine ⟨(am_up g 254 50 (g 254 50 + 2), ty, so, (1, g 254 50, 0, g 254 33) :: bs, oc), if_pos (by omega), rm_g r q4 ?_ ?_ ?_ ?_ (by rw [q2]; show bs.length + 1 = p.2.1.length + 1; have r5 : bs.length = p.2.1.length := r5; omega) (by rw [q3]; exact r6) (by rw [q2]; show p.2.1.length + 1 ≤ 25; have := hc.2.2.1; omega)⟩
    · rw [p_up_n _ _ _ _ _ _ (Or.inr (by decide))]; exact (Int.add_zero _).symm
    · rw [p_up_n _ _ _ _ _ _ (Or.inr (by decide))]; exact (Int.add_zero _).symm
    · rw [p_up_n _ _ _ _ _ _ (Or.inr (by decide))]; exact (Int.add_zero _).symm
    · rw [p_up_s]; exact ⟨by omega, Or.inl ⟨by show g 254 50 + 2 ≤ g 254 50 + 2 * 1; omega, fun z => by have := hc.1; omega⟩⟩
  · -- 25
    obtain ⟨hc, hb, hp⟩ := pr_q_in h
    have r := R
    obtain ⟨r1, r2, r3, r4, r5, r6, r7⟩ := R
    have r4 : (0 ≤ g 254 50 ∨ p.1 9 < 4) ∧ _ := r4
    have r1 : g 254 33 = (p.2.2.2 0 : Int) := r1
    have r5 : bs.length = p.2.1.length := r5
    obtain ⟨q1, q2, q3, q4⟩ := pr_parts hp
    have b0 := hb 0
    have hd := hc.2.2.1
    cases bs with
    | nil => cases hl : p.2.1 with
      | nil => rw [hl] at hd; cases hd
      | cons a l => rw [hl] at r5; cases r5
    | cons b l =>
      have hl : 1 ≤ p.2.1.length := by rw [← r5]; simp
      have r5 : l.length + 1 = p.2.1.length := r5
      refine ⟨(mi_blk l.length 1 b.2.1 (g 254 33) b.2.2.2 (mi_put 15 0 b.2.1 0 g), ty, so, (1, b.2.1, g 254 33, b.2.2.2) :: l, oc), ?_, rm_g r q4 ?_ ?_ ?_ ?_ (by rw [q2]; simp; omega) (by rw [q3]; exact r6) (by rw [q2]; simp; omega)⟩
      · show ce_q (l.length < 40) (gx_b (mi_add 15 0 b.2.1 0 g) fun g1 => (.inr (mi_blk l.length 1 b.2.1 (g 254 33) b.2.2.2 g1, ty, so, (1, b.2.1, g 254 33, b.2.2.2) :: l, oc) : gx_R mi_S)) = _
        unfold ce_q
        rw [if_pos (by omega), mi_add_t (by omega)]
        rfl
      · rw [mi_blk_f _ _ _ _ _ _ _ (by decide), mi_put_33]; rfl
      · rw [mi_blk_f _ _ _ _ _ _ _ (by decide), mi_put_f _ _ _ _ _ _ (by decide)]; exact (Int.add_zero _).symm
      · rw [mi_blk_f _ _ _ _ _ _ _ (by decide), mi_put_f _ _ _ _ _ _ (by decide)]; exact (Int.add_zero _).symm
      · rw [mi_blk_f _ _ _ _ _ _ _ (by decide), mi_put_f _ _ _ _ _ _ (by decide)]; exact ⟨r4.1, Or.inl ⟨by show g 254 50 ≤ g 254 50 + 2 * 0; omega, fun z => by have := hc.1; omega⟩⟩
  · -- 26
    obtain ⟨hc, hb, hp⟩ := pr_q_in h
    have r := R
    obtain ⟨r1, r2, r3, r4, r5, r6, r7⟩ := R
    have r4 : (0 ≤ g 254 50 ∨ p.1 9 < 4) ∧ _ := r4
    have r1 : g 254 33 = (p.2.2.2 0 : Int) := r1
    have r5 : bs.length = p.2.1.length := r5
    obtain ⟨q1, q2, q3, q4⟩ := pr_parts hp
    have b0 := hb 0
    have hd := hc.2.2.1
    cases bs with
    | nil => cases hl : p.2.1 with
      | nil => rw [hl] at hd; cases hd
      | cons a l => rw [hl] at r5; cases r5
    | cons b l =>
      have hl : 1 ≤ p.2.1.length := by rw [← r5]; simp
      have r5 : l.length + 1 = p.2.1.length := r5
      have u : ∀ j, j ≠ 55 → am_up g 254 55 (l.length : Int) 254 j = g 254 j := fun j hj => p_up_n _ _ _ _ _ _ (Or.inr hj)
      have v : ∀ (g : am_H) (k : Nat) (x : Int) (j : Nat), am_up g 278 k x 254 j = g 254 j := fun g k x j => by rw [p_up_c _ _ _ _ _ (by decide)]
      refine ⟨(mi_blk l.length 2 b.2.1 (g 254 33) 0 (am_up (mi_put 20 b.2.1 0 0 (mi_put 16 0 (b.2.1 + 1) 0 (am_up g 254 55 (l.length : Int)))) 278 b.2.2.1.toNat ((mi_put 16 0 (b.2.1 + 1) 0 (am_up g 254 55 (l.length : Int))) 254 33)), ty, so, (2, b.2.1, g 254 33, 0) :: l, oc), ?_, rm_g r q4 ?_ ?_ ?_ ?_ (by rw [q2]; simp; omega) (by rw [q3]; exact r6) (by rw [q2]; simp; omega)⟩
      · show (gx_b (mi_add 16 0 (b.2.1 + 1) 0 (am_up g 254 55 (l.length : Int))) fun g1 => gx_b (mi_add 20 b.2.1 0 0 g1) fun g2 => (.inr (mi_blk l.length 2 b.2.1 (g 254 33) 0 (am_up g2 278 b.2.2.1.toNat (g1 254 33)), ty, so, (2, b.2.1, g 254 33, 0) :: l, oc) : gx_R mi_S)) = _
        rw [mi_add_t (by rw [u _ (by decide)]; omega), gx_b_inr, mi_add_t (by rw [mi_put_33, u _ (by decide)]; omega)]
        rfl
      · rw [mi_blk_f _ _ _ _ _ _ _ (by decide), v, mi_put_33, mi_put_33, u _ (by decide)]; show g 254 33 + 1 + 1 = g 254 33 + 2; omega
      · rw [mi_blk_f _ _ _ _ _ _ _ (by decide), v, mi_put_f _ _ _ _ _ _ (by decide), mi_put_f _ _ _ _ _ _ (by decide), u _ (by decide)]; exact (Int.add_zero _).symm
      · rw [mi_blk_f _ _ _ _ _ _ _ (by decide), v, mi_put_f _ _ _ _ _ _ (by decide), mi_put_f _ _ _ _ _ _ (by decide), u _ (by decide)]; exact (Int.add_zero _).symm
      · rw [mi_blk_f _ _ _ _ _ _ _ (by decide), v, mi_put_f _ _ _ _ _ _ (by decide), mi_put_f _ _ _ _ _ _ (by decide), u _ (by decide)]; exact ⟨r4.1, Or.inl ⟨by show g 254 50 ≤ g 254 50 + 2 * 0; omega, fun z => by have := hc.1; omega⟩⟩
  · -- 27
    obtain ⟨hc, hb, hp⟩ := pr_q_in h
    have r := R
    obtain ⟨r1, r2, r3, r4, r5, r6, r7⟩ := R
    have r4 : (0 ≤ g 254 50 ∨ p.1 9 < 4) ∧ _ := r4
    have r1 : g 254 33 = (p.2.2.2 0 : Int) := r1
    have r5 : bs.length = p.2.1.length := r5
    obtain ⟨q1, q2, q3, q4⟩ := pr_parts hp
    have b0 := hb 0
    have hd := hc.2.2.1
    cases bs with
    | nil => cases hl : p.2.1 with
      | nil => rw [hl] at hd; cases hd
      | cons a l => rw [hl] at r5; cases r5
    | cons b l =>
      have r5 : l.length + 1 = p.2.1.length := r5
      have u : ∀ j, j ≠ 55 → am_up g 254 55 (l.length : Int) 254 j = g 254 j := fun j hj => p_up_n _ _ _ _ _ _ (Or.inr hj)
      have v : ∀ (g : am_H) (k : Nat) (x : Int) (j : Nat), am_up g 278 k x 254 j = g 254 j := fun g k x j => by rw [p_up_c _ _ _ _ _ (by decide)]
      refine ⟨(mi_put 12 0 0 0 (am_up (mi_put 20 (b.2.1) 0 0 (am_up g 254 55 (l.length : Int))) 278 b.2.2.1.toNat (g 254 33)), ty, so, l, oc), ?_, rm_g r q4 ?_ ?_ ?_ ?_ (by rw [q2]; simp; omega) (by rw [q3]; exact r6) (by rw [q2]; simp; omega)⟩
      · show (gx_b (mi_add 20 (b.2.1) 0 0 (am_up g 254 55 (l.length : Int))) fun g1 => gx_b (mi_add 12 0 0 0 (am_up g1 278 b.2.2.1.toNat (g 254 33))) fun g2 => (.inr (g2, ty, so, l, oc) : gx_R mi_S)) = _
        rw [mi_add_t (by rw [u _ (by decide)]; omega), gx_b_inr, mi_add_t (by rw [v, mi_put_33, u _ (by decide)]; omega)]
        rfl
      · rw [mi_put_33, v, mi_put_33, u _ (by decide)]; show g 254 33 + 1 + 1 = g 254 33 + 2; omega
      · rw [mi_put_f _ _ _ _ _ _ (by decide), v, mi_put_f _ _ _ _ _ _ (by decide), u _ (by decide)]; exact (Int.add_zero _).symm
      · rw [mi_put_f _ _ _ _ _ _ (by decide), v, mi_put_f _ _ _ _ _ _ (by decide), u _ (by decide)]; exact (Int.add_zero _).symm
      · rw [mi_put_f _ _ _ _ _ _ (by decide), v, mi_put_f _ _ _ _ _ _ (by decide), u _ (by decide)]; exact ⟨r4.1, Or.inl ⟨by show g 254 50 ≤ g 254 50 + 2 * 0; omega, fun z => by have := hc.1; omega⟩⟩
  · -- 28
    obtain ⟨hc, hb, hp⟩ := pr_q_in h
    have r := R
    obtain ⟨r1, r2, r3, r4, r5, r6, r7⟩ := R
    have r4 : (0 ≤ g 254 50 ∨ p.1 9 < 4) ∧ _ := r4
    have r1 : g 254 33 = (p.2.2.2 0 : Int) := r1
    have r5 : bs.length = p.2.1.length := r5
    obtain ⟨q1, q2, q3, q4⟩ := pr_parts hp
    have b0 := hb 0
    have hd := hc.2.2.1
    cases bs with
    | nil => cases hl : p.2.1 with
      | nil => rw [hl] at hd; cases hd
      | cons a l => rw [hl] at r5; cases r5
    | cons b l =>
      have r5 : l.length + 1 = p.2.1.length := r5
      have u : ∀ j, j ≠ 55 → am_up g 254 55 (l.length : Int) 254 j = g 254 j := fun j hj => p_up_n _ _ _ _ _ _ (Or.inr hj)
      have v : ∀ (g : am_H) (k : Nat) (x : Int) (j : Nat), am_up g 278 k x 254 j = g 254 j := fun g k x j => by rw [p_up_c _ _ _ _ _ (by decide)]
      refine ⟨(mi_put 12 0 0 0 (am_up (mi_put 20 (b.2.1 + 1) 0 0 (am_up g 254 55 (l.length : Int))) 278 b.2.2.1.toNat (g 254 33)), ty, so, l, oc), ?_, rm_g r q4 ?_ ?_ ?_ ?_ (by rw [q2]; simp; omega) (by rw [q3]; exact r6) (by rw [q2]; simp; omega)⟩
      · show (gx_b (mi_add 20 (b.2.1 + 1) 0 0 (am_up g 254 55 (l.length : Int))) fun g1 => gx_b (mi_add 12 0 0 0 (am_up g1 278 b.2.2.1.toNat (g 254 33))) fun g2 => (.inr (g2, ty, so, l, oc) : gx_R mi_S)) = _
        rw [mi_add_t (by rw [u _ (by decide)]; omega), gx_b_inr, mi_add_t (by rw [v, mi_put_33, u _ (by decide)]; omega)]
        rfl
      · rw [mi_put_33, v, mi_put_33, u _ (by decide)]; show g 254 33 + 1 + 1 = g 254 33 + 2; omega
      · rw [mi_put_f _ _ _ _ _ _ (by decide), v, mi_put_f _ _ _ _ _ _ (by decide), u _ (by decide)]; exact (Int.add_zero _).symm
      · rw [mi_put_f _ _ _ _ _ _ (by decide), v, mi_put_f _ _ _ _ _ _ (by decide), u _ (by decide)]; exact (Int.add_zero _).symm
      · rw [mi_put_f _ _ _ _ _ _ (by decide), v, mi_put_f _ _ _ _ _ _ (by decide), u _ (by decide)]; exact ⟨r4.1, Or.inl ⟨by show g 254 50 ≤ g 254 50 + 2 * 0; omega, fun z => by have := hc.1; omega⟩⟩
  · -- 30
    obtain ⟨hc, hb, hp⟩ := pr_q_in h
    have r := R
    obtain ⟨r1, r2, r3, r4, r5, r6, r7⟩ := R
    have r4 : (0 ≤ g 254 50 ∨ p.1 9 < 4) ∧ (g 254 50 ≤ 2 * (p.2.2.2 3 : Int) ∨ p.1 9 < 4) := r4
    have h96 := hc.1
    have r1 : g 254 33 = (p.2.2.2 0 : Int) := r1
    obtain ⟨q1, q2, q3, q4⟩ := pr_parts hp
    have b0 := hb 0
    have b3 := hb 3
    have u : ∀ j, j ≠ 50 → am_up g 254 50 (g 254 50 + 2) 254 j = g 254 j := fun j hj => p_up_n _ _ _ _ _ _ (Or.inr hj)
    refine ⟨(mi_put 17 0 0 0 (mi_put 20 (g 254 50) 0 0 (am_up g 254 50 (g 254 50 + 2))), ty, so, (3, g 254 50, 0, g 254 33) :: bs, oc), ?_, rm_g r q4 ?_ ?_ ?_ ?_ (by rw [q2]; show bs.length + 1 = p.2.1.length + 1; have r5 : bs.length = p.2.1.length := r5; omega) (by rw [q3]; exact r6) (by rw [q2]; show p.2.1.length + 1 ≤ 25; have := hc.2.2.1; omega)⟩
    · show ce_q (0 ≤ g 254 50 ∧ g 254 50 < 99990) (gx_b (mi_add 20 (g 254 50) 0 0 (am_up g 254 50 (g 254 50 + 2))) fun g1 => gx_b (mi_add 17 0 0 0 g1) fun g2 => (.inr (g2, ty, so, (3, g 254 50, 0, g 254 33) :: bs, oc) : gx_R mi_S)) = _
      unfold ce_q
      rw [if_pos (by omega), mi_add_t (by rw [u _ (by decide)]; omega), gx_b_inr, mi_add_t (by rw [mi_put_33, u _ (by decide)]; omega)]
      rfl
    · rw [mi_put_33, mi_put_33, u _ (by decide)]; show g 254 33 + 1 + 1 = g 254 33 + 2; omega
    · rw [mi_put_f _ _ _ _ _ _ (by decide), mi_put_f _ _ _ _ _ _ (by decide), u _ (by decide)]; exact (Int.add_zero _).symm
    · rw [mi_put_f _ _ _ _ _ _ (by decide), mi_put_f _ _ _ _ _ _ (by decide), u _ (by decide)]; exact (Int.add_zero _).symm
    · rw [mi_put_f _ _ _ _ _ _ (by decide), mi_put_f _ _ _ _ _ _ (by decide), p_up_s]; exact ⟨by omega, Or.inl ⟨by show g 254 50 + 2 ≤ g 254 50 + 2 * 1; omega, fun z => by have := hc.1; omega⟩⟩
  · -- 31
    obtain ⟨hc, hb, hp⟩ := pr_q_in h
    have r := R
    obtain ⟨r1, r2, r3, r4, r5, r6, r7⟩ := R
    have r4 : (0 ≤ g 254 50 ∨ p.1 9 < 4) ∧ _ := r4
    have r1 : g 254 33 = (p.2.2.2 0 : Int) := r1
    have r5 : bs.length = p.2.1.length := r5
    obtain ⟨q1, q2, q3, q4⟩ := pr_parts hp
    have b0 := hb 0
    have hd := hc.2.2.1
    cases bs with
    | nil => cases hl : p.2.1 with
      | nil => rw [hl] at hd; cases hd
      | cons a l => rw [hl] at r5; cases r5
    | cons b l =>
      have hl : 1 ≤ p.2.1.length := by rw [← r5]; simp
      have r5 : l.length + 1 = p.2.1.length := r5
      refine ⟨(mi_blk l.length 3 b.2.1 (g 254 33) b.2.2.2 (mi_put 15 0 (b.2.1 + 1) 0 g), ty, so, (3, b.2.1, g 254 33, b.2.2.2) :: l, oc), ?_, rm_g r q4 ?_ ?_ ?_ ?_ (by rw [q2]; simp; omega) (by rw [q3]; exact r6) (by rw [q2]; simp; omega)⟩
      · show ce_q (l.length < 40) (gx_b (mi_add 15 0 (b.2.1 + 1) 0 g) fun g1 => (.inr (mi_blk l.length 3 b.2.1 (g 254 33) b.2.2.2 g1, ty, so, (3, b.2.1, g 254 33, b.2.2.2) :: l, oc) : gx_R mi_S)) = _
        unfold ce_q
        rw [if_pos (by omega), mi_add_t (by omega)]
        rfl
      · rw [mi_blk_f _ _ _ _ _ _ _ (by decide), mi_put_33]; rfl
      · rw [mi_blk_f _ _ _ _ _ _ _ (by decide), mi_put_f _ _ _ _ _ _ (by decide)]; exact (Int.add_zero _).symm
      · rw [mi_blk_f _ _ _ _ _ _ _ (by decide), mi_put_f _ _ _ _ _ _ (by decide)]; exact (Int.add_zero _).symm
      · rw [mi_blk_f _ _ _ _ _ _ _ (by decide), mi_put_f _ _ _ _ _ _ (by decide)]; exact ⟨r4.1, Or.inl ⟨by show g 254 50 ≤ g 254 50 + 2 * 0; omega, fun z => by have := hc.1; omega⟩⟩
  · -- 32
    obtain ⟨hc, hb, hp⟩ := pr_q_in h
    have r := R
    obtain ⟨r1, r2, r3, r4, r5, r6, r7⟩ := R
    have r4 : (0 ≤ g 254 50 ∨ p.1 9 < 4) ∧ _ := r4
    have r1 : g 254 33 = (p.2.2.2 0 : Int) := r1
    have r5 : bs.length = p.2.1.length := r5
    obtain ⟨q1, q2, q3, q4⟩ := pr_parts hp
    have b0 := hb 0
    have hd := hc.2.2.1
    cases bs with
    | nil => cases hl : p.2.1 with
      | nil => rw [hl] at hd; cases hd
      | cons a l => rw [hl] at r5; cases r5
    | cons b l =>
      have r5 : l.length + 1 = p.2.1.length := r5
      have u : ∀ j, j ≠ 55 → am_up g 254 55 (l.length : Int) 254 j = g 254 j := fun j hj => p_up_n _ _ _ _ _ _ (Or.inr hj)
      have v : ∀ (g : am_H) (k : Nat) (x : Int) (j : Nat), am_up g 278 k x 254 j = g 254 j := fun g k x j => by rw [p_up_c _ _ _ _ _ (by decide)]
      refine ⟨(mi_put 12 0 0 0 (am_up (mi_put 20 (b.2.1 + 1) 0 0 (mi_put 16 b.2.2.2 b.2.1 0 (am_up g 254 55 (l.length : Int)))) 278 b.2.2.1.toNat ((mi_put 16 b.2.2.2 b.2.1 0 (am_up g 254 55 (l.length : Int))) 254 33)), ty, so, l, oc), ?_, rm_g r q4 ?_ ?_ ?_ ?_ (by rw [q2]; simp; omega) (by rw [q3]; exact r6) (by rw [q2]; simp; omega)⟩
      · show (gx_b (mi_add 16 b.2.2.2 b.2.1 0 (am_up g 254 55 (l.length : Int))) fun g1 => gx_b (mi_add 20 (b.2.1 + 1) 0 0 g1) fun g2 => gx_b (mi_add 12 0 0 0 (am_up g2 278 b.2.2.1.toNat (g1 254 33))) fun g3 => (.inr (g3, ty, so, l, oc) : gx_R mi_S)) = _
        rw [mi_add_t (by rw [u _ (by decide)]; omega), gx_b_inr, mi_add_t (by rw [mi_put_33, u _ (by decide)]; omega), gx_b_inr, mi_add_t (by rw [v, mi_put_33, mi_put_33, u _ (by decide)]; omega)]
        rfl
      · rw [mi_put_33, v, mi_put_33, mi_put_33, u _ (by decide)]; show g 254 33 + 1 + 1 + 1 = g 254 33 + 3; omega
      · rw [mi_put_f _ _ _ _ _ _ (by decide), v, mi_put_f _ _ _ _ _ _ (by decide), mi_put_f _ _ _ _ _ _ (by decide), u _ (by decide)]; exact (Int.add_zero _).symm
      · rw [mi_put_f _ _ _ _ _ _ (by decide), v, mi_put_f _ _ _ _ _ _ (by decide), mi_put_f _ _ _ _ _ _ (by decide), u _ (by decide)]; exact (Int.add_zero _).symm
      · rw [mi_put_f _ _ _ _ _ _ (by decide), v, mi_put_f _ _ _ _ _ _ (by decide), mi_put_f _ _ _ _ _ _ (by decide), u _ (by decide)]; exact ⟨r4.1, Or.inl ⟨by show g 254 50 ≤ g 254 50 + 2 * 0; omega, fun z => by have := hc.1; omega⟩⟩
  · obtain ⟨hc, hb, hp⟩ := pr_q_in h; exact rm_1 R hp hb rfl rfl rfl rfl hc.1.1
  · obtain ⟨hc, hb, hp⟩ := pr_q_in h; exact rm_2 R hp hb rfl rfl rfl rfl hc.1.1
  · -- 39
    obtain ⟨hc, hb, hp⟩ := pr_q_in h
    exact ⟨_, rfl, rm_0 R hp (Int.add_zero _).symm (Int.add_zero _).symm (Int.add_zero _).symm (Or.inl ⟨rfl, (fun _ => by rw [pu_s]; decide), rfl⟩)⟩
  · -- 40
    obtain ⟨hc, hb, hp⟩ := pr_q_in h
    refine ⟨_, rfl, rm_0 R hp ?_ ?_ ?_ (Or.inl ⟨?_, (fun _ => by rw [pu_n _ _ _ _ (by decide), pu_s]; decide), rfl⟩)⟩ <;> (rw [p_up_n _ _ _ _ _ _ (Or.inr (by decide)), p_up_n _ _ _ _ _ _ (Or.inr (by decide)), p_up_c _ _ _ _ _ (by decide), p_up_c _ _ _ _ _ (by decide)]) <;> first | rfl | exact (Int.add_zero _).symm
  · -- 38
    obtain ⟨hc, hb, hp⟩ := pr_q_in h
    exact ⟨_, rfl, rm_0 R hp (Int.add_zero _).symm (Int.add_zero _).symm (Int.add_zero _).symm (Or.inl ⟨rfl, (fun z => z), rfl⟩)⟩
  · -- 41
    obtain ⟨hc, hb, hp⟩ := pr_q_in h
    exact ⟨_, rfl, rm_0 R hp (Int.add_zero _).symm (Int.add_zero _).symm (Int.add_zero _).symm (Or.inl ⟨rfl, (fun z => by rw [pu_n _ _ _ _ (by decide), pu_n _ _ _ _ (by decide)]; exact z), rfl⟩)⟩
  · -- 42
    obtain ⟨hc, hb, hp⟩ := pr_q_in h
    have r3 : 2 * g 254 25 = (p.2.2.2 2 : Int) := R.2.2.1
    have b2 := hb 2
    by_cases hy : y = 1
    · refine ⟨(am_up (mi_dec (-1) 1 ty x (g 262 (g 254 14 - 1).toNat) (g 262 (g 254 14 - 1).toNat) g) 262 (g 254 14 - 1).toNat (g 262 (g 254 14 - 1).toNat + 1), ty, so, bs, oc), ?_, rm_0 R hp ?_ ?_ ?_ (Or.inl ⟨?_, (fun z => by rw [pu_n _ _ _ _ (by decide)]; split <;> (rw [pu_n _ _ _ _ (by decide)]; exact z)), rfl⟩)⟩
      · show ce_q (g 254 25 < 1090) (if y = 1 then _ else _) = _
        unfold ce_q
        rw [if_pos (by omega), if_pos hy]
      · rw [p_up_c _ _ _ _ _ (by decide), mi_dec_n _ _ _ _ _ _ _ _ _ (by omega) (by omega)]; exact (Int.add_zero _).symm
      · rw [p_up_c _ _ _ _ _ (by decide), mi_dec_n _ _ _ _ _ _ _ _ _ (by omega) (by omega)]; exact (Int.add_zero _).symm
      · rw [p_up_c _ _ _ _ _ (by decide), mi_dec_25]; show 2 * (g 254 25 + 1) = 2 * g 254 25 + 2; omega
      · rw [p_up_c _ _ _ _ _ (by decide), mi_dec_n _ _ _ _ _ _ _ _ _ (by omega) (by omega)]
    · refine ⟨(am_up (am_up (mi_dec (-1) 0 ty x (g 254 60) (g 254 16) g) 254 16 (g 254 16 + 1)) 254 60 (g 254 60 + 1), ty, so, bs, oc), ?_, rm_0 R hp ?_ ?_ ?_ (Or.inl ⟨?_, (fun z => by rw [pu_n _ _ _ _ (by decide)]; split <;> (rw [pu_n _ _ _ _ (by decide)]; exact z)), rfl⟩)⟩
      · show ce_q (g 254 25 < 1090) (if y = 1 then _ else _) = _
        unfold ce_q
        rw [if_pos (by omega), if_neg hy]
      · rw [p_up_n _ _ _ _ _ _ (Or.inr (by decide)), p_up_n _ _ _ _ _ _ (Or.inr (by decide)), mi_dec_n _ _ _ _ _ _ _ _ _ (by omega) (by omega)]; exact (Int.add_zero _).symm
      · rw [p_up_n _ _ _ _ _ _ (Or.inr (by decide)), p_up_n _ _ _ _ _ _ (Or.inr (by decide)), mi_dec_n _ _ _ _ _ _ _ _ _ (by omega) (by omega)]; exact (Int.add_zero _).symm
      · rw [p_up_n _ _ _ _ _ _ (Or.inr (by decide)), p_up_n _ _ _ _ _ _ (Or.inr (by decide)), mi_dec_25]; show 2 * (g 254 25 + 1) = 2 * g 254 25 + 2; omega
      · rw [p_up_n _ _ _ _ _ _ (Or.inr (by decide)), p_up_n _ _ _ _ _ _ (Or.inr (by decide)), mi_dec_n _ _ _ _ _ _ _ _ _ (by omega) (by omega)]
  · -- 43
    obtain ⟨hc, hb, hp⟩ := pr_q_in h
    exact ⟨_, rfl, rm_0 R hp (Int.add_zero _).symm (Int.add_zero _).symm (Int.add_zero _).symm (Or.inl ⟨rfl, (fun _ => by rw [pu_s]; decide), rfl⟩)⟩
  · -- 44
    obtain ⟨hc, hb, hp⟩ := pr_q_in h
    exact ⟨_, rfl, rm_0 R hp (Int.add_zero _).symm (Int.add_zero _).symm (Int.add_zero _).symm (Or.inl ⟨rfl, (fun z => by rw [pu_n _ _ _ _ (by decide), pu_n _ _ _ _ (by decide)]; exact z), rfl⟩)⟩
  · -- 45
    obtain ⟨hc, hb, hp⟩ := pr_q_in h
    have u : ∀ j, j ≠ 17 → j ≠ 50 → mi_sub so x ty g 254 j = g 254 j := by
      intro j h1 h2
      unfold mi_sub
      rw [p_up_n _ _ _ _ _ _ (Or.inr h2), p_up_n _ _ _ _ _ _ (Or.inr h1), p_up_c _ _ _ _ _ (by decide), p_up_c _ _ _ _ _ (by decide), p_up_c _ _ _ _ _ (by decide), p_up_c _ _ _ _ _ (by decide), p_up_c _ _ _ _ _ (by decide), p_up_c _ _ _ _ _ (by decide), p_up_c _ _ _ _ _ (by decide)]
    refine ⟨(mi_sub so x ty g, ty, so, bs, oc), rfl, rm_0 R hp ?_ ?_ ?_ (Or.inr (p_up_s _ _ _ _))⟩
    · rw [u _ (by decide) (by decide)]; exact (Int.add_zero _).symm
    · rw [u _ (by decide) (by decide)]; exact (Int.add_zero _).symm
    · rw [u _ (by decide) (by decide)]; exact (Int.add_zero _).symm
  · -- 51
    obtain ⟨hc, hb, hp⟩ := pr_q_in h
    exact ⟨_, rfl, rm_0 R hp (Int.add_zero _).symm (Int.add_zero _).symm (Int.add_zero _).symm (Or.inl ⟨rfl, (fun z => z), rfl⟩)⟩
  · -- 46
    obtain ⟨hc, hb, hp⟩ := pr_q_in h
    have r3 : 2 * g 254 25 = (p.2.2.2 2 : Int) := R.2.2.1
    have b2 := hb 2
    refine ⟨_, if_pos (by show g 254 25 < 1090; omega), rm_0 R hp ?_ ?_ ?_ (Or.inl ⟨?_, (fun z => by have := hc.1; omega), rfl⟩)⟩
    · rw [p_up_c _ _ _ _ _ (by decide), mi_dec_n _ _ _ _ _ _ _ _ _ (by omega) (by omega)]; exact (Int.add_zero _).symm
    · rw [p_up_c _ _ _ _ _ (by decide), mi_dec_n _ _ _ _ _ _ _ _ _ (by omega) (by omega)]; exact (Int.add_zero _).symm
    · rw [p_up_c _ _ _ _ _ (by decide), mi_dec_25]; show 2 * (g 254 25 + 1) = 2 * g 254 25 + 2; omega
    · rw [p_up_c _ _ _ _ _ (by decide), mi_dec_n _ _ _ _ _ _ _ _ _ (by omega) (by omega)]
  · -- 47
    obtain ⟨hc, hb, hp⟩ := pr_q_in h
    exact ⟨_, rfl, rm_0 R hp (Int.add_zero _).symm (Int.add_zero _).symm (Int.add_zero _).symm (Or.inl ⟨rfl, (fun z => by have : p.1 9 = 4 := hc.1; omega), rfl⟩)⟩
  · -- 50
    obtain ⟨hc, hb, hp⟩ := pr_q_in h
    have r3 : 2 * g 254 25 = (p.2.2.2 2 : Int) := R.2.2.1
    have b2 := hb 2
    refine ⟨_, if_pos (by show g 254 25 < 1090; omega), rm_0 R hp ?_ ?_ ?_ (Or.inl ⟨?_, (fun z => by have := hc.1; omega), rfl⟩)⟩
    · rw [p_up_c _ _ _ _ _ (by decide), mi_dec_n _ _ _ _ _ _ _ _ _ (by omega) (by omega)]; exact (Int.add_zero _).symm
    · rw [p_up_c _ _ _ _ _ (by decide), mi_dec_n _ _ _ _ _ _ _ _ _ (by omega) (by omega)]; exact (Int.add_zero _).symm
    · rw [p_up_c _ _ _ _ _ (by decide), mi_dec_25]; show 2 * (g 254 25 + 1) = 2 * g 254 25 + 2; omega
    · rw [p_up_c _ _ _ _ _ (by decide), mi_dec_n _ _ _ _ _ _ _ _ _ (by omega) (by omega)]
  · -- 48
    obtain ⟨hc, hb, hp⟩ := pr_q_in h
    refine ⟨_, rfl, rm_0 R hp ?_ ?_ ?_ (Or.inl ⟨?_, (fun z => by have := hc.1; omega), rfl⟩)⟩ <;> (rw [p_up_n _ _ _ _ _ _ (Or.inr (by decide)), p_up_c _ _ _ _ _ (by decide)]) <;> first | rfl | exact (Int.add_zero _).symm
  · -- 49
    obtain ⟨hc, hb, hp⟩ := pr_q_in h
    exact rm_2 R hp hb rfl rfl rfl rfl hc.1
/-- a whole stream -/
theorem mi_run {K V : Nat → Int} : ∀ (es : List gx_V) {p p' : pr_S} {s : mi_S}, gx_fold (pr pw K V) es p = .inr p' → rm p s → ∃ s', gx_fold (mi V) es s = .inr s' ∧ rm p' s'
  | [], p, p', s, h, R => by cases h; exact ⟨s, rfl, R⟩
  | e :: es, p, p', s, h, R => by
    obtain ⟨p1, e1, e2⟩ := gx_b_ok h
    obtain ⟨s1, m1, R1⟩ := mi_ev_ok e1 R
    obtain ⟨s', m2, R2⟩ := mi_run es e2 R1
    refine ⟨s', ?_, R2⟩
    show gx_b (mi V e s) (gx_fold (mi V) es) = _
    rw [m1]
    exact m2
