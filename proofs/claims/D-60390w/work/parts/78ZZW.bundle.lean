/-! PURE LAYER, 128: what stands at every event of the second reading -/
def bd (K V : Nat → Int) (pE : pr_S) (S : mi_S) (es : List gx_V) (p : pr_S) (s : mi_S) (c : ce_S) : Prop :=
  (gx_fold (pr pw K V) es p = .inr pE ∧ gx_fold (mi V) es s = .inr S) ∧ (rv K p s ∧ rm p s ∧ pq p ∧ pBd p ∧ po K p) ∧
  bw S.1 (s.1 254 33) p.2.1 s.2.2.2.1 c.2.2.2.2.2.2 ∧ (rqS S.1 ((p.1 3 : Int) - 1) s.2.2.2.2 p.2.2.1 ∧ (p.1 9 ≠ 6 → p.2.2.1 = [])) ∧ (p.1 9 = 6 → c.1 235 4 = s.1 254 50) ∧ (p.1 9 = 4 ∨ p.1 9 = 5 → s.1 254 50 = 0)
section
variable {K P V sc ss : Nat → Int} {cs : Nat → Nat} {b21 b15 : Nat} {c0 : am_H} {pE : pr_S} {S : mi_S} {e : gx_V} {es : List gx_V} {p p1 : pr_S} {s s1 : mi_S} {c c1 : ce_S}
theorem mi_lab (V : Nat → Int) (e : gx_V) (s : mi_S) : gx_P (mi V e s) (fun s1 => s1.1 254 50 = if e.1 = 24 ∨ e.1 = 30 then s.1 254 50 + 2 else if e.1 = 45 then 0 else s.1 254 50) := by
  obtain ⟨g, ty, so, bs, oc⟩ := s
  obtain ⟨n, a, b, c⟩ := e
  dsimp only
  have put : ∀ (k a b t : Int) (x : am_H), mi_put k a b t x 254 50 = x 254 50 := fun k a b t x => by simp [mi_put, p_up]
  have add : ∀ (k a b t : Int) (x y : am_H), mi_add k a b t x = .inr y → y 254 50 = x 254 50 := fun k a b t x y h => by rw [mi_add_in h, put]
  have blk : ∀ (k : Nat) (a b c e : Int) (x : am_H), mi_blk k a b c e x 254 50 = x 254 50 := fun k a b c e x => by simp [mi_blk, p_up]
  have one : ∀ (k a b t : Int), gx_P (mi_h (g, ty, so, bs, oc) (mi_add k a b t g)) (fun s1 => s1.1 254 50 = g 254 50) := fun k a b t => gx_P_b fun g1 e1 => gx_P_i (add _ _ _ _ _ _ e1)
  have two : ∀ (k a b t k2 a2 b2 t2 : Int), gx_P (mi_h (g, ty, so, bs, oc) (gx_b (mi_add k a b t g) (mi_add k2 a2 b2 t2))) (fun s1 => s1.1 254 50 = g 254 50) := fun k a b t k2 a2 b2 t2 => gx_P_b fun g1 e1 => gx_P_i (by
    obtain ⟨g2, w1, w2⟩ := gx_b_ok e1
    exact (add _ _ _ _ _ _ w2).trans (add _ _ _ _ _ _ w1))
  unfold mi
  dsimp only
  split
  all_goals first
    | (exact one _ _ _ _)
    | (exact two _ _ _ _ _ _ _ _)
    | (exact gx_P_i rfl)
    | (exact fun _ h => by cases h)
    | skip
  · refine gx_P_q fun _ => gx_P_b fun g1 e1 => gx_P_i ?_
    rw [if_neg (by decide), if_neg (by decide)]
    exact (add _ _ _ _ _ _ e1).trans (by simp [mi_call, p_up])
  · cases oc with
    | nil => exact fun _ h => by cases h
    | cons x l =>
      refine gx_P_b fun g1 e1 => gx_P_i ?_
      exact (add _ _ _ _ _ _ e1).trans (by simp [p_up])
  · exact gx_P_q fun _ => gx_P_i (by simp [p_up])
  · cases bs with
    | nil => exact fun _ h => by cases h
    | cons x l => exact gx_P_q fun _ => gx_P_b fun g1 e1 => gx_P_i (by rw [if_neg (by decide), if_neg (by decide)]; dsimp only; rw [blk]; exact add _ _ _ _ _ _ e1)
  · cases bs with
    | nil => exact fun _ h => by cases h
    | cons x l => exact gx_P_b fun g1 e1 => gx_P_b fun g2 e2 => gx_P_i (by rw [if_neg (by decide), if_neg (by decide)]; dsimp only; rw [blk, p_up_c _ _ _ _ _ (by decide), add _ _ _ _ _ _ e2, add _ _ _ _ _ _ e1]; simp [p_up])
  · cases bs with
    | nil => exact fun _ h => by cases h
    | cons x l => exact gx_P_b fun g1 e1 => gx_P_b fun g2 e2 => gx_P_i (by
        rw [if_neg (by decide), if_neg (by decide)]
        show g2 254 50 = _
        rw [add _ _ _ _ _ _ e2, p_up_c _ _ _ _ _ (by decide), add _ _ _ _ _ _ e1]; simp [p_up])
  · cases bs with
    | nil => exact fun _ h => by cases h
    | cons x l => exact gx_P_b fun g1 e1 => gx_P_b fun g2 e2 => gx_P_i (by
        rw [if_neg (by decide), if_neg (by decide)]
        show g2 254 50 = _
        rw [add _ _ _ _ _ _ e2, p_up_c _ _ _ _ _ (by decide), add _ _ _ _ _ _ e1]; simp [p_up])
  · exact gx_P_q fun _ => gx_P_b fun g1 e1 => gx_P_b fun g2 e2 => gx_P_i (by
      rw [if_pos (by decide)]
      show g2 254 50 = _
      rw [add _ _ _ _ _ _ e2, add _ _ _ _ _ _ e1]; simp [p_up])
  · cases bs with
    | nil => exact fun _ h => by cases h
    | cons x l => exact gx_P_q fun _ => gx_P_b fun g1 e1 => gx_P_i (by rw [if_neg (by decide), if_neg (by decide)]; dsimp only; rw [blk]; exact add _ _ _ _ _ _ e1)
  · cases bs with
    | nil => exact fun _ h => by cases h
    | cons x l => exact gx_P_b fun g1 e1 => gx_P_b fun g2 e2 => gx_P_b fun g3 e3 => gx_P_i (by
        rw [if_neg (by decide), if_neg (by decide)]
        show g3 254 50 = _
        rw [add _ _ _ _ _ _ e3, p_up_c _ _ _ _ _ (by decide), add _ _ _ _ _ _ e2, add _ _ _ _ _ _ e1]; simp [p_up])
  · refine gx_P_q fun _ => ?_
    by_cases hb : b = 1
    · rw [if_pos hb]; exact gx_P_i (by simp [mi_dec, p_up])
    · rw [if_neg hb]; exact gx_P_i (by simp [mi_dec, p_up])
  · exact gx_P_q fun _ => gx_P_i (by simp [mi_dec, p_up])
  · exact gx_P_q fun _ => gx_P_i (by simp [mi_dec, p_up])
theorem oE_t {h : am_H} {l t : Int} {st : List (Int × Int × Int × Int)} : (oE K P V sc ss cs b21 b15 h c0 e p l t st).2.2.2.2 = if e.1 = 24 ∨ e.1 = 30 then t + 2 else if e.1 = 48 then 0 else t := by
  obtain ⟨n, a, b, c⟩ := e
  unfold oE
  dsimp only
  split
  all_goals first
    | rfl
    | (split <;> first | rfl | (split <;> rfl))
    | skip
  rename_i h1 h2 h3 h4 h5 h6 h7 h8 h9 h10 h11 h12 h20 h22 h23 h24 h25 h26 h27 h28 h30 h31 h32 h33 h34 h48 h49
  rw [if_neg (fun z => z.elim h24 h30), if_neg h48]
/-- what declarations keep -/
theorem pr_decl {w : Nat → Nat → Nat} (he : ¬ e.1 ≤ 34) (hp : pr w K V e p = .inr p1) : (p1.2.1 = p.2.1 ∧ p1.2.2.1 = p.2.2.1) ∧ (p.1 9 = 6 → e.1 = 49 ∧ p.2.2.1 = []) ∧ (p1.1 9 = 6 → e.1 = 48) ∧ (p1.1 9 = 4 ∨ p1.1 9 = 5 → (p.1 9 = 4 ∨ p.1 9 = 5) ∧ e.1 ≠ 45 ∨ e.1 = 45) := by
  obtain ⟨n, a, b, c⟩ := e
  dsimp only at he
  unfold pr at hp
  split at hp
  all_goals first
    | (cases hp; done)
    | (rename_i hn; have hn : n = _ := hn; subst hn)
  all_goals first
    | (exfalso; omega)
    | skip
  all_goals (obtain ⟨hc, -, hq⟩ := pr_q_in hp; subst hq; dsimp only)
  all_goals first
    | (refine ⟨⟨rfl, rfl⟩, fun z => ?_, fun z => ?_, fun z => ?_⟩ <;> (simp [pu] at *; try omega); done)
    | skip
  · refine ⟨⟨rfl, rfl⟩, fun z => by omega, fun z => ?_, fun z => ?_⟩
    · have h0 := hc.1
      exfalso; by_cases hb : b = 1 <;> simp [pu, hb] at z <;> omega
    · have h0 := hc.1
      exfalso; by_cases hb : b = 1 <;> simp [pu, hb] at z <;> omega
  · exact ⟨⟨rfl, rfl⟩, fun z => ⟨rfl, hc.2.2.2.1⟩, fun z => by simp [pu] at z, fun z => by simp [pu] at z⟩
theorem mi_decl {w : Nat → Nat → Nat} (he : ¬ e.1 ≤ 34) (hp : pr w K V e p = .inr p1) (hm : mi V e s = .inr s1) : s1.2.2.2 = s.2.2.2 := by
  obtain ⟨g, ty, so, bs, oc⟩ := s
  obtain ⟨n, a, b, c⟩ := e
  dsimp only at he
  have hh : ∀ r, gx_P (mi_h (g, ty, so, bs, oc) r) (fun s1 => s1.2.2.2 = (bs, oc)) := fun r => gx_P_b fun a e => gx_P_i rfl
  have key : gx_P (mi V (n, a, b, c) (g, ty, so, bs, oc)) (fun s1 => s1.2.2.2 = (bs, oc)) := by
    unfold mi
    dsimp only
    split
    all_goals first
      | (exfalso; omega)
      | (exact gx_P_i rfl)
      | (exact hh _)
      | (exact gx_P_q fun _ => gx_P_i rfl)
      | (refine gx_P_q fun _ => ?_; split <;> exact gx_P_i rfl)
      | (exact fun _ h => by cases h)
  exact key s1 hm
theorem bd_ev (B : bd K V pE S (e :: es) p s c) (hp : pr pw K V e p = .inr p1) (hm : mi V e s = .inr s1) {h : am_H} (hc : CO (oE K P V sc ss cs b21 b15 S.1 c0 e p (c.1 8 4) (c.1 235 4) c.2.2.2.2.2.2) c c1) (HK : ∀ k : Nat, (k : Int) < S.1 254 39 → pr_cs K V (S.1 283 k).toNat (S.1 284 k)) (hV : ∀ i, i < 1000 → K i = 3 → 0 ≤ V i) : bd K V pE S es p1 s1 c1 ∧ mx s1.1 S.1 ∧ my s1.1 S.1 := by
  obtain ⟨⟨f1, f2⟩, ⟨Rv, Rm, Q, Bd, O⟩, Bw, ⟨RQ, Ro⟩, l6, l4⟩ := B
  obtain ⟨p1', a1, a2⟩ := gx_b_ok f1
  rw [hp] at a1; cases a1
  obtain ⟨s1', w1, w2⟩ := gx_b_ok f2
  rw [hm] at w1; cases w1
  obtain ⟨s1', w1', Rm1⟩ := mi_ev_ok hp Rm
  rw [hm] at w1'; cases w1'
  have h33 : 0 ≤ s.1 254 33 := Rv.1.2.2.2.1.1
  have Rv1 := rv_ev hp hm Rv
  have M1 := mx_run V es s1 S w2
  have et : e.1 = 24 ∨ e.1 = 30 → c.1 235 4 = s.1 254 50 := fun z => l6 (pr_body9 (show e.1 ≤ 34 by omega) hp)
  have Bw1 := bw_ev (P := P) (sc := sc) (ss := ss) (cs := cs) (b21 := b21) (b15 := b15) (c0 := c0) (h := S.1) (l := c.1 8 4) (t := c.1 235 4) hp hm h33 Bw M1 et
  have Y1 : my s1.1 S.1 := my_run S es a2 w2 Rv1.1.2.2.2.1.1 Bw1
  obtain ⟨-, c2, -, c4⟩ := hc
  rw [← c2] at Bw1
  rw [oE_t] at c4
  have m50 := mi_lab V e s s1 hm
  refine ⟨⟨⟨a2, w2⟩, ⟨Rv1, Rm1, pq_ev hp Q, pBd_ev hp Bd, po_ev hp O⟩, Bw1, ?_, ?_, ?_⟩, M1, Y1⟩
  · by_cases he : e.1 ≤ 34
    · have := (lE_ev (P := P) (sc := sc) (ss := ss) (cs := cs) (b21 := b21) (b15 := b15) (c0 := c0) he hp hm Rv Rm Rm1 M1 Y1 Bw RQ O HK hV (c.1 8 4) (c.1 235 4) et).2
      refine ⟨this, fun z => absurd (pz_ev he hp 9 (by decide)) (fun y => z ?_)⟩
      rw [y, pr_body9 he hp]
    · obtain ⟨⟨-, q2⟩, q3, -⟩ := pr_decl he hp
      have e0 : p.2.2.1 = [] := by
        by_cases z : p.1 9 = 6
        · exact (q3 z).2
        · exact Ro z
      rw [q2, mi_decl he hp hm]
      refine ⟨?_, fun _ => e0⟩
      rw [e0] at RQ ⊢
      cases hoc : s.2.2.2.2 with
      | nil => trivial
      | cons x l => rw [hoc] at RQ; exact RQ.elim
  · intro z
    rw [c4, m50]
    by_cases h1 : e.1 = 24 ∨ e.1 = 30
    · rw [if_pos h1, if_pos h1, et h1]
    · rw [if_neg h1, if_neg h1]
      by_cases he : e.1 ≤ 34
      · rw [if_neg (by omega), if_neg (by omega)]
        exact l6 (pr_body9 he hp)
      · have := (pr_decl he hp).2.2.1 z
        rw [if_pos this, if_neg (by omega)]
        have h9 : p.1 9 = 5 := by
          obtain ⟨n, a, b, d⟩ := e
          dsimp only at this
          subst this
          exact (pr_q_in hp).1.1
        exact (l4 (Or.inr h9)).symm
  · intro z
    have he : ¬ e.1 ≤ 34 := fun y => by
      have := pz_ev y hp 9 (by decide)
      have := pr_body9 y hp
      omega
    rw [m50, if_neg (by omega)]
    rcases (pr_decl he hp).2.2.2 z with ⟨z1, z2⟩ | z1
    · rw [if_neg z2]; exact l4 z1
    · rw [if_pos z1]
/-- from event to event -/
theorem tr_ind {Inv : pr_S → mi_S → ce_S → Prop} {c' : ce_S} (HK : ∀ k : Nat, (k : Int) < S.1 254 39 → pr_cs K V (S.1 283 k).toNat (S.1 284 k)) (hV : ∀ i, i < 1000 → K i = 3 → 0 ≤ V i)
    (step : ∀ (e : gx_V) (es : List gx_V) (p p1 : pr_S) (s s1 : mi_S) (c c1 : ce_S), bd K V pE S (e :: es) p s c → pr pw K V e p = .inr p1 → mi V e s = .inr s1 → CO (oE K P V sc ss cs b21 b15 S.1 c0 e p (c.1 8 4) (c.1 235 4) c.2.2.2.2.2.2) c c1 → bd K V pE S es p1 s1 c1 → mx s1.1 S.1 → my s1.1 S.1 → Inv p s c → Inv p1 s1 c1) :
    ∀ (es : List gx_V) {p : pr_S} {s : mi_S} {c : ce_S}, bd K V pE S es p s c → TR K P V sc ss cs b21 b15 S.1 c0 es p s c c' → Inv p s c → Inv pE S c'
  | [], p, s, c, B, T, I => by
    obtain ⟨⟨f1, f2⟩, -⟩ := B
    cases f1; cases f2; cases T
    exact I
  | e :: es, p, s, c, B, T, I => by
    obtain ⟨p1, s1, c1, h1, h2, h3, h4⟩ := T
    obtain ⟨B1, M1, Y1⟩ := bd_ev (h := S.1) B h1 h2 h3 HK hV
    exact tr_ind HK hV step es B1 h4 (step e es p p1 s s1 c c1 B h1 h2 h3 B1 M1 Y1 I)
end
