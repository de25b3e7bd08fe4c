/-! PURE LAYER, 90: the model's counts are the stream's -/
def rv (K : Nat → Int) (p : pr_S) (s : mi_S) : Prop := rt K s.1 ∧ (s.1 254 14 = (p.1 0 : Int) ∧ s.1 254 17 = (p.1 3 : Int) ∧ s.1 254 16 = (p.1 1 : Int) ∧ p.1 0 ≤ 12 ∧ p.1 3 ≤ 60 ∧ p.1 1 ≤ 12) ∧ ((2 ≤ p.1 9 → 1 ≤ p.1 0) ∧ (4 ≤ p.1 9 → 1 ≤ p.1 3)) ∧ ((s.2.1 = -1 ∨ ∃ u : Nat, s.2.1 = u ∧ u < 1000 ∧ K u ≠ 0) ∧ (p.1 11 = 1 → ∃ u : Nat, s.2.1 = u ∧ u < 1000 ∧ K u ≠ 0)) ∧
  ((1 ≤ p.1 0 → s.1 262 (p.1 0 - 1) = (p.1 2 : Int)) ∧ (1 ≤ p.1 3 → s.1 267 (p.1 3 - 1) = (p.1 4 : Int) ∧ s.1 268 (p.1 3 - 1) = (p.1 5 : Int)))
theorem mi_add_in {k a b t : Int} {g g1 : am_H} (h : mi_add k a b t g = .inr g1) : g1 = mi_put k a b t g := by
  unfold mi_add ce_q at h
  split at h
  · cases h; rfl
  · cases h
theorem mi_h_in {s s' : mi_S} {r : gx_R am_H} (h : mi_h s r = .inr s') : ∃ g1, r = .inr g1 ∧ s' = (g1, s.2) := by
  obtain ⟨g1, h1, h2⟩ := gx_b_ok h
  cases h2
  exact ⟨g1, h1, rfl⟩
theorem ce_q_in {α : Type} {p : Prop} [Decidable p] {x : gx_R α} {a : α} (h : ce_q p x = .inr a) : x = .inr a := by
  unfold ce_q at h
  split at h
  · exact h
  · cases h
/-- counts that bodies leave alone -/
abbrev pz (n : Nat) : Prop := n ≤ 5 ∨ n = 9 ∨ (11 ≤ n ∧ n ≤ 14) ∨ n = 17
theorem pz_u {f g : Nat → Nat} {k v : Nat} (h : ∀ n, pz n → f n = g n) (hk : ¬ pz k) : ∀ n, pz n → pu f k v n = g n := fun n hn => by
  rw [pu_n f k v n (fun e => hk (by rw [← e]; exact hn))]; exact h n hn
section
variable {K V : Nat → Int} {p p' : pr_S} {s : mi_S}
/-- in bodies: counts of tables of items and calls alone -/
def rb (g g' : am_H) : Prop := g' 254 14 = g 254 14 ∧ g' 254 17 = g 254 17 ∧ g' 254 16 = g 254 16 ∧ g' 262 = g 262 ∧ g' 267 = g 267 ∧ g' 268 = g 268
theorem rb.refl (g : am_H) : rb g g := ⟨rfl, rfl, rfl, rfl, rfl, rfl⟩
theorem rb.put {g g' : am_H} (r : rb g g') (k a b t : Int) : rb g (mi_put k a b t g') := ⟨by rw [mi_put_f _ _ _ _ _ _ (by decide)]; exact r.1, by rw [mi_put_f _ _ _ _ _ _ (by decide)]; exact r.2.1, by rw [mi_put_f _ _ _ _ _ _ (by decide)]; exact r.2.2.1, by rw [mi_put_c _ _ _ _ _ _ (by decide)]; exact r.2.2.2.1, by rw [mi_put_c _ _ _ _ _ _ (by decide)]; exact r.2.2.2.2.1, by rw [mi_put_c _ _ _ _ _ _ (by decide)]; exact r.2.2.2.2.2⟩
theorem rb.up {g g' : am_H} (r : rb g g') {a k : Nat} {v : Int} (h : a ≠ 254 ∧ a ≠ 262 ∧ a ≠ 267 ∧ a ≠ 268) : rb g (am_up g' a k v) := ⟨by rw [p_up_c _ _ _ _ _ (by omega)]; exact r.1, by rw [p_up_c _ _ _ _ _ (by omega)]; exact r.2.1, by rw [p_up_c _ _ _ _ _ (by omega)]; exact r.2.2.1, by rw [p_up_c _ _ _ _ _ (by omega)]; exact r.2.2.2.1, by rw [p_up_c _ _ _ _ _ (by omega)]; exact r.2.2.2.2.1, by rw [p_up_c _ _ _ _ _ (by omega)]; exact r.2.2.2.2.2⟩
theorem rb.upf {g g' : am_H} (r : rb g g') {k : Nat} {v : Int} (h : k ≠ 14 ∧ k ≠ 17 ∧ k ≠ 16) : rb g (am_up g' 254 k v) := ⟨by rw [p_up_n _ _ _ _ _ _ (Or.inr (by omega))]; exact r.1, by rw [p_up_n _ _ _ _ _ _ (Or.inr (by omega))]; exact r.2.1, by rw [p_up_n _ _ _ _ _ _ (Or.inr (by omega))]; exact r.2.2.1, by rw [p_up_c _ _ _ _ _ (by decide)]; exact r.2.2.2.1, by rw [p_up_c _ _ _ _ _ (by decide)]; exact r.2.2.2.2.1, by rw [p_up_c _ _ _ _ _ (by decide)]; exact r.2.2.2.2.2⟩
theorem rb.blk {g g' : am_H} (r : rb g g') (k : Nat) (a b c e : Int) : rb g (mi_blk k a b c e g') := ((((r.up (by decide)).up (by decide)).up (by decide)).up (by decide)).upf (by decide)
theorem rv.b (R : rv K p s) {g' : am_H} {bs : List (Int × Int × Int × Int)} {oc : List Int} (hp : ∀ n, pz n → p'.1 n = p.1 n) (ht : rt K g') (hb : rb s.1 g') : rv K p' (g', s.2.1, s.2.2.1, bs, oc) := by
  obtain ⟨r1, r2, r3, r4, r5⟩ := R
  unfold rv
  rw [hp 0 (by decide), hp 1 (by decide), hp 2 (by decide), hp 3 (by decide), hp 4 (by decide), hp 5 (by decide), hp 9 (by decide), hp 11 (by decide)]
  obtain ⟨b1, b2, b3, b4, b5, b6⟩ := hb
  refine ⟨ht, ?_, r3, r4, ?_⟩
  · show g' 254 14 = _ ∧ g' 254 17 = _ ∧ g' 254 16 = _ ∧ _
    rw [b1, b2, b3]; exact r2
  · show (_ → g' 262 _ = _) ∧ (_ → g' 267 _ = _ ∧ g' 268 _ = _)
    rw [b4, b5, b6]; exact r5
theorem rt.blk {g : am_H} (R : rt K g) (k : Nat) (a b c e : Int) : rt K (mi_blk k a b c e g) := ((((R.up (by decide) rfl).up (by decide) rfl).up (by decide) rfl).up (by decide) rfl).upf (by unfold mx_k; omega)
/-- in a body a sub is there -/
theorem rv.sb (R : rv K p s) (h : p.1 9 = 6) : 1 ≤ s.1 254 17 ∧ s.1 254 17 ≤ 60 := by
  obtain ⟨r1, r2, r3, r4, r5⟩ := R
  have := r3.2 (by omega)
  omega
theorem pr_tk2 {c : Nat → Nat} {x k : Int} (h : pr_t K c x k) : ∃ t : Nat, x = t ∧ t < 1000 ∧ K t = k := ⟨x.toNat, by have := h.1; omega, h.2.2.1, h.2.2.2⟩
theorem rv_mk {s' : mi_S} {c0 c1 c2 c3 c4 c5 c9 c11 : Nat} (e0 : p'.1 0 = c0) (e1 : p'.1 1 = c1) (e2 : p'.1 2 = c2) (e3 : p'.1 3 = c3) (e4 : p'.1 4 = c4) (e5 : p'.1 5 = c5) (e9 : p'.1 9 = c9) (e11 : p'.1 11 = c11) (h : rt K s'.1 ∧ (s'.1 254 14 = (c0 : Int) ∧ s'.1 254 17 = (c3 : Int) ∧ s'.1 254 16 = (c1 : Int) ∧ c0 ≤ 12 ∧ c3 ≤ 60 ∧ c1 ≤ 12) ∧ ((2 ≤ c9 → 1 ≤ c0) ∧ (4 ≤ c9 → 1 ≤ c3)) ∧ ((s'.2.1 = -1 ∨ ∃ u : Nat, s'.2.1 = u ∧ u < 1000 ∧ K u ≠ 0) ∧ (c11 = 1 → ∃ u : Nat, s'.2.1 = u ∧ u < 1000 ∧ K u ≠ 0)) ∧
  ((1 ≤ c0 → s'.1 262 (c0 - 1) = (c2 : Int)) ∧ (1 ≤ c3 → s'.1 267 (c3 - 1) = (c4 : Int) ∧ s'.1 268 (c3 - 1) = (c5 : Int)))) : rv K p' s' := by
  unfold rv
  rw [e0, e1, e2, e3, e4, e5, e9, e11]
  exact h
theorem rv_ev {e : gx_V} {s' : mi_S} (h : pr pw K V e p = .inr p') (hm : mi V e s = .inr s') (R : rv K p s) : rv K p' s' := by
  obtain ⟨n, x, y, z⟩ := e
  obtain ⟨g, ty, so, bs, oc⟩ := s
  have O := p.1 9
  -- items
  have one : ∀ {k a b t : Int} {c' : Nat → Nat} {ec : Nat → Nat}, p.1 9 = 6 → ((k = 3 ∨ k = 4 ∨ k = 13) → ∃ u : Nat, t = u ∧ u < 1000 ∧ K u ≠ 0 ∧ (k ≠ 3 → K u = 2)) → p' = (c', p.2.1, p.2.2.1, ec) → (∀ n, pz n → c' n = p.1 n) → mi_h (g, ty, so, bs, oc) (mi_add k a b t g) = .inr s' → rv K p' s' := by
    intro k a b t c' ec h9 hk hp hc hm
    obtain ⟨g1, h1, h2⟩ := mi_h_in hm
    rw [h2, mi_add_in h1]
    exact R.b (by rw [hp]; exact hc) (R.1.put _ _ _ _ (R.sb h9) hk) ((rb.refl g).put _ _ _ _)
  have two : ∀ {k a b t k2 a2 b2 t2 : Int} {c' : Nat → Nat} {ec : Nat → Nat} {bl : List Nat} {ocl : List (Int × Int × Nat)}, p.1 9 = 6 → ((k = 3 ∨ k = 4 ∨ k = 13) → ∃ u : Nat, t = u ∧ u < 1000 ∧ K u ≠ 0 ∧ (k ≠ 3 → K u = 2)) → ¬ (k2 = 3 ∨ k2 = 4 ∨ k2 = 13) → p' = (c', bl, ocl, ec) → (∀ n, pz n → c' n = p.1 n) → mi_h (g, ty, so, bs, oc) (gx_b (mi_add k a b t g) (mi_add k2 a2 b2 t2)) = .inr s' → rv K p' s' := by
    intro k a b t k2 a2 b2 t2 c' ec bl ocl h9 hk hk2 hp hc hm
    obtain ⟨g1, h1, h2⟩ := mi_h_in hm
    obtain ⟨g3, h3, h4⟩ := gx_b_ok h1
    have r1 := (rb.refl g).put k a b t
    have S := R.sb h9
    rw [h2, mi_add_in h4, mi_add_in h3]
    exact R.b (by rw [hp]; exact hc) ((R.1.put _ _ _ _ S hk).put0 _ _ _ _ (by rw [r1.2.1]; exact S) hk2) (r1.put _ _ _ _)
  have id6 : ∀ n, pz n → p.1 n = p.1 n := fun _ _ => rfl
  have p6 : ∀ v n, pz n → pu p.1 6 v n = p.1 n := fun v => pz_u id6 (by decide)
  have p10 : ∀ v n, pz n → pu p.1 10 v n = p.1 n := fun v => pz_u id6 (by decide)
  have p610 : ∀ v w n, pz n → pu (pu p.1 6 v) 10 w n = p.1 n := fun v w => pz_u (p6 v) (by decide)
  have p616 : ∀ v w n, pz n → pu (pu p.1 6 v) 16 w n = p.1 n := fun v w => pz_u (p6 v) (by decide)
  have p1016 : ∀ v w n, pz n → pu (pu p.1 10 v) 16 w n = p.1 n := fun v w => pz_u (p10 v) (by decide)
  have p1015 : ∀ v w n, pz n → pu (pu p.1 10 v) 15 w n = p.1 n := fun v w => pz_u (p10 v) (by decide)
  have p61516 : ∀ v w u n, pz n → pu (pu (pu p.1 6 v) 15 w) 16 u n = p.1 n := fun v w u => pz_u (pz_u (p6 v) (by decide)) (by decide)
  unfold pr at h
  split at h
  all_goals first
    | (cases h; done)
    | (rename_i hn; have hn : n = _ := hn; subst hn)
  · obtain ⟨hc, hb, hp⟩ := pr_q_in h
    exact one hc.1.1 (by omega) hp (p6 _) hm
  · obtain ⟨hc, hb, hp⟩ := pr_q_in h
    exact one hc.1.1 (by omega) hp (p6 _) hm
  · obtain ⟨hc, hb, hp⟩ := pr_q_in h
    exact one hc.1.1 (by omega) hp (p6 _) hm
  · obtain ⟨hc, hb, hp⟩ := pr_q_in h
    obtain ⟨t, t1, t2, t3⟩ := pr_tk2 hc.2.1
    exact one hc.1.1 (fun _ => ⟨t, t1, t2, by omega, fun z => absurd rfl z⟩) hp (p610 _ _) hm
  · obtain ⟨hc, hb, hp⟩ := pr_q_in h
    exact one hc.1.1 (by omega) hp (pz_u (pz_u (p6 _) (by decide)) (by decide)) hm
  · obtain ⟨hc, hb, hp⟩ := pr_q_in h
    obtain ⟨t, t1, t2, t3⟩ := pr_tk2 hc.2.1
    exact one hc.1.1 (fun _ => ⟨t, t1, t2, by omega, fun _ => t3⟩) hp (p610 _ _) hm
  · obtain ⟨hc, hb, hp⟩ := pr_q_in h
    exact one hc.1.1 (by omega) hp (p6 _) hm
  · obtain ⟨hc, hb, hp⟩ := pr_q_in h
    exact one hc.1.1 (by omega) hp (p6 _) hm
  · obtain ⟨hc, hb, hp⟩ := pr_q_in h
    exact one hc.1.1 (by omega) hp id6 hm
  · obtain ⟨hc, hb, hp⟩ := pr_q_in h
    exact one hc.1.1 (by omega) hp id6 hm
  · -- 11
    obtain ⟨hc, hb, hp⟩ := pr_q_in h
    have hm := ce_q_in (show ce_q (g 254 39 < 990) (gx_b (mi_add 9 (g 254 39) 0 0 (mi_call (if z = 1 then x else -1) y g)) fun g1 => (.inr (g1, ty, so, bs, g 254 39 :: oc) : gx_R mi_S)) = .inr s' from hm)
    obtain ⟨g1, h1, h2⟩ := gx_b_ok hm
    cases h2
    rw [mi_add_in h1]
    obtain ⟨⟨h9, -⟩, c1, c2, c3⟩ := hc
    have S := R.sb h9
    have cb : rb g (mi_call (if z = 1 then x else -1) y g) := ((((rb.refl g).upf (by decide)).up (by decide)).up (by decide)).up (by decide) |>.up (by decide)
    refine R.b (by rw [hp]; exact p10 _) ((R.1.call _ _ S (pr_tk2 c2) ?_).put0 _ _ _ _ (by rw [cb.2.1]; exact S) (by omega)) (cb.put _ _ _ _)
    split
    · exact Or.inr (pr_tk2 c1)
    · exact Or.inl rfl
  · -- 12
    split at h
    · cases h
    · obtain ⟨hc, hb, hp⟩ := pr_q_in h
      cases oc with
      | nil => cases hm
      | cons c l =>
        obtain ⟨g1, h1, h2⟩ := gx_b_ok (show (gx_b (mi_add 10 c 0 0 (am_up g 284 c.toNat z)) fun g1 => (.inr (g1, ty, so, bs, l) : gx_R mi_S)) = .inr s' from hm)
        cases h2
        rw [mi_add_in h1]
        have S := R.sb hc.1.1
        have cb : rb g (am_up g 284 c.toNat z) := (rb.refl g).up (by decide)
        exact R.b (by rw [hp]; exact p6 _) ((R.1.up (by decide) rfl).put0 _ _ _ _ (by rw [cb.2.1]; exact S) (by omega)) (cb.put _ _ _ _)
  · obtain ⟨hc, hb, hp⟩ := pr_q_in h
    exact one hc.1 (by omega) hp (p1016 _ _) hm
  · obtain ⟨hc, hb, hp⟩ := pr_q_in h
    cases hm
    exact R.b (by rw [hp]; exact p1015 _ _) R.1 (rb.refl g)
  · obtain ⟨hc, hb, hp⟩ := pr_q_in h
    have x0 : (0 : Int) ≤ x := hc.2.2.2.1
    exact two hc.1.1 (fun _ => ⟨x.toNat, (Int.toNat_of_nonneg x0).symm, hc.2.2.2.2.1, by have := hc.2.2.2.2.2.1; have : K x.toNat = 2 := this; omega, fun _ => hc.2.2.2.2.2.1⟩) (by omega) hp (p61516 _ _ _) hm
  · obtain ⟨hc, hb, hp⟩ := pr_q_in h
    exact two hc.1.1 (by omega) (by omega) hp (p616 _ _) hm
  · -- 24
    obtain ⟨hc, hb, hp⟩ := pr_q_in h
    have hm := ce_q_in (show ce_q (0 ≤ g 254 50 ∧ g 254 50 < 99990) (.inr (am_up g 254 50 (g 254 50 + 2), ty, so, (1, g 254 50, 0, g 254 33) :: bs, oc) : gx_R mi_S) = .inr s' from hm)
    cases hm
    exact R.b (by rw [hp]; exact id6) (R.1.upf (by unfold mx_k; omega)) ((rb.refl g).upf (by decide))
  · -- 25
    obtain ⟨hc, hb, hp⟩ := pr_q_in h
    have S := R.sb hc.1.1
    cases bs with
    | nil => cases hm
    | cons b l =>
      have hm := ce_q_in (show ce_q (l.length < 40) (gx_b (mi_add 15 0 b.2.1 0 g) fun g1 => (.inr (mi_blk l.length 1 b.2.1 (g 254 33) b.2.2.2 g1, ty, so, (1, b.2.1, g 254 33, b.2.2.2) :: l, oc) : gx_R mi_S)) = .inr s' from hm)
      obtain ⟨g1, h1, h2⟩ := gx_b_ok hm
      cases h2
      rw [mi_add_in h1]
      exact R.b (by rw [hp]; exact p616 _ _) (rt.blk (R.1.put0 _ _ _ _ S (by omega)) _ _ _ _ _) (((rb.refl g).put _ _ _ _).blk _ _ _ _ _)
  · -- 26
    obtain ⟨hc, hb, hp⟩ := pr_q_in h
    have S := R.sb hc.1
    cases bs with
    | nil => cases hm
    | cons b l =>
      obtain ⟨g1, h1, h2⟩ := gx_b_ok (show (gx_b (mi_add 16 0 (b.2.1 + 1) 0 (am_up g 254 55 (l.length : Int))) fun g1 => gx_b (mi_add 20 b.2.1 0 0 g1) fun g2 => (.inr (mi_blk l.length 2 b.2.1 (g 254 33) 0 (am_up g2 278 b.2.2.1.toNat (g1 254 33)), ty, so, (2, b.2.1, g 254 33, 0) :: l, oc) : gx_R mi_S)) = .inr s' from hm)
      obtain ⟨g2, h3, h4⟩ := gx_b_ok h2
      cases h4
      have e1 := mi_add_in h1
      have e2 := mi_add_in h3
      subst e2
      subst e1
      have b1 : rb g (am_up g 254 55 (l.length : Int)) := (rb.refl g).upf (by decide)
      have b2 := b1.put 16 0 (b.2.1 + 1) 0
      have b3 := b2.put 20 b.2.1 0 0
      exact R.b (by rw [hp]; exact id6) (rt.blk ((((R.1.upf (by unfold mx_k; omega)).put0 _ _ _ _ (by rw [b1.2.1]; exact S) (by omega)).put0 _ _ _ _ (by rw [b2.2.1]; exact S) (by omega)).up (by decide) rfl) _ _ _ _ _) ((b3.up (by decide)).blk _ _ _ _ _)
  · -- 27
    obtain ⟨hc, hb, hp⟩ := pr_q_in h
    have S := R.sb hc.1
    cases bs with
    | nil => cases hm
    | cons b l =>
      obtain ⟨g1, h1, h2⟩ := gx_b_ok (show (gx_b (mi_add 20 b.2.1 0 0 (am_up g 254 55 (l.length : Int))) fun g1 => gx_b (mi_add 12 0 0 0 (am_up g1 278 b.2.2.1.toNat (g 254 33))) fun g2 => (.inr (g2, ty, so, l, oc) : gx_R mi_S)) = .inr s' from hm)
      obtain ⟨g2, h3, h4⟩ := gx_b_ok h2
      cases h4
      have e1 := mi_add_in h1
      have e2 := mi_add_in h3
      subst e2
      subst e1
      have b1 : rb g (am_up g 254 55 (l.length : Int)) := (rb.refl g).upf (by decide)
      have b2 := (b1.put 20 b.2.1 0 0).up (a := 278) (k := b.2.2.1.toNat) (v := g 254 33) (by decide)
      exact R.b (by rw [hp]; exact id6) ((((R.1.upf (by unfold mx_k; omega)).put0 _ _ _ _ (by rw [b1.2.1]; exact S) (by omega)).up (by decide) rfl).put0 _ _ _ _ (by rw [b2.2.1]; exact S) (by omega)) (b2.put _ _ _ _)
  · -- 28
    obtain ⟨hc, hb, hp⟩ := pr_q_in h
    have S := R.sb hc.1
    cases bs with
    | nil => cases hm
    | cons b l =>
      obtain ⟨g1, h1, h2⟩ := gx_b_ok (show (gx_b (mi_add 20 (b.2.1 + 1) 0 0 (am_up g 254 55 (l.length : Int))) fun g1 => gx_b (mi_add 12 0 0 0 (am_up g1 278 b.2.2.1.toNat (g 254 33))) fun g2 => (.inr (g2, ty, so, l, oc) : gx_R mi_S)) = .inr s' from hm)
      obtain ⟨g2, h3, h4⟩ := gx_b_ok h2
      cases h4
      have e1 := mi_add_in h1
      have e2 := mi_add_in h3
      subst e2
      subst e1
      have b1 : rb g (am_up g 254 55 (l.length : Int)) := (rb.refl g).upf (by decide)
      have b2 := (b1.put 20 (b.2.1 + 1) 0 0).up (a := 278) (k := b.2.2.1.toNat) (v := g 254 33) (by decide)
      exact R.b (by rw [hp]; exact id6) ((((R.1.upf (by unfold mx_k; omega)).put0 _ _ _ _ (by rw [b1.2.1]; exact S) (by omega)).up (by decide) rfl).put0 _ _ _ _ (by rw [b2.2.1]; exact S) (by omega)) (b2.put _ _ _ _)
  · -- 30
    obtain ⟨hc, hb, hp⟩ := pr_q_in h
    have S := R.sb hc.1.1
    have hm := ce_q_in (show ce_q (0 ≤ g 254 50 ∧ g 254 50 < 99990) (gx_b (mi_add 20 (g 254 50) 0 0 (am_up g 254 50 (g 254 50 + 2))) fun g1 => gx_b (mi_add 17 0 0 0 g1) fun g2 => (.inr (g2, ty, so, (3, g 254 50, 0, g 254 33) :: bs, oc) : gx_R mi_S)) = .inr s' from hm)
    obtain ⟨g1, h1, h2⟩ := gx_b_ok hm
    obtain ⟨g2, h3, h4⟩ := gx_b_ok h2
    cases h4
    have e1 := mi_add_in h1
    have e2 := mi_add_in h3
    subst e2
    subst e1
    have b1 : rb g (am_up g 254 50 (g 254 50 + 2)) := (rb.refl g).upf (by decide)
    have b2 := b1.put 20 (g 254 50) 0 0
    exact R.b (by rw [hp]; exact id6) (((R.1.upf (by unfold mx_k; omega)).put0 _ _ _ _ (by rw [b1.2.1]; exact S) (by omega)).put0 _ _ _ _ (by rw [b2.2.1]; exact S) (by omega)) (b2.put _ _ _ _)
  · -- 31
    obtain ⟨hc, hb, hp⟩ := pr_q_in h
    have S := R.sb hc.1.1
    cases bs with
    | nil => cases hm
    | cons b l =>
      have hm := ce_q_in (show ce_q (l.length < 40) (gx_b (mi_add 15 0 (b.2.1 + 1) 0 g) fun g1 => (.inr (mi_blk l.length 3 b.2.1 (g 254 33) b.2.2.2 g1, ty, so, (3, b.2.1, g 254 33, b.2.2.2) :: l, oc) : gx_R mi_S)) = .inr s' from hm)
      obtain ⟨g1, h1, h2⟩ := gx_b_ok hm
      cases h2
      rw [mi_add_in h1]
      exact R.b (by rw [hp]; exact p616 _ _) (rt.blk (R.1.put0 _ _ _ _ S (by omega)) _ _ _ _ _) (((rb.refl g).put _ _ _ _).blk _ _ _ _ _)
  · -- 32
    obtain ⟨hc, hb, hp⟩ := pr_q_in h
    have S := R.sb hc.1
    cases bs with
    | nil => cases hm
    | cons b l =>
      obtain ⟨g1, h1, h2⟩ := gx_b_ok (show (gx_b (mi_add 16 b.2.2.2 b.2.1 0 (am_up g 254 55 (l.length : Int))) fun g1 => gx_b (mi_add 20 (b.2.1 + 1) 0 0 g1) fun g2 => gx_b (mi_add 12 0 0 0 (am_up g2 278 b.2.2.1.toNat (g1 254 33))) fun g3 => (.inr (g3, ty, so, l, oc) : gx_R mi_S)) = .inr s' from hm)
      obtain ⟨g2, h3, h4⟩ := gx_b_ok h2
      obtain ⟨g3, h5, h6⟩ := gx_b_ok h4
      cases h6
      have e1 := mi_add_in h1
      have e2 := mi_add_in h3
      have e3 := mi_add_in h5
      subst e3
      subst e2
      subst e1
      have b1 : rb g (am_up g 254 55 (l.length : Int)) := (rb.refl g).upf (by decide)
      have b2 := b1.put 16 b.2.2.2 b.2.1 0
      have b3 := (b2.put 20 (b.2.1 + 1) 0 0).up (a := 278) (k := b.2.2.1.toNat) (v := mi_put 16 b.2.2.2 b.2.1 0 (am_up g 254 55 (l.length : Int)) 254 33) (by decide)
      exact R.b (by rw [hp]; exact id6) (((((R.1.upf (by unfold mx_k; omega)).put0 _ _ _ _ (by rw [b1.2.1]; exact S) (by omega)).put0 _ _ _ _ (by rw [b2.2.1]; exact S) (by omega)).up (by decide) rfl).put0 _ _ _ _ (by rw [b3.2.1]; exact S) (by omega)) (b3.put _ _ _ _)
  · obtain ⟨hc, hb, hp⟩ := pr_q_in h
    exact one hc.1.1 (by omega) hp (p616 _ _) hm
  · obtain ⟨hc, hb, hp⟩ := pr_q_in h
    exact two hc.1.1 (by omega) (by omega) hp (p616 _ _) hm
  · -- 39
    obtain ⟨hc, hb, hp⟩ := pr_q_in h
    cases hm
    obtain ⟨r1, r2, r3, r4, r5⟩ := R
    rw [hp]
    refine ⟨r1, ?_, ⟨fun z => ?_, fun z => ?_⟩, ?_, ?_⟩
    · show _ = (pu p.1 9 1 0 : Int) ∧ _ = (pu p.1 9 1 3 : Int) ∧ _ = (pu p.1 9 1 1 : Int) ∧ pu p.1 9 1 0 ≤ 12 ∧ pu p.1 9 1 3 ≤ 60 ∧ pu p.1 9 1 1 ≤ 12
      rw [pu_n _ _ _ _ (by decide), pu_n _ _ _ _ (by decide), pu_n _ _ _ _ (by decide)]; exact r2
    · have z : 2 ≤ pu p.1 9 1 9 := z
      rw [pu_s] at z; omega
    · have z : 4 ≤ pu p.1 9 1 9 := z
      rw [pu_s] at z; omega
    · show _ ∧ (pu p.1 9 1 11 = 1 → _)
      rw [pu_n _ _ _ _ (by decide)]; exact r4
    · show (1 ≤ pu p.1 9 1 0 → _ = (pu p.1 9 1 2 : Int)) ∧ (1 ≤ pu p.1 9 1 3 → _ = (pu p.1 9 1 4 : Int) ∧ _ = (pu p.1 9 1 5 : Int))
      rw [pu_n _ _ _ _ (by decide), pu_n _ _ _ _ (by decide), pu_n _ _ _ _ (by decide), pu_n _ _ _ _ (by decide), pu_n _ _ _ _ (by decide)]; exact r5
  · -- 40
    obtain ⟨hc, hb, hp⟩ := pr_q_in h
    have hm : (.inr (mi_cls x g, ty, so, bs, oc) : gx_R mi_S) = .inr s' := hm
    cases hm
    obtain ⟨r1, ⟨a1, a2, a3, a4, a5, a6⟩, r3, r4, r5, r6⟩ := R
    have a1 : g 254 14 = (p.1 0 : Int) := a1
    have n14 : (g 254 14).toNat = p.1 0 := by omega
    refine rv_mk (c0 := p.1 0 + 1) (c1 := p.1 1) (c2 := 0) (c3 := p.1 3) (c4 := p.1 4) (c5 := p.1 5) (c9 := 2) (c11 := p.1 11) (by rw [hp]; simp [pu]) (by rw [hp]; simp [pu]) (by rw [hp]; simp [pu]) (by rw [hp]; simp [pu]) (by rw [hp]; simp [pu]) (by rw [hp]; simp [pu]) (by rw [hp]; simp [pu]) (by rw [hp]; simp [pu]) ⟨r1.cls x (pr_tk2 hc.2.2), ⟨?_, ?_, ?_, by have := hc.2.1; omega, a5, a6⟩, ⟨fun _ => by omega, fun z => by omega⟩, r4, fun _ => ?_, fun z => ?_⟩
    · show mi_cls x g 254 14 = _; unfold mi_cls; simp [p_up]; omega
    · show mi_cls x g 254 17 = _; unfold mi_cls; simp [p_up]; exact a2
    · show mi_cls x g 254 16 = _; unfold mi_cls; simp [p_up]; exact a3
    · show mi_cls x g 262 (p.1 0 + 1 - 1) = _; unfold mi_cls; rw [n14]; simp [p_up]
    · show mi_cls x g 267 _ = _ ∧ mi_cls x g 268 _ = _; unfold mi_cls; simp [p_up]; exact r6 z
  · -- 38
    obtain ⟨hc, hb, hp⟩ := pr_q_in h
    cases hm
    obtain ⟨r1, r2, r3, r4, r5, r6⟩ := R
    exact rv_mk (c0 := p.1 0) (c1 := p.1 1) (c2 := p.1 2) (c3 := p.1 3) (c4 := p.1 4) (c5 := p.1 5) (c9 := p.1 9) (c11 := p.1 11) (by rw [hp]; simp [pu]) (by rw [hp]; simp [pu]) (by rw [hp]; simp [pu]) (by rw [hp]; simp [pu]) (by rw [hp]; simp [pu]) (by rw [hp]; simp [pu]) (by rw [hp]; simp [pu]) (by rw [hp]; simp [pu]) ⟨r1, r2, r3, r4, r5, r6⟩
  · -- 41
    obtain ⟨hc, hb, hp⟩ := pr_q_in h
    cases hm
    obtain ⟨r1, r2, r3, r4, r5, r6⟩ := R
    have tk : ∃ u : Nat, x = u ∧ u < 1000 ∧ K u ≠ 0 := by
      rcases hc.2.1 with z | z
      · obtain ⟨t, t1, t2, t3⟩ := pr_tk2 z; exact ⟨t, t1, t2, by omega⟩
      · obtain ⟨t, t1, t2, t3⟩ := pr_tk2 z; exact ⟨t, t1, t2, by omega⟩
    exact rv_mk (c0 := p.1 0) (c1 := p.1 1) (c2 := p.1 2) (c3 := p.1 3) (c4 := p.1 4) (c5 := p.1 5) (c9 := p.1 9) (c11 := 1) (by rw [hp]; simp [pu]) (by rw [hp]; simp [pu]) (by rw [hp]; simp [pu]) (by rw [hp]; simp [pu]) (by rw [hp]; simp [pu]) (by rw [hp]; simp [pu]) (by rw [hp]; simp [pu]) (by rw [hp]; simp [pu]) ⟨r1, r2, r3, ⟨Or.inr tk, fun _ => tk⟩, r5, r6⟩
  · -- 42
    obtain ⟨hc, hb, hp⟩ := pr_q_in h
    have hm := ce_q_in hm
    obtain ⟨r1, ⟨a1, a2, a3, a4, a5, a6⟩, r3, r4, r5, r6⟩ := R
    have a1 : g 254 14 = (p.1 0 : Int) := a1
    have c1 : 1 ≤ p.1 0 := r3.1 (by have := hc.1; omega)
    have n14 : (g 254 14 - 1).toNat = p.1 0 - 1 := by omega
    have r5 := r5 c1
    have r5 : g 262 (p.1 0 - 1) = (p.1 2 : Int) := r5
    have tk := r4.2 hc.2.2.2.1
    by_cases hy : y = 1
    · have hm : (if y = 1 then (.inr (am_up (mi_dec (-1) 1 ty x (g 262 (g 254 14 - 1).toNat) (g 262 (g 254 14 - 1).toNat) g) 262 (g 254 14 - 1).toNat (g 262 (g 254 14 - 1).toNat + 1), ty, so, bs, oc) : gx_R mi_S) else _) = .inr s' := hm
      rw [if_pos hy, n14] at hm
      cases hm
      refine rv_mk (c0 := p.1 0) (c1 := p.1 1) (c2 := p.1 2 + 1) (c3 := p.1 3) (c4 := p.1 4) (c5 := p.1 5) (c9 := p.1 9) (c11 := p.1 11) (by rw [hp]; simp [pu, hy]) (by rw [hp]; simp [pu, hy]) (by rw [hp]; simp [pu, hy]) (by rw [hp]; simp [pu, hy]) (by rw [hp]; simp [pu, hy]) (by rw [hp]; simp [pu, hy]) (by rw [hp]; simp [pu, hy]) (by rw [hp]; simp [pu, hy]) ⟨(r1.dec _ _ _ _ _ _ (pr_tk2 hc.2.1) tk).up (by decide) rfl, ⟨?_, ?_, ?_, a4, a5, a6⟩, r3, r4, fun _ => ?_, fun z => ?_⟩
      · dsimp only; rw [p_up_c _ _ _ _ _ (by decide), mi_dec_n _ _ _ _ _ _ _ _ _ (by omega) (by omega)]; exact a1
      · dsimp only; rw [p_up_c _ _ _ _ _ (by decide), mi_dec_n _ _ _ _ _ _ _ _ _ (by omega) (by omega)]; exact a2
      · dsimp only; rw [p_up_c _ _ _ _ _ (by decide), mi_dec_n _ _ _ _ _ _ _ _ _ (by omega) (by omega)]; exact a3
      · dsimp only; rw [p_up_s]; omega
      · dsimp only; rw [p_up_c _ _ _ _ _ (by decide), p_up_c _ _ _ _ _ (by decide), mi_dec_n _ _ _ _ _ _ _ _ _ (by omega) (by omega), mi_dec_n _ _ _ _ _ _ _ _ _ (by omega) (by omega)]; exact r6 z
    · have hm : (if y = 1 then _ else (.inr (am_up (am_up (mi_dec (-1) 0 ty x (g 254 60) (g 254 16) g) 254 16 (g 254 16 + 1)) 254 60 (g 254 60 + 1), ty, so, bs, oc) : gx_R mi_S)) = .inr s' := hm
      rw [if_neg hy] at hm
      cases hm
      have h12 : p.1 1 < 12 := by
        rcases hc.2.2.1 with z | z
        · exact absurd z.1 hy
        · exact z.2
      have a3 : g 254 16 = (p.1 1 : Int) := a3
      refine rv_mk (c0 := p.1 0) (c1 := p.1 1 + 1) (c2 := p.1 2) (c3 := p.1 3) (c4 := p.1 4) (c5 := p.1 5) (c9 := p.1 9) (c11 := p.1 11) (by rw [hp]; simp [pu, hy]) (by rw [hp]; simp [pu, hy]) (by rw [hp]; simp [pu, hy]) (by rw [hp]; simp [pu, hy]) (by rw [hp]; simp [pu, hy]) (by rw [hp]; simp [pu, hy]) (by rw [hp]; simp [pu, hy]) (by rw [hp]; simp [pu, hy]) ⟨((r1.dec _ _ _ _ _ _ (pr_tk2 hc.2.1) tk).upf (by unfold mx_k; omega)).upf (by unfold mx_k; omega), ⟨?_, ?_, ?_, a4, a5, by omega⟩, r3, r4, fun _ => ?_, fun z => ?_⟩
      · dsimp only; rw [p_up_n _ _ _ _ _ _ (Or.inr (by decide)), p_up_n _ _ _ _ _ _ (Or.inr (by decide)), mi_dec_n _ _ _ _ _ _ _ _ _ (by omega) (by omega)]; exact a1
      · dsimp only; rw [p_up_n _ _ _ _ _ _ (Or.inr (by decide)), p_up_n _ _ _ _ _ _ (Or.inr (by decide)), mi_dec_n _ _ _ _ _ _ _ _ _ (by omega) (by omega)]; exact a2
      · dsimp only; rw [p_up_n _ _ _ _ _ _ (Or.inr (by decide)), p_up_s]; omega
      · dsimp only; rw [p_up_c _ _ _ _ _ (by decide), p_up_c _ _ _ _ _ (by decide), mi_dec_n _ _ _ _ _ _ _ _ _ (by omega) (by omega)]; exact r5
      · dsimp only; rw [p_up_c _ _ _ _ _ (by decide), p_up_c _ _ _ _ _ (by decide), p_up_c _ _ _ _ _ (by decide), p_up_c _ _ _ _ _ (by decide), mi_dec_n _ _ _ _ _ _ _ _ _ (by omega) (by omega), mi_dec_n _ _ _ _ _ _ _ _ _ (by omega) (by omega)]; exact r6 z
  · -- 43
    obtain ⟨hc, hb, hp⟩ := pr_q_in h
    have hc : p.1 9 = 2 := hc.1
    cases hm
    obtain ⟨r1, r2, r3, r4, r5, r6⟩ := R
    exact rv_mk (c0 := p.1 0) (c1 := p.1 1) (c2 := p.1 2) (c3 := p.1 3) (c4 := p.1 4) (c5 := p.1 5) (c9 := 3) (c11 := p.1 11) (by rw [hp]; simp [pu]) (by rw [hp]; simp [pu]) (by rw [hp]; simp [pu]) (by rw [hp]; simp [pu]) (by rw [hp]; simp [pu]) (by rw [hp]; simp [pu]) (by rw [hp]; simp [pu]) (by rw [hp]; simp [pu]) ⟨r1, r2, ⟨fun _ => r3.1 (by omega), fun z => by omega⟩, r4, r5, r6⟩
  · -- 44
    obtain ⟨hc, hb, hp⟩ := pr_q_in h
    cases hm
    obtain ⟨r1, r2, r3, r4, r5, r6⟩ := R
    exact rv_mk (c0 := p.1 0) (c1 := p.1 1) (c2 := p.1 2) (c3 := p.1 3) (c4 := p.1 4) (c5 := p.1 5) (c9 := p.1 9) (c11 := 0) (by rw [hp]; simp [pu]) (by rw [hp]; simp [pu]) (by rw [hp]; simp [pu]) (by rw [hp]; simp [pu]) (by rw [hp]; simp [pu]) (by rw [hp]; simp [pu]) (by rw [hp]; simp [pu]) (by rw [hp]; simp [pu]) ⟨r1, r2, r3, ⟨Or.inl rfl, fun z => by omega⟩, r5, r6⟩
  · -- 45
    obtain ⟨hc, hb, hp⟩ := pr_q_in h
    have hm : (.inr (mi_sub so x ty g, ty, so, bs, oc) : gx_R mi_S) = .inr s' := hm
    cases hm
    obtain ⟨r1, ⟨a1, a2, a3, a4, a5, a6⟩, r3, r4, r5, r6⟩ := R
    have a1 : g 254 14 = (p.1 0 : Int) := a1
    have a2 : g 254 17 = (p.1 3 : Int) := a2
    have c1 : 1 ≤ p.1 0 := r3.1 (by have := hc.1; omega)
    have n17 : (g 254 17).toNat = p.1 3 := by omega
    refine rv_mk (c0 := p.1 0) (c1 := p.1 1) (c2 := p.1 2) (c3 := p.1 3 + 1) (c4 := 0) (c5 := 0) (c9 := 4) (c11 := p.1 11) (by rw [hp]; simp [pu]) (by rw [hp]; simp [pu]) (by rw [hp]; simp [pu]) (by rw [hp]; simp [pu]) (by rw [hp]; simp [pu]) (by rw [hp]; simp [pu]) (by rw [hp]; simp [pu]) (by rw [hp]; simp [pu]) ⟨r1.sub so x ty (by show 1 ≤ g 254 14; omega) (pr_tk2 hc.2.2) r4.1, ⟨?_, ?_, ?_, a4, by have := hc.2.1; omega, a6⟩, ⟨fun _ => c1, fun _ => by omega⟩, r4, fun z => ?_, fun _ => ?_⟩
    · show mi_sub so x ty g 254 14 = _; unfold mi_sub; simp [p_up]; exact a1
    · show mi_sub so x ty g 254 17 = _; unfold mi_sub; simp [p_up]; omega
    · show mi_sub so x ty g 254 16 = _; unfold mi_sub; simp [p_up]; exact a3
    · show mi_sub so x ty g 262 _ = _; unfold mi_sub; simp [p_up]; exact r5 z
    · show mi_sub so x ty g 267 (p.1 3 + 1 - 1) = _ ∧ mi_sub so x ty g 268 (p.1 3 + 1 - 1) = _; unfold mi_sub; rw [n17]; simp [p_up]
  · -- 51
    obtain ⟨hc, hb, hp⟩ := pr_q_in h
    cases hm
    obtain ⟨r1, r2, r3, r4, r5, r6⟩ := R
    exact rv_mk (c0 := p.1 0) (c1 := p.1 1) (c2 := p.1 2) (c3 := p.1 3) (c4 := p.1 4) (c5 := p.1 5) (c9 := p.1 9) (c11 := p.1 11) (by rw [hp]; simp [pu]) (by rw [hp]; simp [pu]) (by rw [hp]; simp [pu]) (by rw [hp]; simp [pu]) (by rw [hp]; simp [pu]) (by rw [hp]; simp [pu]) (by rw [hp]; simp [pu]) (by rw [hp]; simp [pu]) ⟨r1, r2, r3, r4, r5, r6⟩
  · -- 46
    obtain ⟨hc, hb, hp⟩ := pr_q_in h
    have hm := ce_q_in hm
    obtain ⟨r1, ⟨a1, a2, a3, a4, a5, a6⟩, r3, r4, r5, r6⟩ := R
    have a2 : g 254 17 = (p.1 3 : Int) := a2
    have c3 : 1 ≤ p.1 3 := r3.2 (by have := hc.1; omega)
    have n17 : (g 254 17 - 1).toNat = p.1 3 - 1 := by omega
    have tk := r4.2 hc.2.2.2.1
    have r6 := r6 c3
    have r6a : g 267 (p.1 3 - 1) = (p.1 4 : Int) := r6.1
    have hm : (.inr (am_up (mi_dec (g 254 17 - 1) 2 ty x (g 267 (g 254 17 - 1).toNat) (g 267 (g 254 17 - 1).toNat) g) 267 (g 254 17 - 1).toNat (g 267 (g 254 17 - 1).toNat + 1), ty, so, bs, oc) : gx_R mi_S) = .inr s' := hm
    rw [n17] at hm
    cases hm
    refine rv_mk (c0 := p.1 0) (c1 := p.1 1) (c2 := p.1 2) (c3 := p.1 3) (c4 := p.1 4 + 1) (c5 := p.1 5) (c9 := p.1 9) (c11 := p.1 11) (by rw [hp]; simp [pu]) (by rw [hp]; simp [pu]) (by rw [hp]; simp [pu]) (by rw [hp]; simp [pu]) (by rw [hp]; simp [pu]) (by rw [hp]; simp [pu]) (by rw [hp]; simp [pu]) (by rw [hp]; simp [pu]) ⟨(r1.dec _ _ _ _ _ _ (pr_tk2 hc.2.2.1) tk).up (by decide) rfl, ⟨?_, ?_, ?_, a4, a5, a6⟩, r3, r4, fun z => ?_, fun z => ⟨?_, ?_⟩⟩
    · dsimp only; rw [p_up_c _ _ _ _ _ (by decide), mi_dec_n _ _ _ _ _ _ _ _ _ (by omega) (by omega)]; exact a1
    · dsimp only; rw [p_up_c _ _ _ _ _ (by decide), mi_dec_n _ _ _ _ _ _ _ _ _ (by omega) (by omega)]; exact a2
    · dsimp only; rw [p_up_c _ _ _ _ _ (by decide), mi_dec_n _ _ _ _ _ _ _ _ _ (by omega) (by omega)]; exact a3
    · dsimp only; rw [p_up_c _ _ _ _ _ (by decide), mi_dec_n _ _ _ _ _ _ _ _ _ (by omega) (by omega)]; exact r5 z
    · dsimp only; rw [p_up_s]; omega
    · dsimp only; rw [p_up_c _ _ _ _ _ (by decide), mi_dec_n _ _ _ _ _ _ _ _ _ (by omega) (by omega)]; exact r6.2
  · -- 47
    obtain ⟨hc, hb, hp⟩ := pr_q_in h
    have hc : p.1 9 = 4 := hc.1
    cases hm
    obtain ⟨r1, r2, r3, r4, r5, r6⟩ := R
    exact rv_mk (c0 := p.1 0) (c1 := p.1 1) (c2 := p.1 2) (c3 := p.1 3) (c4 := p.1 4) (c5 := p.1 5) (c9 := 5) (c11 := p.1 11) (by rw [hp]; simp [pu]) (by rw [hp]; simp [pu]) (by rw [hp]; simp [pu]) (by rw [hp]; simp [pu]) (by rw [hp]; simp [pu]) (by rw [hp]; simp [pu]) (by rw [hp]; simp [pu]) (by rw [hp]; simp [pu]) ⟨r1, r2, ⟨fun _ => r3.1 (by omega), fun _ => r3.2 (by omega)⟩, r4, r5, r6⟩
  · -- 50
    obtain ⟨hc, hb, hp⟩ := pr_q_in h
    have hm := ce_q_in hm
    obtain ⟨r1, ⟨a1, a2, a3, a4, a5, a6⟩, r3, r4, r5, r6⟩ := R
    have a2 : g 254 17 = (p.1 3 : Int) := a2
    have c3 : 1 ≤ p.1 3 := r3.2 (by have := hc.1; omega)
    have n17 : (g 254 17 - 1).toNat = p.1 3 - 1 := by omega
    have tk := r4.2 hc.2.2.2.1
    have r6 := r6 c3
    have r6b : g 268 (p.1 3 - 1) = (p.1 5 : Int) := r6.2
    have hm : (.inr (am_up (mi_dec (g 254 17 - 1) 3 ty x (g 268 (g 254 17 - 1).toNat) (g 268 (g 254 17 - 1).toNat) g) 268 (g 254 17 - 1).toNat (g 268 (g 254 17 - 1).toNat + 1), ty, so, bs, oc) : gx_R mi_S) = .inr s' := hm
    rw [n17] at hm
    cases hm
    refine rv_mk (c0 := p.1 0) (c1 := p.1 1) (c2 := p.1 2) (c3 := p.1 3) (c4 := p.1 4) (c5 := p.1 5 + 1) (c9 := p.1 9) (c11 := p.1 11) (by rw [hp]; simp [pu]) (by rw [hp]; simp [pu]) (by rw [hp]; simp [pu]) (by rw [hp]; simp [pu]) (by rw [hp]; simp [pu]) (by rw [hp]; simp [pu]) (by rw [hp]; simp [pu]) (by rw [hp]; simp [pu]) ⟨(r1.dec _ _ _ _ _ _ (pr_tk2 hc.2.2.1) tk).up (by decide) rfl, ⟨?_, ?_, ?_, a4, a5, a6⟩, r3, r4, fun z => ?_, fun z => ⟨?_, ?_⟩⟩
    · dsimp only; rw [p_up_c _ _ _ _ _ (by decide), mi_dec_n _ _ _ _ _ _ _ _ _ (by omega) (by omega)]; exact a1
    · dsimp only; rw [p_up_c _ _ _ _ _ (by decide), mi_dec_n _ _ _ _ _ _ _ _ _ (by omega) (by omega)]; exact a2
    · dsimp only; rw [p_up_c _ _ _ _ _ (by decide), mi_dec_n _ _ _ _ _ _ _ _ _ (by omega) (by omega)]; exact a3
    · dsimp only; rw [p_up_c _ _ _ _ _ (by decide), mi_dec_n _ _ _ _ _ _ _ _ _ (by omega) (by omega)]; exact r5 z
    · dsimp only; rw [p_up_c _ _ _ _ _ (by decide), mi_dec_n _ _ _ _ _ _ _ _ _ (by omega) (by omega)]; exact r6.1
    · dsimp only; rw [p_up_s]; omega
  · -- 48
    obtain ⟨hc, hb, hp⟩ := pr_q_in h
    have h9 := hc.1
    cases hm
    have r := R
    obtain ⟨r1, r2, r3, r4, r5, r6⟩ := R
    have b1 : rb g (am_up (am_up g 269 (g 254 17 - 1).toNat (g 254 33)) 254 55 0) := ((rb.refl g).up (by decide)).upf (by decide)
    have ht : rt K (am_up (am_up g 269 (g 254 17 - 1).toNat (g 254 33)) 254 55 0) := (r1.up (by decide) rfl).upf (by unfold mx_k; omega)
    have t := r.b (p' := p) (bs := bs) (oc := oc) id6 ht b1
    obtain ⟨s1, s2, s3, s4, s5, s6⟩ := t
    exact rv_mk (c0 := p.1 0) (c1 := p.1 1) (c2 := p.1 2) (c3 := p.1 3) (c4 := p.1 4) (c5 := p.1 5) (c9 := 6) (c11 := p.1 11) (by rw [hp]; simp [pu]) (by rw [hp]; simp [pu]) (by rw [hp]; simp [pu]) (by rw [hp]; simp [pu]) (by rw [hp]; simp [pu]) (by rw [hp]; simp [pu]) (by rw [hp]; simp [pu]) (by rw [hp]; simp [pu]) ⟨s1, s2, ⟨fun _ => r3.1 (by omega), fun _ => r3.2 (by omega)⟩, s4, s5, s6⟩
  · -- 49
    obtain ⟨hc, hb, hp⟩ := pr_q_in h
    have h9 := hc.1
    obtain ⟨g1, h1, h2⟩ := mi_h_in hm
    obtain ⟨g3, h3, h4⟩ := gx_b_ok h1
    have r1 := (rb.refl g).put 0 0 0 0
    have S := R.sb h9
    have e3 := mi_add_in h3
    have e4 := mi_add_in h4
    subst e4
    subst e3
    subst h2
    have t := R.b (p' := p) (bs := bs) (oc := oc) id6 ((R.1.put0 0 0 0 0 S (by omega)).put0 18 1 0 0 (by rw [r1.2.1]; exact S) (by omega)) (r1.put 18 1 0 0)
    have r3 := R.2.2.1
    obtain ⟨s1, s2, s3, s4, s5, s6⟩ := t
    exact rv_mk (c0 := p.1 0) (c1 := p.1 1) (c2 := p.1 2) (c3 := p.1 3) (c4 := p.1 4) (c5 := p.1 5) (c9 := 3) (c11 := p.1 11) (by rw [hp]; simp [pu]) (by rw [hp]; simp [pu]) (by rw [hp]; simp [pu]) (by rw [hp]; simp [pu]) (by rw [hp]; simp [pu]) (by rw [hp]; simp [pu]) (by rw [hp]; simp [pu]) (by rw [hp]; simp [pu]) ⟨s1, s2, ⟨fun _ => r3.1 (by omega), fun z => by omega⟩, s4, s5, s6⟩
/-- a whole stream -/
theorem rv_run : ∀ (es : List gx_V) {p p' : pr_S} {s s' : mi_S}, gx_fold (pr pw K V) es p = .inr p' → gx_fold (mi V) es s = .inr s' → rv K p s → rv K p' s'
  | [], p, p', s, s', h, hm, R => by cases h; cases hm; exact R
  | e :: es, p, p', s, s', h, hm, R => by
    obtain ⟨p1, e1, e2⟩ := gx_b_ok h
    obtain ⟨s1, m1, m2⟩ := gx_b_ok hm
    exact rv_run es e2 m2 (rv_ev e1 m1 R)
end
