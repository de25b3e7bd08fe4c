/-! PURE LAYER, 93: the component's first reading takes every stream -/
/-- tokens, as the component needs them -/
def tkc (K K' V P n6 : Nat → Int) : Prop := (∀ i, i < 1000 → K' i ≠ 0 → K i = K' i) ∧ (∀ i, i < 1000 → K' i = 2 → 0 ≤ V i ∧ V i < 1400 ∧ 0 ≤ n6 (V i).toNat ∧ n6 (V i).toNat < 18000) ∧ (∀ i, i < 1000 → K' i = 4 → V i ≤ 60 ∧ 0 ≤ P i ∧ P i + 1 + V i ≤ 16000) ∧ (∀ j, j < 1000 → K' j = 2 → ∃ v, gx_count K V (j + 1) 4500 (j + 1) 0 0 false = some v)
def rc (b20 b21 : Nat) (n6 : Nat → Int) (p : pr_S) (c : ce_S) : Prop :=
  (c.1 212 20 = (b20 : Int) ∧ c.1 212 21 = (b21 : Int) ∧ c.1 6 = n6 ∧ b20 ≤ 12 ∧ b21 ≤ 70) ∧
  (c.1 213 3 = (b20 : Int) + (p.1 0 : Int) ∧ c.1 217 5 = (b21 : Int) + (p.1 3 : Int)) ∧
  (p.1 0 ≤ 12 ∧ p.1 3 ≤ 60 ∧ p.1 1 ≤ 12 ∧ p.1 2 ≤ 12 ∧ p.1 4 ≤ 12 ∧ p.1 5 ≤ 12 ∧ p.1 9 ≤ 6) ∧
  (c.1 212 17 = (b20 : Int) + (p.1 0 : Int) + (if p.1 9 = 1 then 1 else 0) ∧ (p.1 9 = 1 → c.1 212 13 = (b20 : Int) + (p.1 0 : Int)) ∧ (2 ≤ p.1 9 → 1 ≤ p.1 0 ∧ c.1 212 13 = (b20 : Int) + (p.1 0 : Int) - 1)) ∧
  ((p.1 9 < 4 → c.1 212 16 = (b21 : Int) + (p.1 3 : Int)) ∧ (4 ≤ p.1 9 → 1 ≤ p.1 3 ∧ c.1 212 16 = (b21 : Int) + (p.1 3 : Int) - 1)) ∧
  (0 ≤ c.1 212 15 ∧ c.1 212 15 ≤ 2000 + (p.1 1 : Int)) ∧
  (p.1 12 = 1 → 0 ≤ c.1 223 5 ∧ c.1 223 5 ≤ (p.1 1 : Int) + (p.1 2 : Int)) ∧
  (p.1 13 = 1 → 0 ≤ c.1 229 5 ∧ c.1 229 5 ≤ (p.1 4 : Int) + (p.1 5 : Int)) ∧
  (0 ≤ c.1 235 4 ∧ (c.1 235 4 ≤ 2 * (p.2.2.2 3 : Int) ∨ p.1 9 < 6 ∧ c.1 235 4 ≤ 100000)) ∧
  c.2.2.2.2.2.2.length = p.2.1.length
section
variable {K K' V P n6 : Nat → Int} {b20 b21 : Nat} {p p' : pr_S} {c : ce_S}
/-- counts that are looked at are the same; labels may be more -/
theorem rc.b (R : rc b20 b21 n6 p c) {g' : am_H} {ty f o q v : Int} {l : List (Int × Int × Int × Int)} {n : Nat} (hp : ∀ k, pz k → p'.1 k = p.1 k) (he : p'.2.2.2 3 = p.2.2.2 3 + pw 3 n) (hl : l.length = p'.2.1.length) (h6 : p.1 9 = 6) (hg : ∀ a, a ≠ 235 → g' a = c.1 a) (h4 : c.1 235 4 ≤ g' 235 4 ∧ g' 235 4 ≤ c.1 235 4 + 2 * (pw 3 n : Int)) : rc b20 b21 n6 p' (g', ty, f, o, q, v, l) := by
  obtain ⟨r1, r2, r3, r4, r5, r6, r7, r8, r9, r10⟩ := R
  unfold rc
  dsimp only
  rw [hp 0 (by decide), hp 1 (by decide), hp 2 (by decide), hp 3 (by decide), hp 4 (by decide), hp 5 (by decide), hp 9 (by decide), hp 12 (by decide), hp 13 (by decide), hg 212 (by decide), hg 6 (by decide), hg 213 (by decide), hg 217 (by decide), hg 223 (by decide), hg 229 (by decide), he]
  exact ⟨r1, r2, r3, r4, r5, r6, r7, r8, by omega, hl⟩
theorem ce_chars_0 (sy : Bool) (s : Int) (fr : Nat) : ∀ (m k : Nat) (g : am_H), ce_chars false sy s fr m k g = .inr g
  | 0, k, g => rfl
  | m + 1, k, g => by
    unfold ce_chars
    show ce_chars false sy s fr m (k + 1) g = _
    exact ce_chars_0 sy s fr m (k + 1) g
theorem ce_load_0 (x wh : Int) (g : am_H) : ce_load false false x wh g = .inr g := by
  unfold ce_load ce_chk
  rw [if_neg (by simp), if_pos rfl]
theorem ce_op_0 (x : Int) (g : am_H) : ce_op false false x g = .inr g := by
  unfold ce_op
  repeat' split
  all_goals rfl
/-- calls that are open have their names among the tokens -/
def po (K : Nat → Int) (p : pr_S) : Prop := ∀ q ∈ p.2.2.1, 0 ≤ q.1 ∧ q.1.toNat < 1000 ∧ q.2.1.toNat < 1000 ∧ 0 ≤ q.2.1 ∧ K q.1.toNat = 2 ∧ K q.2.1.toNat = 2 ∧ (q.1 = q.2.1 ∨ q.2.1 = q.1 + 2)
theorem tkc.nm (T : tkc K K' V P n6) {x : Int} {c0 : Nat → Nat} {g : am_H} (hg : g 6 = n6) (h : pr_t K' c0 x 2) : ce_nm g (V x.toNat) := by
  obtain ⟨h1, h2, h3, h4⟩ := T.2.1 x.toNat h.2.2.1 h.2.2.2
  exact ⟨h1, h2, by rw [hg]; exact h3, by rw [hg]; exact h4⟩
theorem ce_ev0 (T : tkc K K' V P n6) {e : gx_V} (h : pr pw K' V e p = .inr p') (O : po K' p) (R : rc b20 b21 n6 p c) : ∃ c', ce false false K V P e c = .inr c' ∧ rc b20 b21 n6 p' c' := by
  obtain ⟨n, x, y, z⟩ := e
  obtain ⟨g, ty, fn, on, pn, ln, st⟩ := c
  have r := R
  obtain ⟨⟨b1, b2, b3, b4, b5⟩, ⟨d1, d2⟩, ⟨f1, f2, f3, f4, f5, f6, f7⟩, ⟨k1, k2, k3⟩, ⟨m1, m2⟩, ⟨o1, o2⟩, v1, v2, ⟨l1, l2⟩, t1⟩ := R
  dsimp only at b1 b2 b3 d1 d2 k1 k2 k3 m1 m2 o1 o2 v1 v2 l1 l2 t1
  -- nothing happens
  have no : ∀ {c' : Nat → Nat} {ec : Nat → Nat} {ocl : List (Int × Int × Nat)} {n : Nat}, p.1 9 = 6 → p' = (c', p.2.1, ocl, ec) → (∀ k, pz k → c' k = p.1 k) → ec 3 = p.2.2.2 3 + pw 3 n → pw 3 n = 0 → rc b20 b21 n6 p' (g, ty, fn, on, pn, ln, st) := by
    intro c' ec ocl n h6 hp hc he hn
    exact r.b (n := n) (by rw [hp]; exact hc) (by rw [hp]; exact he) (by rw [hp]; exact t1) h6 (fun _ _ => rfl) ⟨Int.le_refl _, by rw [hn]; show g 235 4 ≤ g 235 4 + 2 * 0; omega⟩
  have id6 : ∀ n, pz n → p.1 n = p.1 n := fun _ _ => rfl
  have p6 : ∀ v n, pz n → pu p.1 6 v n = p.1 n := fun v => pz_u id6 (by decide)
  have p10 : ∀ v n, pz n → pu p.1 10 v n = p.1 n := fun v => pz_u id6 (by decide)
  have p610 : ∀ v w n, pz n → pu (pu p.1 6 v) 10 w n = p.1 n := fun v w => pz_u (p6 v) (by decide)
  have p616 : ∀ v w n, pz n → pu (pu p.1 6 v) 16 w n = p.1 n := fun v w => pz_u (p6 v) (by decide)
  have p1016 : ∀ v w n, pz n → pu (pu p.1 10 v) 16 w n = p.1 n := fun v w => pz_u (p10 v) (by decide)
  have p1015 : ∀ v w n, pz n → pu (pu p.1 10 v) 15 w n = p.1 n := fun v w => pz_u (p10 v) (by decide)
  have p61516 : ∀ v w u n, pz n → pu (pu (pu p.1 6 v) 15 w) 16 u n = p.1 n := fun v w u => pz_u (pz_u (p6 v) (by decide)) (by decide)
  have c13 : p.1 9 = 6 → 0 ≤ g 212 13 ∧ g 212 13 < 24 := fun h6 => by have := k3 (by omega); omega
  have q20 : 0 ≤ g 212 20 ∧ g 212 20 ≤ g 213 3 := by omega
  unfold pr at h
  split at h
  all_goals first
    | (cases h; done)
    | (rename_i hn; have hn : n = _ := hn; subst hn)
  · obtain ⟨hc, hb, hp⟩ := pr_q_in h
    exact ⟨_, rfl, no (n := 1) hc.1.1 hp (p6 _) rfl rfl⟩
  · obtain ⟨hc, hb, hp⟩ := pr_q_in h
    exact ⟨_, rfl, no (n := 2) hc.1.1 hp (p6 _) rfl rfl⟩
  · obtain ⟨hc, hb, hp⟩ := pr_q_in h
    exact ⟨_, rfl, no (n := 3) hc.1.1 hp (p6 _) rfl rfl⟩
  · obtain ⟨hc, hb, hp⟩ := pr_q_in h
    refine ⟨(g, ty, fn, on, pn, ln, st), ?_, no (n := 4) hc.1.1 hp (p610 _ _) rfl rfl⟩
    show ce_h _ (ce_chk false (g 212 14 ≠ 2) (6, P x.toNat) (gx_b (ce_vm false 0 4 0 g) (ce_li false false 0 6 0))) = _
    unfold ce_chk
    rw [if_neg (by simp)]
    rfl
  · -- 5
    obtain ⟨hc, hb, hp⟩ := pr_q_in h
    refine ⟨(g, ty, fn, on, pn, ln, st), ?_, no (n := 5) hc.1.1 hp (pz_u (pz_u (p6 _) (by decide)) (by decide)) rfl rfl⟩
    obtain ⟨s1, s2, s3⟩ := T.2.2.1 x.toNat hc.2.1.2.2.1 hc.2.1.2.2.2
    show ce_h _ (ce_str false false V P x.toNat g) = _
    unfold ce_str ce_q
    rw [if_pos ⟨hc.2.2.1, s1, s2, s3⟩]
    show ce_h _ (ce_chars false false _ _ _ _ g) = _
    rw [ce_chars_0]
    rfl
  · -- 6
    obtain ⟨hc, hb, hp⟩ := pr_q_in h
    refine ⟨(g, ty, fn, on, pn, ln, st), ?_, no (n := 6) hc.1.1 hp (p610 _ _) rfl rfl⟩
    show ce_h _ (ce_q (ce_nm g (V x.toNat)) (ce_load false false (V x.toNat) (P x.toNat) g)) = _
    unfold ce_q
    rw [if_pos (T.nm b3 hc.2.1), ce_load_0]
    rfl
  · -- 7
    obtain ⟨hc, hb, hp⟩ := pr_q_in h
    refine ⟨(g, ty, fn, on, pn, ln, st), ?_, no (n := 7) hc.1.1 hp (p6 _) rfl rfl⟩
    show ce_h _ (gx_b (ce_get false g) fun g => gx_b (ce_li false false 1 6 1 g) (ce_li false false 0 5 0)) = _
    unfold ce_get ce_q
    rw [if_pos (c13 hc.1.1)]
    rfl
  · -- 8
    obtain ⟨hc, hb, hp⟩ := pr_q_in h
    refine ⟨(g, ty, fn, on, pn, ln, st), ?_, no (n := 8) hc.1.1 hp (p6 _) rfl rfl⟩
    show ce_h _ (ce_op false false x g) = _
    rw [ce_op_0]
    rfl
  · obtain ⟨hc, hb, hp⟩ := pr_q_in h
    exact ⟨_, rfl, no (n := 9) hc.1.1 hp id6 rfl rfl⟩
  · obtain ⟨hc, hb, hp⟩ := pr_q_in h
    exact ⟨_, rfl, no (n := 10) hc.1.1 hp id6 rfl rfl⟩
  · -- 11
    obtain ⟨hc, hb, hp⟩ := pr_q_in h
    refine ⟨(g, ty, fn, on, pn, ln, st), ?_, no (n := 11) hc.1.1 hp (p10 _) rfl rfl⟩
    obtain ⟨v, hv⟩ := T.2.2.2 y.toNat hc.2.2.1.2.2.1 hc.2.2.1.2.2.2
    show ce_h _ (ce_begin false false K V P x.toNat y.toNat g) = _
    unfold ce_begin ce_q
    rw [if_pos ⟨T.nm b3 hc.2.1, T.nm b3 hc.2.2.1, q20⟩, hv]
    have e1 : (if x.toNat = y.toNat then
      ce_chk false (ce_sof false g (g 212 13) (V x.toNat) ≠ -1) (4, P x.toNat) (ce_chk false (g 220 (if ce_sof false g (g 212 13) (V x.toNat) ≤ 0 then 0 else ce_sof false g (g 212 13) (V x.toNat)).toNat = 3) (5, P x.toNat) (gx_b (ce_vm false 0 4 0 g) (ce_li false false 0 6 0)))
     else ce_chk false (ce_var g (V x.toNat) ∨ ce_cof false g (V x.toNat) ≠ -1) (4, P x.toNat) (if ce_var g (V x.toNat) then ce_load false false (V x.toNat) (P x.toNat) g else .inr g)) = .inr g := by
      by_cases c1 : x.toNat = y.toNat
      · rw [if_pos c1]; unfold ce_chk; rw [if_neg (by simp), if_neg (by simp)]; rfl
      · rw [if_neg c1]; unfold ce_chk; rw [if_neg (by simp)]
        by_cases c2 : ce_var g (V x.toNat)
        · rw [if_pos c2, ce_load_0]
        · rw [if_neg c2]
    rw [e1]
    rfl
  · -- 12
    cases hq : p.2.2.1 with
    | nil => rw [hq] at h; cases h
    | cons q l =>
      rw [hq] at h
      obtain ⟨hc, hb, hp⟩ := pr_q_in h
      refine ⟨(g, ty, fn, on, pn, ln, st), ?_, no (n := 12) hc.1.1 hp (p6 _) rfl rfl⟩
      have hy : y.toNat < 1000 ∧ K' y.toNat = 2 := by
        have h5 := O q (by rw [hq]; exact List.mem_cons_self)
        have h6 : q.2.1 = y := hc.2.2.1
        rw [← h6]; exact ⟨h5.2.2.1, h5.2.2.2.2.2.1⟩
      obtain ⟨v, hv⟩ := T.2.2.2 y.toNat hy.1 hy.2
      show ce_h _ (ce_end false false K V x.toNat y.toNat g) = _
      unfold ce_end
      rw [hv]
      rfl
  · obtain ⟨hc, hb, hp⟩ := pr_q_in h
    exact ⟨_, rfl, no (n := 20) hc.1 hp (p1016 _ _) rfl rfl⟩
  · -- 21
    obtain ⟨hc, hb, hp⟩ := pr_q_in h
    refine ⟨(g, ty, fn, on, pn, ln, st), ?_, no (n := 21) hc.1.1 hp (p1015 _ _) rfl rfl⟩
    show ce_h _ (ce_q (ce_nm g (V x.toNat)) _) = _
    unfold ce_q
    rw [if_pos (T.nm b3 hc.2.1)]
    unfold ce_chk
    rw [if_neg (by simp), if_neg (by simp)]
    rfl
  · obtain ⟨hc, hb, hp⟩ := pr_q_in h
    exact ⟨_, rfl, no (n := 22) hc.1.1 hp (p61516 _ _ _) rfl rfl⟩
  · -- 23
    obtain ⟨hc, hb, hp⟩ := pr_q_in h
    refine ⟨(g, ty, fn, on, pn, ln, st), ?_, no (n := 23) hc.1.1 hp (p616 _ _) rfl rfl⟩
    show ce_h _ (gx_b (ce_set false g) fun g => _) = _
    unfold ce_set ce_q
    rw [if_pos (c13 hc.1.1)]
    rfl
  · -- 24
    obtain ⟨hc, hb, hp⟩ := pr_q_in h
    have hl : g 235 4 ≤ 2 * (p.2.2.2 3 : Int) := by have := hc.1.1; rcases l2 with l2 | l2 <;> omega
    have hw : (pw 3 24 : Int) = 1 := rfl
    have := hb 3
    refine ⟨(am_up g 235 4 (g 235 4 + 2), ty, fn, on, pn, ln, (g 235 4, 0, 0, 0) :: st), ?_, r.b (n := 24) (by rw [hp]; exact id6) (by rw [hp]) (by rw [hp]; show st.length + 1 = p.2.1.length + 1; rw [t1]) hc.1.1 (fun a ha => p_up_c _ _ _ _ _ ha) ?_⟩
    · show gx_b (ce_told g) _ = _
      unfold ce_told ce_q
      rw [if_pos (by omega)]
      rfl
    · rw [p_up_s, hw]; show g 235 4 ≤ _ ∧ _ ≤ g 235 4 + _; omega
  · -- 25
    obtain ⟨hc, hb, hp⟩ := pr_q_in h
    cases hs : st with
    | nil => exfalso; have := hc.2.2.1; cases hq : p.2.1 with
      | nil => rw [hq] at this; cases this
      | cons a l => rw [hq, hs] at t1; cases t1
    | cons q l => exact ⟨_, rfl, r.b (n := 25) (by rw [hp]; exact p616 _ _) (by rw [hp]) (by rw [hp]; rw [hs] at t1; show l.length + 1 = p.2.1.tail.length + 1; rw [List.length_tail, ← t1]; rfl) hc.1.1 (fun _ _ => rfl) ⟨Int.le_refl _, by show g 235 4 ≤ g 235 4 + 2 * 0; omega⟩⟩
  · -- 26
    obtain ⟨hc, hb, hp⟩ := pr_q_in h
    cases hs : st with
    | nil => exfalso; have := hc.2.2.1; cases hq : p.2.1 with
      | nil => rw [hq] at this; cases this
      | cons a l => rw [hq, hs] at t1; cases t1
    | cons q l => exact ⟨_, rfl, r.b (n := 26) (by rw [hp]; exact id6) (by rw [hp]) (by rw [hp]; rw [hs] at t1; show l.length + 1 = p.2.1.tail.length + 1; rw [List.length_tail, ← t1]; rfl) hc.1 (fun _ _ => rfl) ⟨Int.le_refl _, by show g 235 4 ≤ g 235 4 + 2 * 0; omega⟩⟩
  · -- 27
    obtain ⟨hc, hb, hp⟩ := pr_q_in h
    cases hs : st with
    | nil => exfalso; have := hc.2.2.1; cases hq : p.2.1 with
      | nil => rw [hq] at this; cases this
      | cons a l => rw [hq, hs] at t1; cases t1
    | cons q l => exact ⟨_, rfl, r.b (n := 27) (by rw [hp]; exact id6) (by rw [hp]) (by rw [hp]; rw [hs] at t1; show l.length = p.2.1.tail.length; rw [List.length_tail, ← t1]; rfl) hc.1 (fun _ _ => rfl) ⟨Int.le_refl _, by show g 235 4 ≤ g 235 4 + 2 * 0; omega⟩⟩
  · -- 28
    obtain ⟨hc, hb, hp⟩ := pr_q_in h
    cases hs : st with
    | nil => exfalso; have := hc.2.2.1; cases hq : p.2.1 with
      | nil => rw [hq] at this; cases this
      | cons a l => rw [hq, hs] at t1; cases t1
    | cons q l => exact ⟨_, rfl, r.b (n := 28) (by rw [hp]; exact id6) (by rw [hp]) (by rw [hp]; rw [hs] at t1; show l.length = p.2.1.tail.length; rw [List.length_tail, ← t1]; rfl) hc.1 (fun _ _ => rfl) ⟨Int.le_refl _, by show g 235 4 ≤ g 235 4 + 2 * 0; omega⟩⟩
  · -- 30
    obtain ⟨hc, hb, hp⟩ := pr_q_in h
    have hl : g 235 4 ≤ 2 * (p.2.2.2 3 : Int) := by have := hc.1.1; rcases l2 with l2 | l2 <;> omega
    have hw : (pw 3 30 : Int) = 1 := rfl
    have := hb 3
    refine ⟨(am_up g 235 4 (g 235 4 + 2), ty, fn, on, pn, ln, (g 235 4, 0, 0, 0) :: st), ?_, r.b (n := 30) (by rw [hp]; exact id6) (by rw [hp]) (by rw [hp]; show st.length + 1 = p.2.1.length + 1; rw [t1]) hc.1.1 (fun a ha => p_up_c _ _ _ _ _ ha) ?_⟩
    · show gx_b (ce_told g) _ = _
      unfold ce_told ce_q
      rw [if_pos (by omega)]
      rfl
    · rw [p_up_s, hw]; show g 235 4 ≤ _ ∧ _ ≤ g 235 4 + _; omega
  · -- 31
    obtain ⟨hc, hb, hp⟩ := pr_q_in h
    cases hs : st with
    | nil => exfalso; have := hc.2.2.1; cases hq : p.2.1 with
      | nil => rw [hq] at this; cases this
      | cons a l => rw [hq, hs] at t1; cases t1
    | cons q l => exact ⟨(g, ty, fn, on, pn, ln, q :: l), rfl, r.b (n := 31) (by rw [hp]; exact p616 _ _) (by rw [hp]) (by rw [hp]; rw [hs] at t1; show l.length + 1 = p.2.1.tail.length + 1; rw [List.length_tail, ← t1]; rfl) hc.1.1 (fun _ _ => rfl) ⟨Int.le_refl _, by show g 235 4 ≤ g 235 4 + 2 * 0; omega⟩⟩
  · -- 32
    obtain ⟨hc, hb, hp⟩ := pr_q_in h
    cases hs : st with
    | nil => exfalso; have := hc.2.2.1; cases hq : p.2.1 with
      | nil => rw [hq] at this; cases this
      | cons a l => rw [hq, hs] at t1; cases t1
    | cons q l => exact ⟨_, rfl, r.b (n := 32) (by rw [hp]; exact id6) (by rw [hp]) (by rw [hp]; rw [hs] at t1; show l.length = p.2.1.tail.length; rw [List.length_tail, ← t1]; rfl) hc.1 (fun _ _ => rfl) ⟨Int.le_refl _, by show g 235 4 ≤ g 235 4 + 2 * 0; omega⟩⟩
  · obtain ⟨hc, hb, hp⟩ := pr_q_in h
    exact ⟨_, rfl, no (n := 33) hc.1.1 hp (p616 _ _) rfl rfl⟩
  · obtain ⟨hc, hb, hp⟩ := pr_q_in h
    exact ⟨_, rfl, no (n := 34) hc.1.1 hp (p616 _ _) rfl rfl⟩
  · -- 39
    obtain ⟨hc, hb, hp⟩ := pr_q_in h
    subst hp
    have e17 : g 212 17 = (b20 : Int) + (p.1 0 : Int) := by rw [k1, if_neg (by omega)]; omega
    refine ⟨(am_up (am_up g 212 13 (g 212 17)) 212 17 (g 212 17 + 1), ty, fn, on, pn, ln, st), ?_, ?_⟩
    · show ce_h _ (ce_q (g 212 17 < 1000) _) = _
      unfold ce_q
      dsimp only
      rw [if_pos (by omega)]
      rfl
    · have hm : g 212 16 = (b21 : Int) + (p.1 3 : Int) := m1 (by omega)
      have hw : pw 3 39 = 0 := rfl
      simp [rc, pu, p_up, hw]
      refine ⟨⟨b1, b2, b3, b4, b5⟩, ⟨d1, d2⟩, ⟨f1, f2, f3, f4, f5, f6⟩, by omega, hm, ⟨o1, o2⟩, v1, v2, ⟨l1, ?_⟩, t1⟩
      omega
  · -- 40
    obtain ⟨hc, hb, hp⟩ := pr_q_in h
    subst hp
    have e13 := k2 hc.1
    have e0 := hc.2.1
    refine ⟨(am_up (am_up (am_up (am_up (am_up g 214 (g 213 3).toNat (V x.toNat)) 215 (g 213 3).toNat 1) 216 (g 213 3).toNat 0) 213 3 (g 213 3 + 1)) 215 (g 212 13).toNat (if false = false ∨ V x.toNat = g 212 30 ∨ ce_hid g (V x.toNat) then 1 else 0), ty, fn, on, pn, ln, st), ?_, ?_⟩
    · show ce_h _ (ce_q _ (ce_q _ _)) = _
      unfold ce_q
      dsimp only
      rw [if_pos ⟨T.nm b3 hc.2.2, by omega⟩, if_pos (by omega)]
      rfl
    · have hm : g 212 16 = (b21 : Int) + (p.1 3 : Int) := m1 (by omega)
      have hw : pw 3 40 = 0 := rfl
      rw [if_pos hc.1] at k1
      simp [rc, pu, p_up, hw]
      refine ⟨⟨b1, b2, ?_, b4, b5⟩, ⟨by omega, d2⟩, ⟨by omega, f2, f3, f5, f6⟩, ⟨by omega, by omega⟩, hm, ⟨o1, o2⟩, v2, ⟨l1, ?_⟩, t1⟩
      · rw [p_up_c _ _ _ _ _ (by decide), p_up_c _ _ _ _ _ (by decide), p_up_c _ _ _ _ _ (by decide), p_up_c _ _ _ _ _ (by decide), p_up_c _ _ _ _ _ (by decide)]; exact b3
      · omega
  · -- 38
    obtain ⟨hc, hb, hp⟩ := pr_q_in h
    subst hp
    refine ⟨_, rfl, ?_⟩
    have hw : pw 3 38 = 0 := rfl
    simp [rc, pu, p_up, hw]
    have e6 : (am_up (am_up g 223 5 0) 212 18 (g 212 16)) 6 = g 6 := by rw [p_up_c _ _ _ _ _ (by decide), p_up_c _ _ _ _ _ (by decide)]
    rw [e6]
    exact ⟨⟨b1, b2, b3, b4, b5⟩, ⟨d1, d2⟩, ⟨f1, f2, f3, f4, f5, f6, f7⟩, ⟨k1, k2, k3⟩, ⟨m1, m2⟩, ⟨o1, o2⟩, by omega, v2, ⟨l1, by omega⟩, t1⟩
  · -- 41
    obtain ⟨hc, hb, hp⟩ := pr_q_in h
    subst hp
    have hw : pw 3 41 = 0 := rfl
    have hr : ∀ ty', rc b20 b21 n6 (pu (pu (pu p.1 11 1) 10 (x.toNat + 1)) 14 1, p.2.1, p.2.2.1, fun k => p.2.2.2 k + pw k 41) (g, ty', fn, on, pn, ln, st) := by
      intro ty'
      simp [rc, pu, p_up, hw]
      exact ⟨⟨b1, b2, b3, b4, b5⟩, ⟨d1, d2⟩, ⟨f1, f2, f3, f4, f5, f6, f7⟩, ⟨k1, k2, k3⟩, ⟨m1, m2⟩, ⟨o1, o2⟩, v1, v2, ⟨l1, l2⟩, t1⟩
    by_cases ck : K x.toNat = 1
    · exact ⟨_, if_pos ck, hr _⟩
    · refine ⟨(g, ce_cof false g (V x.toNat), fn, on, pn, ln, st), ?_, hr _⟩
      have h2 : pr_t K' p.1 x 2 := by
        rcases hc.2.1 with h1 | h1
        · exfalso; rw [T.1 x.toNat h1.2.2.1 (by rw [h1.2.2.2]; decide)] at ck; exact ck h1.2.2.2
        · exact h1
      show (if K x.toNat = 1 then _ else ce_q _ _) = _
      rw [if_neg ck]
      unfold ce_q
      rw [if_pos ⟨T.nm b3 h2, q20⟩]
      unfold ce_chk
      rw [if_neg (by simp)]
  · -- 42
    obtain ⟨hc, hb, hp⟩ := pr_q_in h
    subst hp
    have hw : pw 3 42 = 0 := rfl
    have e5 := v1 hc.2.2.2.2
    obtain ⟨c9, c10, c11, c12, c13'⟩ := hc
    have hq : ∀ z : gx_R ce_S, ce_chk false (ce_vc g (V x.toNat) = -1) (3, P x.toNat) (ce_q (g 223 5 < 50 ∧ g 212 15 < 100000) z) = z := by
      intro z
      unfold ce_chk ce_q
      rw [if_neg (by simp), if_pos ⟨by omega, by omega⟩]
    by_cases cy : y = 1
    · subst cy
      refine ⟨(ce_var1 4 fn ty fn (V x.toNat) g, ty, fn + 1, on, pn, ln, st), ?_, ?_⟩
      · show ce_chk false _ _ (ce_q _ (if (1 : Int) = 1 then _ else _)) = _
        rw [hq]; rfl
      · have : p.1 2 < 12 := (by
          rcases c11 with c11 | c11
          · exact c11.2
          · exact absurd (show (1 : Int) = 0 from c11.1) (by decide))
        simp [rc, pu, p_up, hw, ce_var1]
        have e6 : ∀ z1 z2 z3 z4 z5 z6, am_up (am_up (am_up (am_up (am_up (am_up g 224 (g 223 5).toNat z1) 225 (g 223 5).toNat z2) 226 (g 223 5).toNat z3) 227 (g 223 5).toNat z4) 228 (g 223 5).toNat z5) 223 5 z6 6 = g 6 := fun _ _ _ _ _ _ => by
          rw [p_up_c _ _ _ _ _ (by decide), p_up_c _ _ _ _ _ (by decide), p_up_c _ _ _ _ _ (by decide), p_up_c _ _ _ _ _ (by decide), p_up_c _ _ _ _ _ (by decide), p_up_c _ _ _ _ _ (by decide)]
        rw [e6]
        exact ⟨⟨b1, b2, b3, b4, b5⟩, ⟨d1, d2⟩, ⟨f1, f2, f3, by omega, f5, f6, f7⟩, ⟨k1, k2, k3⟩, ⟨m1, m2⟩, ⟨o1, o2⟩, by omega, v2, ⟨l1, l2⟩, t1⟩
    · refine ⟨(am_up (ce_var1 3 (g 212 15) ty on (V x.toNat) g) 212 15 (g 212 15 + 1), ty, fn, on + 1, pn, ln, st), ?_, ?_⟩
      · show ce_chk false _ _ (ce_q _ (if y = 1 then _ else _)) = _
        rw [hq, if_neg cy]
      · have : p.1 1 < 12 := (by
          rcases c11 with c11 | c11
          · exact absurd c11.1 cy
          · exact c11.2)
        simp [rc, pu, p_up, hw, ce_var1, cy]
        have e6 : ∀ z1 z2 z3 z4 z5 z6 z7, am_up (am_up (am_up (am_up (am_up (am_up (am_up g 224 (g 223 5).toNat z1) 225 (g 223 5).toNat z2) 226 (g 223 5).toNat z3) 227 (g 223 5).toNat z4) 228 (g 223 5).toNat z5) 223 5 z6) 212 15 z7 6 = g 6 := fun _ _ _ _ _ _ _ => by
          rw [p_up_c _ _ _ _ _ (by decide), p_up_c _ _ _ _ _ (by decide), p_up_c _ _ _ _ _ (by decide), p_up_c _ _ _ _ _ (by decide), p_up_c _ _ _ _ _ (by decide), p_up_c _ _ _ _ _ (by decide), p_up_c _ _ _ _ _ (by decide)]
        rw [e6]
        exact ⟨⟨b1, b2, b3, b4, b5⟩, ⟨d1, d2⟩, ⟨f1, f2, by omega, f4, f5, f6, f7⟩, ⟨k1, k2, k3⟩, ⟨m1, m2⟩, by omega, by omega, v2, ⟨l1, l2⟩, t1⟩
  · -- 43
    obtain ⟨hc, hb, hp⟩ := pr_q_in h
    subst hp
    have hw : pw 3 43 = 0 := rfl
    have e13 := k3 (by omega)
    refine ⟨(am_up g 216 (g 212 13).toNat fn, ty, fn, on, pn, ln, st), ?_, ?_⟩
    · show ce_h _ (ce_q _ _) = _
      unfold ce_q
      dsimp only
      rw [if_pos (by omega)]
      rfl
    · have hm : g 212 16 = (b21 : Int) + (p.1 3 : Int) := m1 (by omega)
      rw [if_neg (by omega)] at k1
      simp [rc, pu, p_up, hw]
      rw [p_up_c _ _ _ _ _ (by decide)]
      exact ⟨⟨b1, b2, b3, b4, b5⟩, ⟨d1, d2⟩, ⟨f1, f2, f3, f4, f5, f6⟩, ⟨by omega, e13⟩, hm, ⟨o1, o2⟩, v1, v2, ⟨l1, by omega⟩, t1⟩
  · -- 44
    obtain ⟨hc, hb, hp⟩ := pr_q_in h
    subst hp
    have hw : pw 3 44 = 0 := rfl
    refine ⟨_, rfl, ?_⟩
    simp [rc, pu, p_up, hw]
    rw [p_up_c _ _ _ _ _ (by decide)]
    exact ⟨⟨b1, b2, b3, b4, b5⟩, ⟨d1, d2⟩, ⟨f1, f2, f3, f4, f5, f6, f7⟩, ⟨k1, k2, k3⟩, ⟨m1, m2⟩, ⟨o1, o2⟩, v1, v2, ⟨l1, l2⟩, t1⟩
  · -- 45
    obtain ⟨hc, hb, hp⟩ := pr_q_in h
    subst hp
    have hw : pw 3 45 = 0 := rfl
    have hm : g 212 16 = (b21 : Int) + (p.1 3 : Int) := m1 (by omega)
    have e13 := k3 (by omega)
    rw [if_neg (by omega)] at k1
    refine ⟨(am_up (am_up (am_up (am_up (am_up (am_up g 218 (g 217 5).toNat (g 212 13)) 219 (g 217 5).toNat (V x.toNat)) 220 (g 217 5).toNat (g 212 14)) 221 (g 217 5).toNat 0) 217 5 (g 217 5 + 1)) 222 (g 212 16).toNat (if false = true then 0 else am_w (am_w (am_w (100 * am_w (am_w (8 + g 212 13) - g 212 20)) + g 212 16) - g 212 18)), ty, fn, on, pn, ln, st), ?_, ?_⟩
    · show ce_h _ (ce_chk false _ _ (if false = true then _ else ce_q _ _)) = _
      unfold ce_chk ce_q
      dsimp only
      rw [if_neg (by simp), if_neg (by simp), if_pos (by omega)]
      rfl
    · simp [rc, pu, p_up, hw]
      refine ⟨⟨b1, b2, ?_, b4, b5⟩, ⟨d1, by omega⟩, ⟨f1, by omega, f3, f4⟩, ⟨by omega, by omega⟩, by omega, ⟨o1, o2⟩, v1, ⟨l1, by omega⟩, t1⟩
      rw [p_up_c _ _ _ _ _ (by decide), p_up_c _ _ _ _ _ (by decide), p_up_c _ _ _ _ _ (by decide), p_up_c _ _ _ _ _ (by decide), p_up_c _ _ _ _ _ (by decide), p_up_c _ _ _ _ _ (by decide)]; exact b3
  · -- 51
    obtain ⟨hc, hb, hp⟩ := pr_q_in h
    subst hp
    have hw : pw 3 51 = 0 := rfl
    refine ⟨_, rfl, ?_⟩
    simp [rc, pu, p_up, hw]
    rw [p_up_c _ _ _ _ _ (by decide)]
    exact ⟨⟨b1, b2, b3, b4, b5⟩, ⟨d1, d2⟩, ⟨f1, f2, f3, f4, f5, f6, f7⟩, ⟨k1, k2, k3⟩, ⟨m1, m2⟩, ⟨o1, o2⟩, v1, by omega, ⟨l1, l2⟩, t1⟩
  · -- 46
    obtain ⟨hc, hb, hp⟩ := pr_q_in h
    subst hp
    have hw : pw 3 46 = 0 := rfl
    have e5 := v2 hc.2.2.2.2
    refine ⟨(ce_var2 1 (if g 212 14 = 3 then pn + 1 else pn) ty (if g 212 14 = 3 then pn + 1 else pn) (V x.toNat) g, ty, fn, on, pn + 1, ln, st), ?_, ?_⟩
    · show ce_chk false _ _ (ce_q _ _) = _
      unfold ce_chk ce_q
      dsimp only
      rw [if_neg (by simp), if_pos (by omega)]
    · simp [rc, pu, p_up, hw, ce_var2]
      refine ⟨⟨b1, b2, ?_, b4, b5⟩, ⟨d1, d2⟩, ⟨f1, f2, f3, f4, by omega, f6, f7⟩, ⟨k1, k2, k3⟩, ⟨m1, m2⟩, ⟨o1, o2⟩, v1, by omega, ⟨l1, l2⟩, t1⟩
      rw [p_up_c _ _ _ _ _ (by decide), p_up_c _ _ _ _ _ (by decide), p_up_c _ _ _ _ _ (by decide), p_up_c _ _ _ _ _ (by decide), p_up_c _ _ _ _ _ (by decide), p_up_c _ _ _ _ _ (by decide)]; exact b3
  · -- 47
    obtain ⟨hc, hb, hp⟩ := pr_q_in h
    subst hp
    have hw : pw 3 47 = 0 := rfl
    have hm := m2 (by omega)
    have e13 := k3 (by omega)
    rw [if_neg (by omega)] at k1
    refine ⟨(am_up g 221 (g 212 16).toNat pn, ty, fn, on, pn, 0, st), ?_, ?_⟩
    · show ce_q _ _ = _
      unfold ce_q
      dsimp only
      rw [if_pos (by omega)]
    · simp [rc, pu, p_up, hw]
      rw [p_up_c _ _ _ _ _ (by decide)]
      exact ⟨⟨b1, b2, b3, b4, b5⟩, ⟨d1, d2⟩, ⟨f1, f2, f3, f4, f5, f6⟩, ⟨by omega, by omega⟩, by omega, ⟨o1, o2⟩, v1, v2, ⟨l1, by omega⟩, t1⟩
  · -- 50
    obtain ⟨hc, hb, hp⟩ := pr_q_in h
    subst hp
    have hw : pw 3 50 = 0 := rfl
    have e5 := v2 hc.2.2.2.2
    refine ⟨(ce_var2 2 ln ty ln (V x.toNat) g, ty, fn, on, pn, ln + 1, st), ?_, ?_⟩
    · show ce_chk false _ _ (ce_q _ _) = _
      unfold ce_chk ce_q
      dsimp only
      rw [if_neg (by simp), if_pos (by omega)]
    · simp [rc, pu, p_up, hw, ce_var2]
      refine ⟨⟨b1, b2, ?_, b4, b5⟩, ⟨d1, d2⟩, ⟨f1, f2, f3, f4, f5, by omega, f7⟩, ⟨k1, k2, k3⟩, ⟨m1, m2⟩, ⟨o1, o2⟩, v1, by omega, ⟨l1, l2⟩, t1⟩
      rw [p_up_c _ _ _ _ _ (by decide), p_up_c _ _ _ _ _ (by decide), p_up_c _ _ _ _ _ (by decide), p_up_c _ _ _ _ _ (by decide), p_up_c _ _ _ _ _ (by decide), p_up_c _ _ _ _ _ (by decide)]; exact b3
  · -- 48
    obtain ⟨hc, hb, hp⟩ := pr_q_in h
    subst hp
    have hw : pw 3 48 = 0 := rfl
    have hm := m2 (by omega)
    have e13 := k3 (by omega)
    rw [if_neg (by omega)] at k1
    refine ⟨(am_up g 235 4 0, ty, fn, on, pn, ln, st), ?_, ?_⟩
    · show ce_h _ (ce_func false false (g, ty, fn, on, pn, ln, st)) = _
      unfold ce_func ce_q
      dsimp only
      rw [if_pos (by omega)]
      show ce_h _ (if am_up g 235 4 0 212 14 = 3 then _ else _) = _
      repeat' split
      all_goals rfl
    · simp [rc, pu, p_up, hw]
      rw [p_up_c _ _ _ _ _ (by decide)]
      exact ⟨⟨b1, b2, b3, b4, b5⟩, ⟨d1, d2⟩, ⟨f1, f2, f3, f4, f5, f6⟩, ⟨by omega, by omega⟩, by omega, ⟨o1, o2⟩, v1, v2, by omega, t1⟩
  · -- 49
    obtain ⟨hc, hb, hp⟩ := pr_q_in h
    subst hp
    have hw : pw 3 49 = 0 := rfl
    have hm := m2 (by omega)
    have e13 := k3 (by omega)
    rw [if_neg (by omega)] at k1
    have := hb 3
    refine ⟨(am_up g 212 16 (g 212 16 + 1), ty, fn, on, pn, ln, st), ?_, ?_⟩
    · show ce_h _ (ce_q (g 212 16 < 1000) _) = _
      unfold ce_q
      dsimp only
      rw [if_pos (by omega)]
      rfl
    · simp [rc, pu, p_up, hw]
      rw [p_up_c _ _ _ _ _ (by decide)]
      exact ⟨⟨b1, b2, b3, b4, b5⟩, ⟨d1, d2⟩, ⟨f1, f2, f3, f4, f5, f6⟩, ⟨by omega, by omega⟩, by omega, ⟨o1, o2⟩, v1, v2, ⟨l1, by omega⟩, t1⟩
theorem po_ev {w : Nat → Nat → Nat} {K V : Nat → Int} {e : gx_V} (h : pr w K V e p = .inr p') (O : po K p) : po K p' := by
  obtain ⟨n, x, y, z⟩ := e
  unfold pr at h
  split at h
  all_goals first
    | (cases h; done)
    | (obtain ⟨hc, hb, hp⟩ := pr_q_in h; subst hp; exact O)
    | skip
  · obtain ⟨hc, hb, hp⟩ := pr_q_in h
    subst hp
    intro q hq
    rcases List.mem_cons.1 hq with hq | hq
    · subst hq
      obtain ⟨c1, c2, c3, c4, -⟩ := hc
      exact ⟨c2.1, c2.2.2.1, c3.2.2.1, c3.1, c2.2.2.2, c3.2.2.2, (by
        rcases c4 with c4 | c4
        · exact Or.inr c4.2
        · exact Or.inl c4.2.symm)⟩
    · exact O q hq
  · cases hq : p.2.2.1 with
    | nil => rw [hq] at h; cases h
    | cons q l =>
      rw [hq] at h
      obtain ⟨hc, hb, hp⟩ := pr_q_in h
      subst hp
      intro q' hq'
      exact O q' (by rw [hq]; exact List.mem_cons_of_mem _ hq')
/-- the first reading of a stream -/
theorem ce_run0 (T : tkc K K' V P n6) : ∀ (es : List gx_V) {p p' : pr_S} {c : ce_S}, gx_fold (pr pw K' V) es p = .inr p' → po K' p → rc b20 b21 n6 p c → ∃ c', gx_fold (ce false false K V P) es c = .inr c' ∧ rc b20 b21 n6 p' c' ∧ po K' p'
  | [], p, p', c, h, O, R => by cases h; exact ⟨c, rfl, R, O⟩
  | e :: es, p, p', c, h, O, R => by
    obtain ⟨p1, h1, h2⟩ := gx_b_ok h
    obtain ⟨c1, e1, R1⟩ := ce_ev0 T h1 O R
    obtain ⟨c2, e2, R2⟩ := ce_run0 T es h2 (po_ev h1 O) R1
    exact ⟨c2, by show gx_b (ce false false K V P e c) _ = _; rw [e1]; exact e2, R2⟩
end
