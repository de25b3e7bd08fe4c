/-! PURE LAYER, 130: what items hold -/
/-- what a row of an item holds -/
def IFr (K V : Nat → Int) (n39 : Int) (r : Int × Int × Int × Int) : Prop :=
  (0 ≤ r.1 ∧ r.1 ≤ 20 ∧ r.1 ≠ 2) ∧ (r.1 = 0 → r.2.1 = -1 ∨ r.2.1 = 0 ∨ ∃ i, i < 1000 ∧ K i = 3 ∧ V i = r.2.1) ∧ (r.1 = 1 → 0 ≤ r.2.2.2 ∧ r.2.2.2.toNat < 1000 ∧ K r.2.2.2.toNat = 4 ∧ 0 ≤ V r.2.2.2.toNat ∧ V r.2.2.2.toNat ≤ 300) ∧ (r.1 = 6 → pr_o r.2.1) ∧ (r.1 = 9 ∨ r.1 = 10 → 0 ≤ r.2.1 ∧ r.2.1 < n39) ∧ (r.1 = 11 → 0 ≤ r.2.2.2 ∧ r.2.2.2.toNat < 1000 ∧ K r.2.2.2.toNat = 1) ∧ (r.1 = 15 ∨ r.1 = 16 → 0 ≤ r.2.2.1 ∧ r.2.2.1 ≤ 4300) ∧ (r.1 = 20 → 0 ≤ r.2.1 ∧ r.2.1 ≤ 4300)
def row4 (S : am_H) (k : Nat) : Int × Int × Int × Int := (S 277 k, S 278 k, S 279 k, S 280 k)
/-- labels of blocks -/
def LB (c : ce_S) : Prop := ∀ q ∈ c.2.2.2.2.2.2, 0 ≤ q.1 ∧ q.1 ≤ 4200
section
variable {K P V sc ss : Nat → Int} {cs : Nat → Nat} {b21 b15 : Nat} {c0 : am_H} {pE : pr_S} {S : mi_S} {e : gx_V} {es : List gx_V} {p p1 : pr_S} {s s1 : mi_S} {c c1 : ce_S}
theorem bw_hd4 {n : Int} {pl : List Nat} {bs st : List (Int × Int × Int × Int)} (B : bw S.1 n pl bs st) : (bs.headD (0, 0, 0, 0)).2.1 = (hd4 st).1 := by
  cases bs with
  | nil =>
    cases st with
    | nil => rfl
    | cons q r => cases pl <;> exact B.elim
  | cons b l =>
    cases st with
    | nil => cases pl <;> exact B.elim
    | cons q r =>
      cases pl with
      | nil => exact B.elim
      | cons a pl => exact B.1.1
theorem LB.hd (L : LB c) : 0 ≤ (hd4 c.2.2.2.2.2.2).1 ∧ (hd4 c.2.2.2.2.2.2).1 ≤ 4200 := by
  unfold hd4
  cases h : c.2.2.2.2.2.2 with
  | nil => exact ⟨by decide, by decide⟩
  | cons q r => exact L q (by rw [h]; exact List.mem_cons_self)
theorem lab_b (B : bd K V pE S (e :: es) p s c) (h9 : p.1 9 = 6) (hp : pr pw K V e p = .inr p1) : 0 ≤ c.1 235 4 ∧ c.1 235 4 ≤ 4200 := by
  obtain ⟨-, ⟨Rv, Rm, Q, Bd, O⟩, Bw, RQ, l6, l4⟩ := B
  have a := Rm.2.2.2.1
  have w : p.2.2.2 3 + pw 3 e.1 ≤ 2100 := by
    obtain ⟨n, x, y, z⟩ := e
    by_cases h12 : n = 12
    · subst h12
      cases hq : p.2.2.1 with
      | nil => unfold pr at hp; dsimp only at hp; rw [hq] at hp; cases hp
      | cons q l => unfold pr at hp; dsimp only at hp; rw [hq] at hp; obtain ⟨-, h, -⟩ := pr_q_in hp; exact h 3
    unfold pr at hp
    split at hp
    all_goals first
      | (cases hp; done)
      | (rename_i hn; have hn : n = _ := hn; subst hn; exact absurd rfl h12)
      | (rename_i hn; have hn : n = _ := hn; subst hn; exact (pr_q_in hp).2.1 3)
  rw [l6 h9]
  omega
theorem LB_ev (B : bd K V pE S (e :: es) p s c) (hp : pr pw K V e p = .inr p1) (hc : CO (oE K P V sc ss cs b21 b15 S.1 c0 e p (c.1 8 4) (c.1 235 4) c.2.2.2.2.2.2) c c1) (L : LB c) : LB c1 := by
  have hd := L.hd
  have tl : ∀ q ∈ c.2.2.2.2.2.2.tail, 0 ≤ q.1 ∧ q.1 ≤ 4200 := fun q hq => L q (List.mem_of_mem_tail hq)
  have h9 : e.1 = 24 ∨ e.1 = 30 → 0 ≤ c.1 235 4 ∧ c.1 235 4 ≤ 4200 := fun z => lab_b B (pr_body9 (by omega) hp) hp
  unfold LB
  rw [hc.2.1]
  obtain ⟨n, x, y, z⟩ := e
  unfold oE
  dsimp only at h9 ⊢
  intro q hq
  have c9 : ∀ (u v w : Int), (n = 24 ∨ n = 30) → q ∈ (c.1 235 4, u, v, w) :: c.2.2.2.2.2.2 → 0 ≤ q.1 ∧ q.1 ≤ 4200 := fun u v w h hq => by
    rcases List.mem_cons.1 hq with e | hq
    · rw [e]; exact h9 h
    · exact L q hq
  have ch : ∀ (u v w : Int), q ∈ ((hd4 c.2.2.2.2.2.2).1, u, v, w) :: c.2.2.2.2.2.2.tail → 0 ≤ q.1 ∧ q.1 ≤ 4200 := fun u v w hq => by
    rcases List.mem_cons.1 hq with e | hq
    · rw [e]; exact hd
    · exact tl q hq
  split at hq
  all_goals first
    | (exact L q hq)
    | (exact tl q hq)
    | (exact c9 _ _ _ (by decide) hq)
    | (exact ch _ _ _ hq)
    | (split at hq
       · exact L q hq
       · split at hq <;> exact L q hq)
theorem IFr_ev (B : bd K V pE S (e :: es) p s c) (hp : pr pw K V e p = .inr p1) (L : LB c) (n39 : Int) (h39 : ∀ k ∈ s.2.2.2.2, 0 ≤ k ∧ k < n39) (h39' : e.1 = 11 → 0 ≤ s.1 254 39 ∧ s.1 254 39 < n39) : ∀ r ∈ ie e s, IFr K V n39 r := by
  have hd := L.hd
  have hb := bw_hd4 B.2.2.1
  have h9 : e.1 = 30 → 0 ≤ s.1 254 50 ∧ s.1 254 50 ≤ 4200 := fun z => by
    have := lab_b B (pr_body9 (by omega) hp) hp
    rw [B.2.2.2.2.1 (pr_body9 (by omega) hp)] at this
    exact this
  obtain ⟨n, x, y, z⟩ := e
  dsimp only at h9 h39'
  have pl : ∀ (k a b t : Int), (0 ≤ k ∧ k ≤ 20 ∧ k ≠ 2) → k ≠ 0 ∧ k ≠ 1 ∧ k ≠ 6 ∧ k ≠ 9 ∧ k ≠ 10 ∧ k ≠ 11 ∧ k ≠ 15 ∧ k ≠ 16 ∧ k ≠ 20 → IFr K V n39 (k, a, b, t) := fun k a b t h1 h2 => ⟨h1, fun h => absurd h (by omega), fun h => absurd h (by omega), fun h => absurd h (by omega), fun h => absurd h (by omega), fun h => absurd h (by omega), fun h => absurd h (by omega), fun h => absurd h (by omega)⟩
  have n0 : ∀ (a b t : Int), (a = -1 ∨ a = 0 ∨ ∃ i, i < 1000 ∧ K i = 3 ∧ V i = a) → IFr K V n39 (0, a, b, t) := fun a b t h => ⟨by dsimp only; omega, fun _ => h, fun h => absurd h (by dsimp only; omega), fun h => absurd h (by dsimp only; omega), fun h => absurd h (by dsimp only; omega), fun h => absurd h (by dsimp only; omega), fun h => absurd h (by dsimp only; omega), fun h => absurd h (by dsimp only; omega)⟩
  have n15 : ∀ (k a b t : Int), k = 15 ∨ k = 16 → 0 ≤ b ∧ b ≤ 4300 → IFr K V n39 (k, a, b, t) := fun k a b t hk h => ⟨by dsimp only; omega, fun h => absurd h (by dsimp only; omega), fun h => absurd h (by dsimp only; omega), fun h => absurd h (by dsimp only; omega), fun h => absurd h (by dsimp only; omega), fun h => absurd h (by dsimp only; omega), fun _ => h, fun h => absurd h (by dsimp only; omega)⟩
  have n20 : ∀ (a b t : Int), 0 ≤ a ∧ a ≤ 4300 → IFr K V n39 (20, a, b, t) := fun a b t h => ⟨by dsimp only; omega, fun h => absurd h (by dsimp only; omega), fun h => absurd h (by dsimp only; omega), fun h => absurd h (by dsimp only; omega), fun h => absurd h (by dsimp only; omega), fun h => absurd h (by dsimp only; omega), fun h => absurd h (by dsimp only; omega), fun _ => h⟩
  have n9 : ∀ (k a b t : Int), k = 9 ∨ k = 10 → 0 ≤ a ∧ a < n39 → IFr K V n39 (k, a, b, t) := fun k a b t hk h => ⟨by dsimp only; omega, fun h => absurd h (by dsimp only; omega), fun h => absurd h (by dsimp only; omega), fun h => absurd h (by dsimp only; omega), fun _ => h, fun h => absurd h (by dsimp only; omega), fun h => absurd h (by dsimp only; omega), fun h => absurd h (by dsimp only; omega)⟩
  unfold ie
  dsimp only
  rw [← hb] at hd
  intro r hr
  split at hr
  all_goals first
    | (cases hr; done)
    | skip
  all_goals simp only [List.mem_cons, List.not_mem_nil, or_false] at hr
  · subst hr; obtain ⟨hc, -, -⟩ := pr_q_in hp; exact n0 _ _ _ (Or.inr hc.2.2)
  · subst hr; exact n0 _ _ _ (Or.inl rfl)
  · subst hr; exact n0 _ _ _ (Or.inr (Or.inl rfl))
  · subst hr; exact pl _ _ _ _ (by decide) (by decide)
  · subst hr
    obtain ⟨hc, -, -⟩ := pr_q_in hp
    obtain ⟨-, ⟨t1, -, t3, t4⟩, v1, v2, -⟩ := hc
    dsimp only at t1 t3 t4 v1 v2
    exact ⟨by dsimp only; omega, fun h => absurd h (by dsimp only; omega), fun _ => ⟨t1, t3, t4, v1, by dsimp only; omega⟩, fun h => absurd h (by dsimp only; omega), fun h => absurd h (by dsimp only; omega), fun h => absurd h (by dsimp only; omega), fun h => absurd h (by dsimp only; omega), fun h => absurd h (by dsimp only; omega)⟩
  · subst hr; exact pl _ _ _ _ (by decide) (by decide)
  · subst hr; exact pl _ _ _ _ (by decide) (by decide)
  · subst hr
    obtain ⟨hc, -, -⟩ := pr_q_in hp
    exact ⟨by dsimp only; omega, fun h => absurd h (by dsimp only; omega), fun h => absurd h (by dsimp only; omega), fun _ => hc.2.2, fun h => absurd h (by dsimp only; omega), fun h => absurd h (by dsimp only; omega), fun h => absurd h (by dsimp only; omega), fun h => absurd h (by dsimp only; omega)⟩
  · subst hr; exact pl _ _ _ _ (by decide) (by decide)
  · subst hr; exact pl _ _ _ _ (by decide) (by decide)
  · subst hr; exact n9 _ _ _ _ (Or.inl rfl) (h39' rfl)
  · subst hr
    refine n9 _ _ _ _ (Or.inr rfl) ?_
    obtain ⟨g, ty, so, bs, oc⟩ := s
    cases oc with
    | nil =>
      exfalso
      have rq := B.2.2.2.1.1
      unfold pr at hp
      dsimp only at hp rq
      cases hq : p.2.2.1 with
      | nil => rw [hq] at hp; cases hp
      | cons q l => rw [hq] at rq; exact rq
    | cons k l => exact h39 k List.mem_cons_self
  · subst hr
    obtain ⟨hc, -, -⟩ := pr_q_in hp
    obtain ⟨t1, -, t3, t4⟩ := hc.2.2.2.1
    exact ⟨by dsimp only; omega, fun h => absurd h (by dsimp only; omega), fun h => absurd h (by dsimp only; omega), fun h => absurd h (by dsimp only; omega), fun h => absurd h (by dsimp only; omega), fun _ => ⟨t1, t3, t4⟩, fun h => absurd h (by dsimp only; omega), fun h => absurd h (by dsimp only; omega)⟩
  · rcases hr with rfl | rfl <;> exact pl _ _ _ _ (by decide) (by decide)
  · rcases hr with rfl | rfl <;> exact pl _ _ _ _ (by decide) (by decide)
  · subst hr; exact n15 _ _ _ _ (Or.inl rfl) (by omega)
  · rcases hr with rfl | rfl
    · exact n15 _ _ _ _ (Or.inr rfl) (by omega)
    · exact n20 _ _ _ (by omega)
  · rcases hr with rfl | rfl
    · exact n20 _ _ _ (by omega)
    · exact pl _ _ _ _ (by decide) (by decide)
  · rcases hr with rfl | rfl
    · exact n20 _ _ _ (by omega)
    · exact pl _ _ _ _ (by decide) (by decide)
  · rcases hr with rfl | rfl
    · exact n20 _ _ _ (by have := h9 rfl; omega)
    · exact pl _ _ _ _ (by decide) (by decide)
  · subst hr; exact n15 _ _ _ _ (Or.inl rfl) (by omega)
  · rcases hr with rfl | rfl | rfl
    · exact n15 _ _ _ _ (Or.inr rfl) (by omega)
    · exact n20 _ _ _ (by omega)
    · exact pl _ _ _ _ (by decide) (by decide)
  · subst hr; exact pl _ _ _ _ (by decide) (by decide)
  · rcases hr with rfl | rfl <;> exact pl _ _ _ _ (by decide) (by decide)
  · rcases hr with rfl | rfl
    · exact n0 _ _ _ (Or.inr (Or.inl rfl))
    · exact pl _ _ _ _ (by decide) (by decide)
theorem ie_len (h33 : 0 ≤ s.1 254 33) (he : e.1 ≤ 34 ∨ e.1 = 49) (B : bd K V pE S (e :: es) p s c) (hp : pr pw K V e p = .inr p1) (hm : mi V e s = .inr s1) (B1 : bd K V pE S es p1 s1 c1) : s1.1 254 33 = s.1 254 33 + ((ie e s).length : Int) := (ie_ev he hp hm h33 B.2.2.1).2.1
/-- facts about all items, event by event -/
theorem it_all {Q : Nat → Prop} (B : bd K V pE S (e :: es) p s c) (hp : pr pw K V e p = .inr p1) (hm : mi V e s = .inr s1) (B1 : bd K V pE S es p1 s1 c1) (H : ∀ k : Nat, (k : Int) < s.1 254 33 → Q k) (h : ∀ j r, (ie e s)[j]? = some r → Q ((s.1 254 33).toNat + j)) : ∀ k : Nat, (k : Int) < s1.1 254 33 → Q k := by
  have h33 : 0 ≤ s.1 254 33 := B.2.1.1.1.2.2.2.1.1
  intro k hk
  by_cases c1 : (k : Int) < s.1 254 33
  · exact H k c1
  · rcases hq_ev B hp hm B1 with ⟨he, -⟩ | ⟨-, -, h2, -⟩ | ⟨-, -, h2⟩
    · have hl := ie_len h33 he B hp hm B1
      have hj : k - (s.1 254 33).toNat < (ie e s).length := by omega
      have := h (k - (s.1 254 33).toNat) _ (List.getElem?_eq_getElem hj)
      rw [show (s.1 254 33).toNat + (k - (s.1 254 33).toNat) = k by omega] at this
      exact this
    · omega
    · omega
theorem ie_body {j : Nat} {r : Int × Int × Int × Int} (h : (ie e s)[j]? = some r) : e.1 ≤ 34 ∨ e.1 = 49 := by
  obtain ⟨n, x, y, z⟩ := e
  dsimp only
  by_cases c : n ≤ 34 ∨ n = 49
  · exact c
  · exfalso
    unfold ie at h
    dsimp only at h
    split at h
    all_goals first
      | (omega)
      | (cases h; done)
theorem rqS_lt {sub : Int} : ∀ {oc : List Int} {qs : List (Int × Int × Nat)}, rqS S.1 sub oc qs → ∀ k ∈ oc, 0 ≤ k ∧ k < S.1 254 39
  | [], _, _, _, h => by cases h
  | c :: cs, [], R, _, _ => R.elim
  | c :: cs, q :: qs, R, k, h => by
    rcases List.mem_cons.1 h with rfl | h
    · exact ⟨R.1.1, R.1.2.1⟩
    · exact rqS_lt R.2 k h
/-- all items -/
theorem IF_ev (B : bd K V pE S (e :: es) p s c) (hp : pr pw K V e p = .inr p1) (hm : mi V e s = .inr s1) (B1 : bd K V pE S es p1 s1 c1) (M1 : mx s1.1 S.1) (Y1 : my s1.1 S.1) (L : LB c) (H : ∀ k : Nat, (k : Int) < s.1 254 33 → IFr K V (S.1 254 39) (row4 S.1 k)) : ∀ k : Nat, (k : Int) < s1.1 254 33 → IFr K V (S.1 254 39) (row4 S.1 k) := by
  refine it_all B hp hm B1 H (fun j r hj => ?_)
  have he := ie_body hj
  obtain ⟨a1, a2, a3, a4, a5⟩ := ie_end he hp hm B.2.1.1 B.2.2.1 M1 Y1 hj
  have := IFr_ev B hp L (S.1 254 39) (rqS_lt B.2.2.2.1.1) (fun z => ⟨B.2.1.1.1.2.2.2.2.1, by
    have h1 := M1.1 39 (Or.inr (Or.inr (Or.inr (Or.inr rfl))))
    have h2 : s1.1 254 39 = s.1 254 39 + 1 := by
      have a := B.2.1.2.1.2.1
      have b := B1.2.1.2.1.2.1
      have w := pr_wt hp 1
      rw [z] at w
      have : pw 1 11 = 4 := rfl
      omega
    omega⟩) r (List.mem_of_getElem? hj)
  obtain ⟨i1, i2, i3, i4, i5, i6, i7, i8⟩ := this
  unfold IFr row4
  dsimp only
  rw [a1, a3, a4]
  exact ⟨i1, fun h => by rw [a2 (by omega) (by omega)]; exact i2 h, i3, fun h => by rw [a2 (by omega) (by omega)]; exact i4 h, fun h => by rw [a2 (by omega) (by omega)]; exact i5 h, i6, i7, fun h => by rw [a2 (by omega) (by omega)]; exact i8 h⟩
end
