/-! PURE LAYER, 135: the code of a text, sub by sub and item by item -/
def exf {α : Type} (f : Nat → List α) (N : Nat) (l : List (List α)) : Nat → List α := fun k => if k < N then f k else (l[k - N]?).getD []
section
variable {α : Type} {f : Nat → List α} {N k : Nat} {l : List (List α)}
theorem exf_lo (h : k < N) : exf f N l k = f k := by unfold exf; rw [if_pos h]
theorem exf_hi {j : Nat} {x : List α} (h : l[j]? = some x) : exf f N l (N + j) = x := by unfold exf; rw [if_neg (by omega), show N + j - N = j by omega, h]; rfl
theorem rgn_exf : ∀ m, m ≤ l.length → rgn (exf f N l) N m = (l.take m).flatten
  | 0, _ => by rw [List.take_zero]; rfl
  | m + 1, h => by
    show rgn (exf f N l) N m ++ exf f N l (N + m) = _
    rw [rgn_exf m (by omega), exf_hi (List.getElem?_eq_getElem (by omega)), List.take_succ_eq_append_getElem (by omega), List.flatten_append]
    simp
end
/-- lines ahead of a sub's items -/
def vH (b21 : Nat) (c0 S : am_H) (s : Nat) : List (Int × Int × Int) := (14, (b21 : Int) + s, S 268 s) :: (if S 264 s = 3 then [(0, 1, 0), (1, 4, 0)] else if S 264 s = 1 then [(0, 0, if S 262 (S 263 s).toNat ≤ 1 then 1 else S 262 (S 263 s).toNat), (15, sysS c0 28 29, 1), (1, 4, 0)] else [])
/-- labels that are placed -/
def lbs (l : List (Int × Int × Int)) : List Int := l.filterMap (fun v => if v.1 = 11 then some v.2.1 else none)
theorem lbs_app (l m : List (Int × Int × Int)) : lbs (l ++ m) = lbs l ++ lbs m := List.filterMap_append
theorem lbs_nil {l : List (Int × Int × Int)} (h : ∀ v ∈ l, v.1 ≠ 11) : lbs l = [] := by
  unfold lbs
  rw [List.filterMap_eq_nil_iff]
  intro v hv
  rw [if_neg (h v hv)]
/-- labels that are to be placed -/
def opl : List Nat → List (Int × Int × Int × Int) → List Int
  | a :: pl, q :: st => (if a = 1 then [q.2.1] else if a = 2 ∨ a = 3 ∨ a = 4 then [q.2.2.1] else []) ++ opl pl st
  | _, _ => []
def le (n : Nat) (l : Int) (st : List (Int × Int × Int × Int)) : List Int := match n with
  | 25 => [l]
  | 26 => [(hd4 st).2.1]
  | 27 => [(hd4 st).2.1]
  | 28 => [(hd4 st).2.2.1]
  | 30 => [l]
  | 31 => [l]
  | 32 => [(hd4 st).2.2.1]
  | _ => []
def ln (n : Nat) : Nat := match n with
  | 25 => 2
  | 26 => 1
  | 30 => 2
  | 31 => 1
  | _ => 0
/-- blocks that are open: lines of their jumps -/
def bkf (S : am_H) (f : Nat → List (Int × Int × Int)) (n : Int) : List Nat → List (Int × Int × Int × Int) → List (Int × Int × Int × Int) → Prop
  | [], [], [] => True
  | a :: pl, b :: bs, q :: st => ((a = 1 → (b.2.2.1.toNat : Int) < n ∧ ∃ x, f b.2.2.1.toNat = [(13, x, 0), (12, q.2.1, 0), (11, x, 0)]) ∧ (a = 2 → (b.2.2.1.toNat : Int) < n ∧ f b.2.2.1.toNat = [(12, q.2.2.1, 0)]) ∧ (a = 3 ∨ a = 4 → 0 ≤ b.2.2.2 ∧ b.2.2.2 < n ∧ S 277 b.2.2.2.toNat = 20 ∧ f b.2.2.2.toNat = [(11, q.2.1, 0)]) ∧ (a = 4 → (b.2.2.1.toNat : Int) < n ∧ ∃ x, f b.2.2.1.toNat = [(13, x, 0), (12, q.2.2.1, 0), (11, x, 0)])) ∧ bkf S f n pl bs st
  | _, _, _ => False
theorem bkf.mono {S : am_H} {f f' : Nat → List (Int × Int × Int)} {n n' : Int} (hn : n ≤ n') (hf : ∀ k : Nat, (k : Int) < n → f' k = f k) : ∀ {pl : List Nat} {bs st : List (Int × Int × Int × Int)}, bkf S f n pl bs st → bkf S f' n' pl bs st
  | [], [], [], _ => trivial
  | a :: pl, b :: bs, q :: st, ⟨⟨h1, h2, h3, h4⟩, h5⟩ => by
    refine ⟨⟨fun z => ?_, fun z => ?_, fun z => ?_, fun z => ?_⟩, bkf.mono hn hf h5⟩
    · obtain ⟨x1, x2⟩ := h1 z
      exact ⟨by omega, by rw [hf _ x1]; exact x2⟩
    · obtain ⟨x1, x2⟩ := h2 z
      exact ⟨by omega, by rw [hf _ x1]; exact x2⟩
    · obtain ⟨x0, x1, x2, x3⟩ := h3 z
      exact ⟨x0, by omega, x2, by rw [hf _ (by omega)]; exact x3⟩
    · obtain ⟨x1, x2⟩ := h4 z
      exact ⟨by omega, by rw [hf _ x1]; exact x2⟩
  | [], [], _ :: _, z => z.elim
  | [], _ :: _, [], z => z.elim
  | [], _ :: _, _ :: _, z => z.elim
  | _ :: _, [], [], z => z.elim
  | _ :: _, [], _ :: _, z => z.elim
  | _ :: _, _ :: _, [], z => z.elim
/-- a jump and its goal -/
def JTf (S : am_H) (f : Nat → List (Int × Int × Int)) (n : Int) (k : Nat) : Prop :=
  ∃ y, ((∃ x, f k = [(13, x, 0), (12, y, 0), (11, x, 0)]) ∨ S 277 k = 16 ∧ f k = [(12, y, 0)]) ∧ (0 ≤ S 278 k ∧ S 278 k < n) ∧ S 277 (S 278 k).toNat = 20 ∧ f (S 278 k).toNat = [(11, y, 0)]
theorem JTf.mono {S : am_H} {f f' : Nat → List (Int × Int × Int)} {n n' : Int} (hn : n ≤ n') (hf : ∀ k : Nat, (k : Int) < n → f' k = f k) {k : Nat} (hk : (k : Int) < n) (J : JTf S f n k) : JTf S f' n' k := by
  obtain ⟨y, h1, h2, h3, h4⟩ := J
  exact ⟨y, by rw [hf k hk]; exact h1, by omega, h3, by rw [hf _ (by omega)]; exact h4⟩
theorem nodup_ins {A B : List Int} {x : Int} (h : (A ++ B).Nodup) (hx : x ∉ A ++ B) : (A ++ [x] ++ B).Nodup := by
  rw [List.append_assoc]
  show (A ++ x :: B).Nodup
  exact (List.perm_middle.nodup_iff).2 (List.nodup_cons.2 ⟨hx, h⟩)
section
variable {K P V sc ss : Nat → Int} {cs : Nat → Nat} {b21 b15 : Nat} {c0 : am_H} {pE : pr_S} {S : mi_S} {e : gx_V} {es : List gx_V} {p p1 : pr_S} {s s1 : mi_S} {c c1 : ce_S}
theorem ldk_11 {k pl : Int} : ∀ v ∈ ldk k pl, v.1 ≠ 11 := by
  unfold ldk; split <;> intro v hv <;> simp at hv
  · rcases hv with rfl | rfl <;> simp
  · subst hv; simp
theorem stk_11 {k pl : Int} : ∀ v ∈ stk k pl, v.1 ≠ 11 := by
  unfold stk; split <;> intro v hv <;> simp at hv
  · rcases hv with rfl | rfl | rfl <;> simp
  · subst hv; simp
theorem opE_11 {g : am_H} {x : Int} {b : Bool} : ∀ v ∈ opE g x b, v.1 ≠ 11 := by
  unfold opE
  split <;> intro v hv <;> rw [List.mem_singleton] at hv <;> subst hv
  · show opk x ≠ 11
    unfold opk
    repeat' split
    all_goals decide
  · show (15 : Int) ≠ 11
    decide
theorem chE_11 {g : am_H} {sa : Int} {fr : Nat} {b : Bool} : ∀ m k, ∀ v ∈ chE g sa fr b m k, v.1 ≠ 11
  | 0, _, v, hv => by cases hv
  | m + 1, k, v, hv => by
    unfold chE at hv
    rcases List.mem_cons.1 hv with rfl | hv
    · show (0 : Int) ≠ 11; decide
    rcases List.mem_cons.1 hv with rfl | hv
    · show (15 : Int) ≠ 11; decide
    · exact chE_11 m (k + 1) v hv
theorem oE_lbs {h : am_H} {l t : Int} {st : List (Int × Int × Int × Int)} : lbs (oE K P V sc ss cs b21 b15 h c0 e p l t st).1 = le e.1 l st := by
  obtain ⟨n, x, y, z⟩ := e
  unfold oE
  dsimp only
  split
  all_goals first
    | rfl
    | (exact lbs_nil ldk_11)
    | (exact lbs_nil stk_11)
    | (exact lbs_nil opE_11)
    | skip
  · refine lbs_nil fun v hv => ?_
    rcases List.mem_cons.1 hv with rfl | hv
    · show (0 : Int) ≠ 11; decide
    rcases List.mem_cons.1 hv with rfl | hv
    · show (15 : Int) ≠ 11; decide
    · exact chE_11 _ _ v hv
  · split
    · rfl
    · split
      · rfl
      · exact lbs_nil ldk_11
  · split
    · rfl
    · split <;> rfl
  · rename_i h1 h2 h3 h4 h5 h6 h7 h8 h9 h10 h11 h12 h20 h22 h23 h24 h25 h26 h27 h28 h30 h31 h32 h33 h34 h48 h49
    unfold le
    split
    all_goals first
      | rfl
      | (exact absurd rfl ‹_›)
      | (exfalso; omega)
theorem oE_l {h : am_H} {l t : Int} {st : List (Int × Int × Int × Int)} : (oE K P V sc ss cs b21 b15 h c0 e p l t st).2.2.2.1 = l + (ln e.1 : Int) := by
  obtain ⟨n, x, y, z⟩ := e
  unfold oE
  dsimp only
  split
  all_goals first
    | (show l = l + ((0 : Nat) : Int); omega)
    | rfl
    | (split
       · show l = l + ((0 : Nat) : Int); omega
       · split <;> (show l = l + ((0 : Nat) : Int); omega))
    | skip
  rename_i h1 h2 h3 h4 h5 h6 h7 h8 h9 h10 h11 h12 h20 h22 h23 h24 h25 h26 h27 h28 h30 h31 h32 h33 h34 h48 h49
  unfold ln
  split
  all_goals first
    | (exact (h25 rfl).elim)
    | (exact (h26 rfl).elim)
    | (exact (h30 rfl).elim)
    | (exact (h31 rfl).elim)
    | (show l = l + ((0 : Nat) : Int); omega)
theorem oE_st {h : am_H} {l t : Int} {st : List (Int × Int × Int × Int)} (hn : pnx e.1) : (oE K P V sc ss cs b21 b15 h c0 e p l t st).2.2.1 = st ∧ le e.1 l st = [] ∧ ln e.1 = 0 := by
  obtain ⟨n, x, y, z⟩ := e
  obtain ⟨h1, h2, h3, h4, h5, h6, h7, h8⟩ := hn
  dsimp only at h1 h2 h3 h4 h5 h6 h7 h8
  refine ⟨?_, ?_, ?_⟩
  · unfold oE
    dsimp only
    split
    all_goals first
      | rfl
      | (exfalso; omega)
      | (split <;> first | rfl | (split <;> rfl))
  · unfold le; dsimp only; split <;> first | rfl | (exfalso; omega)
  · unfold ln; dsimp only; split <;> first | rfl | (exfalso; omega)
theorem ie_kind (hn : pnx e.1) : ∀ r ∈ ie e s, r.1 ≠ 15 ∧ r.1 ≠ 16 ∧ r.1 ≠ 17 ∧ r.1 ≠ 20 := by
  obtain ⟨n, x, y, z⟩ := e
  obtain ⟨h1, h2, h3, h4, h5, h6, h7, h8⟩ := hn
  dsimp only at h1 h2 h3 h4 h5 h6 h7 h8
  unfold ie
  dsimp only
  intro r hr
  split at hr
  all_goals first
    | (cases hr; done)
    | (exfalso; omega)
    | skip
  all_goals simp only [List.mem_cons, List.not_mem_nil, or_false] at hr
  all_goals first
    | (subst hr; dsimp only; omega)
    | (rcases hr with rfl | rfl <;> (dsimp only; omega))
theorem vH_ev (B : bd K V pE S (e :: es) p s c) (hp : pr pw K V e p = .inr p1) (hm : mi V e s = .inr s1) (B1 : bd K V pE S es p1 s1 c1) (h48 : e.1 = 48) {l t : Int} {st : List (Int × Int × Int × Int)} (h263 : S.1 263 (p.1 3 - 1) = (p.1 0 : Int) - 1) (h0 : 1 ≤ p.1 0) : (oE K P V sc ss cs b21 b15 S.1 c0 e p l t st).1 = vH b21 c0 S.1 (p.1 3 - 1) := by
  obtain ⟨⟨g1, g2⟩, ⟨Rv1, Rm1, -⟩, -⟩ := B1
  have hfz : fz p1 s1.1 S.1 := fz_run (w := pw) es g1 g2 Rv1
  have h3 := Rv1.2.2.1.2
  obtain ⟨n, a, b, d⟩ := e
  dsimp only at h48
  subst h48
  obtain ⟨hc, -, hq'⟩ := pr_q_in hp
  have e9 : p1.1 9 = 6 := by rw [hq']; rfl
  have e3 : p1.1 3 = p.1 3 := by rw [hq']; rfl
  have e5 : p1.1 5 = p.1 5 := by rw [hq']; rfl
  rw [e9, e3] at h3
  have h3 := h3 (by decide)
  have h268 : S.1 268 (p.1 3 - 1) = (p.1 5 : Int) := by
    rw [(hfz.2.2 (p.1 3 - 1) (Or.inr ⟨by omega, by omega, by omega⟩)).1]
    have := (Rv1.2.2.2.2.2 (by omega)).2
    rw [e3, e5] at this
    exact this
  show (14, (b21 : Int) + ((p.1 3 : Int) - 1), (p.1 5 : Int)) :: (if S.1 264 ((p.1 3 : Int) - 1).toNat = 3 then [(0, 1, 0), (1, 4, 0)] else if S.1 264 ((p.1 3 : Int) - 1).toNat = 1 then [(0, 0, if S.1 262 (p.1 0 - 1) ≤ 1 then 1 else S.1 262 (p.1 0 - 1)), (15, sysS c0 28 29, 1), (1, 4, 0)] else []) = _
  unfold vH
  rw [h268, h263, show ((p.1 3 : Int) - 1).toNat = p.1 3 - 1 by omega, show ((p.1 0 : Int) - 1).toNat = p.1 0 - 1 by omega, show (((p.1 3 - 1 : Nat) : Int)) = (p.1 3 : Int) - 1 by omega]
/-- the code, with labels and jumps -/
def CI (K P V sc ss : Nat → Int) (cs : Nat → Nat) (b21 b15 bv bl : Nat) (c0 S : am_H) (p : pr_S) (s : mi_S) (c : ce_S) (f : Nat → List (Int × Int × Int)) : Prop :=
  (c.1 8 3 = (bv : Int) + ((tU (vH b21 c0 S) f (S 269) (hq p) (s.1 254 33).toNat).length : Nat) ∧ rws c.1 9 bv (tU (vH b21 c0 S) f (S 269) (hq p) (s.1 254 33).toNat)) ∧
  (∀ k : Nat, (k : Int) < s.1 254 33 → PV K P V sc ss cs b21 b15 c0 S k (f k)) ∧
  ((lbs (tU (vH b21 c0 S) f (S 269) (hq p) (s.1 254 33).toNat) ++ opl p.2.1 c.2.2.2.2.2.2).Nodup ∧ (∀ x ∈ lbs (tU (vH b21 c0 S) f (S 269) (hq p) (s.1 254 33).toNat) ++ opl p.2.1 c.2.2.2.2.2.2, (bl : Int) ≤ x ∧ x < c.1 8 4) ∧ (bl : Int) ≤ c.1 8 4 ∧ 2 * (c.1 8 4 - (bl : Int)) ≤ (p.2.2.2 6 : Int) + (p.2.1.count 3 : Nat)) ∧
  bkf S f (s.1 254 33) p.2.1 s.2.2.2.1 c.2.2.2.2.2.2 ∧
  (∀ k : Nat, (k : Int) < s.1 254 33 → S 277 k = 15 ∨ S 277 k = 16 → k ∈ hol p.2.1 s.2.2.2.1 ∨ JTf S f (s.1 254 33) k)
end
