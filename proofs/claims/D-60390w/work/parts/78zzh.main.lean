/-! RUN, 29: what stands about the items of a text; both runs, item by item -/
section
variable (lab fs gv : Nat → Nat) (h0 g0 : am_H) (at' : Nat → Nat × List Nat) (P : Nat → Int) (fr : Nat → Prop) (qp : Nat → Nat × Nat) (N bs : Nat)
/-- a sub of the text -/
def SubF (u : Nat) : Prop := ∃ m' nl k1 : Nat, (u < 61 ∧ lat h0 lab fs gv 1 (fs (bs + u), 0) (14, bs + u, nl) ∧ fs (bs + u) + 12 + 5 * nl < 32768) ∧ gv (bs + u) = m' + (if g0 264 u = 3 then 1 else 0) ∧ (g0 267 u = (m' : Int) ∧ m' ≤ 12 ∧ g0 268 u = (nl : Int) ∧ nl ≤ 12) ∧ (g0 264 u = 1 ∨ g0 264 u = 2 ∨ g0 264 u = 3) ∧ g0 269 u = (k1 : Int) ∧ (k1 < N ∧ g0 281 k1 = (u : Int) ∧ at' k1 = (0, [])) ∧ (g0 264 u = 1 → (0 ≤ g0 263 u ∧ g0 263 u < 13) ∧ g0 262 (g0 263 u).toNat ≤ 1000) ∧ LU h0 lab fs gv 1 (fs (bs + u) + 12 + 5 * nl, 0) (hdN g0 u) ∧ qp k1 = lfold (fs (bs + u) + 12 + 5 * nl, 0) (hdN g0 u)
/-- a value more, a value less -/
def hmv (k : Nat) (x y : Nat) : Prop := x ≤ (at' k).1 ∧ at' (k + 1) = ((at' k).1 - x + y, (at' k).2)
/-- what an item is, by its kind -/
def KD (k s : Nat) (vs : List vl) : Prop :=
  (g0 277 k = 0 ∧ (g0 278 k = -1 ∨ 0 ≤ g0 278 k ∧ g0 278 k ≤ 32767) ∧ vs = (if g0 278 k < 0 then [(0, 0, 0), (7, 0, 0)] else [(0, 0, (g0 278 k).toNat)]) ∧ hmv at' k 0 1) ∨
  (g0 277 k = 1 ∧ fr k ∧ hmv at' k 0 1 ∧ ∃ cl pl, vs = strN cl ∧ cl.length ≤ 4000 ∧ g0 279 k = (cl.length : Int) ∧ g0 303 k = pl ∧ (0 ≤ pl ∧ pl + 1 + cl.length ≤ 4000) ∧ ∀ (j c : Nat), cl[j]? = some c → g0 304 (pl.toNat + 1 + j) = (c : Int) ∧ c ≤ 32767) ∨
  (g0 277 k = 3 ∧ fr k ∧ vs = [(0, 4, 0)] ∧ g0 264 s ≠ 2 ∧ hmv at' k 0 1) ∨
  (g0 277 k = 4 ∧ fr k ∧ hmv at' k 0 1 ∧ ∃ v : Nat, g0 278 k = (v : Int) ∧ VK g0 s v ∧ vs = ldN g0 s v) ∨
  (g0 277 k = 5 ∧ fr k ∧ vs = [(2, 0, 0), (17, 1, 0)] ∧ hmv at' k 2 1) ∨
  (g0 277 k = 6 ∧ fr k ∧ vs = opN (g0 278 k) ∧ hmv at' k 2 1 ∧ (g0 278 k = 43 ∨ g0 278 k = 45 ∨ g0 278 k = 38 ∨ g0 278 k = 124 ∨ g0 278 k = 60 ∨ g0 278 k = 62 ∨ g0 278 k = 61 ∨ g0 278 k = 42 ∨ g0 278 k = 47)) ∨
  (g0 277 k = 7 ∧ fr k ∧ vs = [(4, 0, 0)] ∧ hmv at' k 1 1) ∨
  (g0 277 k = 8 ∧ fr k ∧ vs = [(7, 0, 0)] ∧ hmv at' k 1 1) ∨
  (g0 277 k = 9 ∧ fr k ∧ ∃ c : Nat, g0 278 k = (c : Int) ∧ c < 1000 ∧ (g0 285 c = 1 → 0 ≤ g0 286 c ∧ VK g0 s (g0 286 c).toNat) ∧ (g0 285 c = 2 → g0 264 s ≠ 2) ∧ vs = obN g0 s c ∧ hmv at' k 0 (if g0 285 c = 1 ∨ g0 285 c = 2 then 1 else 0)) ∨
  (g0 277 k = 10 ∧ fr k ∧ ∃ c : Nat, g0 278 k = (c : Int) ∧ c < 1000 ∧ ((∃ ci li u n : Nat, g0 287 c = (ci : Int) ∧ (ci, li, u, n) ∈ sysT ∧ g0 288 c - g0 297 ci = (li : Int) ∧ (0 ≤ g0 288 c ∧ g0 288 c ≤ 1000) ∧ g0 284 c + (if 0 < g0 285 c then 1 else 0) = (n : Int) ∧ (0 ≤ g0 284 c ∧ g0 284 c ≤ 100) ∧ vs = [(15, u, n)] ∧ hmv at' k n 1) ∨ (∃ u : Nat, 8 ≤ g0 287 c ∧ g0 288 c = (u : Int) ∧ SubF lab fs gv h0 g0 at' qp N bs u ∧ vs = [(15, bs + u, gv (bs + u))] ∧ hmv at' k (gv (bs + u)) 1))) ∨
  (g0 277 k = 11 ∧ ∃ p t : Nat, vs = [(20, p, 0)] ∧ p ≤ 32000 ∧ g0 303 k = (p : Int) ∧ P t = (p : Int) ∧ at' (k + 1) = ((at' k).1, t :: (at' k).2) ∧ (at' k).2.length < 30) ∨
  (g0 277 k = 12 ∧ vs = [] ∧ (at' k).2 ≠ [] ∧ at' (k + 1) = ((at' k).1, (at' k).2.tail) ∧ ¬ fr (k + 1)) ∨
  (g0 277 k = 13 ∧ fr k ∧ hmv at' k 1 0 ∧ ∃ v : Nat, g0 278 k = (v : Int) ∧ VK g0 s v ∧ vs = stN g0 s v) ∨
  (g0 277 k = 14 ∧ fr k ∧ vs = [(1, 5, 0), (18, 1, 0)] ∧ hmv at' k 2 0) ∨
  (g0 277 k = 15 ∧ hmv at' k 1 0 ∧ ∃ x y t : Nat, vs = [(13, x, 0), (12, y, 0), (11, x, 0)] ∧ g0 278 k = (t : Int) ∧ t < 5000 ∧ g0 277 t = 20 ∧ t + 1 < N ∧ g0 281 (t + 1) = (s : Int) ∧ lab y = (qp (t + 1)).1 ∧ (qp (t + 1)).2 = 0 ∧ at' (t + 1) = ((at' k).1 - 1, (at' k).2) ∧ ¬ fr (t + 1) ∧ k < t + 1) ∨
  (g0 277 k = 16 ∧ ∃ y t : Nat, vs = [(12, y, 0)] ∧ g0 278 k = (t : Int) ∧ t < 5000 ∧ g0 277 t = 20 ∧ t + 1 < N ∧ g0 281 (t + 1) = (s : Int) ∧ lab y = (qp (t + 1)).1 ∧ (qp (t + 1)).2 = 0 ∧ at' (t + 1) = at' k ∧ ¬ fr (t + 1) ∧ (k < t + 1 ∨ g0 277 (t + 1) = 17)) ∨
  (g0 277 k = 17 ∧ ∃ (p t : Nat) (tl : List Nat), vs = [(20, p, 0)] ∧ p ≤ 32000 ∧ P t = (p : Int) ∧ (at' k).2 = t :: tl ∧ at' (k + 1) = at' k) ∨
  (g0 277 k = 18 ∧ vs = [(16, 0, 0)] ∧ (qp k).2 = 0 ∧ (at' k).1 = 1) ∨
  (g0 277 k = 19 ∧ fr k ∧ vs = [(1, 5, 0)] ∧ hmv at' k 1 0) ∨
  (g0 277 k = 20 ∧ (∃ x : Nat, vs = [(11, x, 0)]) ∧ at' (k + 1) = at' k ∧ ¬ fr (k + 1))
def ItF (k : Nat) : Prop := ∃ (s : Nat) (vs : List vl), k < 5000 ∧ g0 281 k = (s : Int) ∧ LU h0 lab fs gv 1 (qp k) vs ∧ ((qp k).2 ≠ 0 → h0 16 (qp k).1 = ((qp k).2 : Int)) ∧ ((at' k).1 ≤ 352 ∧ (at' k).2.length ≤ 30) ∧ (g0 277 k ≠ 18 → g0 277 k ≠ 16 → k + 1 < N ∧ g0 281 (k + 1) = (s : Int) ∧ qp (k + 1) = lfold (qp k) vs) ∧ (g0 277 k ≠ 11 → g0 277 k ≠ 17 → g0 277 k ≠ 12 → g0 277 k ≠ 20 → fr (k + 1) → fr k) ∧ KD lab fs gv h0 g0 at' P fr qp N bs k s vs
end
section
variable {ky : List Int} {lab fs gv : Nat → Nat} {h0 g0 : am_H} {at' : Nat → Nat × List Nat} {P : Nat → Int} {fr : Nat → Prop} {qp : Nat → Nat × Nat} {w0 N bs : Nat} {h g : am_H} {r : Nat → Int} {ab k : Nat} {s rk : Nat} {as ls : List Int} {th : Option Int} {st : List Int} {rs : List uF} {G : vG} {L n d : Nat} {q q2 : Nat × Nat} {a dd : Int} {vs : List vl} {v : Int} {f : uF}
theorem HT_ust {hb : ∀ k, k < N → (at' k).1 ≤ 352} : ∀ {rs : List uF} {rk : Nat}, HT g0 at' N rk rs → ust rs ≤ 352 * rs.length
  | [], _, _ => Nat.le_refl _
  | f :: rs, rk, ⟨h1, h2⟩ => by
    have := hb rk h1.2.1
    have h3 := HT_ust (hb := hb) h2
    have h4 := h1.1
    show ust rs + (uSt f).length ≤ 352 * (rs.length + 1)
    omega
theorem AR.rg {b : Nat} {l : List Int} (A : AR r b l) (R : ∀ k, rg16 (r k)) : ∀ w ∈ l, rg16 w := by
  intro w hw
  obtain ⟨i, hi⟩ := List.getElem?_of_mem hw
  rw [← A i w hi]; exact R _
theorem SK.rg {b : Nat} {l : List Int} (A : SK r b l) (R : ∀ k, rg16 (r k)) : ∀ w ∈ l, rg16 w := by
  intro w hw
  obtain ⟨i, hi⟩ := List.getElem?_of_mem hw
  rw [← A.get i w hi]; exact R _
theorem hgts_ch : ∀ (cl : List Nat) (m : Nat), hgts (chN cl) (m + 1) = m + 1
  | [], _ => rfl
  | c :: cl, m => by
    show hgts (chN cl) (m + 1 + 1 - 2 + 1) = m + 1
    rw [show m + 1 + 1 - 2 + 1 = m + 1 by omega]; exact hgts_ch cl m
theorem lin_ch : ∀ (cl : List Nat), ∀ l ∈ chN cl, lin l
  | [], l, h => by cases h
  | c :: cl, l, h => by
    have h : l = (0, 0, c) ∨ l = (15, 20, 2) ∨ l ∈ chN cl := by
      rcases List.mem_cons.1 h with h | h
      · exact Or.inl h
      · rcases List.mem_cons.1 h with h | h
        · exact Or.inr (Or.inl h)
        · exact Or.inr (Or.inr h)
    rcases h with rfl | rfl | h
    · exact Or.inl (Nat.zero_le _)
    · exact Or.inr (Or.inr (Or.inr (Or.inr rfl)))
    · exact lin_ch cl l h
theorem lin_ld (g : am_H) (s v : Nat) : (∀ l ∈ ldN g s v, lin l) ∧ (∀ l ∈ stN g s v, lin l) ∧ (∀ m, hgts (ldN g s v) m = m + 1) ∧ (∀ m, hgts (stN g s v) (m + 1) = m) := by
  have p0 : ∀ a b : Nat, lin (0, a, b) := fun _ _ => Or.inl (Nat.zero_le _)
  have p1 : ∀ a b : Nat, lin (1, a, b) := fun _ _ => Or.inl (by show 1 ≤ 10; decide)
  have p19 : ∀ a b : Nat, lin (19, a, b) := fun _ _ => Or.inr (Or.inr (Or.inr (Or.inl rfl)))
  have p17 : ∀ a b : Nat, lin (17, a, b) := fun _ _ => Or.inr (Or.inl rfl)
  have p18 : ∀ a b : Nat, lin (18, a, b) := fun _ _ => Or.inr (Or.inr (Or.inl rfl))
  unfold ldN stN
  refine ⟨?_, ?_, ?_, ?_⟩
  · split
    · intro l hl; rw [List.mem_singleton] at hl; rw [hl]; exact p0 _ _
    · split
      · intro l hl
        simp only [List.mem_cons, List.not_mem_nil, or_false] at hl
        rcases hl with rfl | rfl
        · exact p19 _ _
        · exact p17 _ _
      · split
        · intro l hl; rw [List.mem_singleton] at hl; rw [hl]; exact p0 _ _
        · intro l hl; rw [List.mem_singleton] at hl; rw [hl]; exact p0 _ _
  · split
    · intro l hl; rw [List.mem_singleton] at hl; rw [hl]; exact p1 _ _
    · split
      · intro l hl
        simp only [List.mem_cons, List.not_mem_nil, or_false] at hl
        rcases hl with rfl | rfl | rfl
        · exact p1 _ _
        · exact p19 _ _
        · exact p18 _ _
      · split
        · intro l hl; rw [List.mem_singleton] at hl; rw [hl]; exact p1 _ _
        · intro l hl; rw [List.mem_singleton] at hl; rw [hl]; exact p1 _ _
  · intro m
    split
    · rfl
    · split
      · rfl
      · split <;> rfl
  · intro m
    split
    · rfl
    · split
      · rfl
      · split <;> rfl
theorem lin_op (c : Int) : (∀ l ∈ opN c, lin l) ∧ ∀ m, hgts (opN c) (m + 2) = m + 1 := by
  have p1 : ∀ o a b : Nat, o ≤ 10 → lin (o, a, b) := fun _ _ _ h => Or.inl h
  have p15 : ∀ a b : Nat, lin (15, a, b) := fun _ _ => Or.inr (Or.inr (Or.inr (Or.inr rfl)))
  unfold opN
  constructor
  · intro l hl
    repeat' (split at hl)
    all_goals (rw [List.mem_singleton] at hl; rw [hl])
    all_goals first | exact p15 _ _ | exact p1 _ _ _ (by decide)
  · intro m
    repeat' split
    all_goals rfl
end
