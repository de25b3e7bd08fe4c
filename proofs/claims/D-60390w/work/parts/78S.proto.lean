/-! PURE LAYER, 73: what streams of events look like. A state: counts (0 classes, 1 statics, 2 fields, 3 subs, 4 parameters, 5 vars, 6 values on the stack, 8 letters, 9 where, 10 the token behind the last one, 11 whether a type is at hand, 12 and 13 whether the tables of a class's and of a sub's variables are fresh, 14 whether a type waits for its name, 15 the token behind a let's name, 16 whether a statement has begun, 17 whether a sub's sort has been told), open statements (0 if, 1 its block, 2 else, 3 while, 4 its block), open calls, weights -/
abbrev pr_S : Type := (Nat → Nat) × List Nat × List (Int × Int × Nat) × (Nat → Nat)
def pu (c : Nat → Nat) (k v : Nat) : Nat → Nat := fun j => if j = k then v else c j
theorem pu_s (c : Nat → Nat) (k v : Nat) : pu c k v k = v := if_pos rfl
theorem pu_n (c : Nat → Nat) (k v j : Nat) (h : j ≠ k) : pu c k v j = c j := if_neg h
noncomputable def pr_q (w : Nat → Nat → Nat) (n : Nat) (p : pr_S) (cond : Prop) (c : Nat → Nat) (bl : List Nat) (oc : List (Int × Int × Nat)) : gx_R pr_S := @ite _ (cond ∧ ∀ k, p.2.2.2 k + w k n ≤ 2100) (Classical.propDecidable _) (.inr (c, bl, oc, fun k => p.2.2.2 k + w k n)) (.inl (8, 0))
theorem pr_ok {w : Nat → Nat → Nat} {n : Nat} {p : pr_S} {cond : Prop} {c : Nat → Nat} {bl : List Nat} {oc : List (Int × Int × Nat)} (h : cond) (hb : ∀ k, p.2.2.2 k + w k n ≤ 2100) : pr_q w n p cond c bl oc = .inr (c, bl, oc, fun k => p.2.2.2 k + w k n) := if_pos ⟨h, hb⟩
theorem pr_q_in {w : Nat → Nat → Nat} {n : Nat} {p p' : pr_S} {cond : Prop} {c : Nat → Nat} {bl : List Nat} {oc : List (Int × Int × Nat)} (h : pr_q w n p cond c bl oc = .inr p') : cond ∧ (∀ k, p.2.2.2 k + w k n ≤ 2100) ∧ p' = (c, bl, oc, fun k => p.2.2.2 k + w k n) := by
  unfold pr_q at h
  by_cases hc : cond ∧ ∀ k, p.2.2.2 k + w k n ≤ 2100
  · rw [if_pos hc] at h; cases h; exact ⟨hc.1, hc.2, rfl⟩
  · rw [if_neg hc] at h; cases h
section
variable (w : Nat → Nat → Nat) (K V : Nat → Int)
/-- a frame has room for its values: h of them, beside those objects of calls that are open -/
def pr_hb (K V : Nat → Int) (h : Nat) (oc : List (Int × Int × Nat)) : Prop := (∀ q ∈ oc, ∀ z, pr_c K V q.2.1.toNat z → z ≤ 12) → h + oc.length ≤ 352
/-- a sign between two e -/
abbrev pr_o (x : Int) : Prop := x = 43 ∨ x = 45 ∨ x = 42 ∨ x = 47 ∨ x = 38 ∨ x = 124 ∨ x = 60 ∨ x = 62 ∨ x = 61
/-- a statement may begin or end: no condition is being read -/
abbrev nh (l : List Nat) : Prop := l.head? ≠ some 0 ∧ l.head? ≠ some 3
/-- a token of a kind, behind the last one -/
def pr_t (c : Nat → Nat) (x k : Int) : Prop := 0 ≤ x ∧ c 10 ≤ x.toNat ∧ x.toNat < 1000 ∧ K x.toNat = k
noncomputable def pr (e : gx_V) (p : pr_S) : gx_R pr_S :=
  match e.1 with
  | 1 => pr_q w 1 p ((p.1 9 = 6 ∧ p.1 16 = 1) ∧ pr_hb K V (p.1 6 + 1) p.2.2.1 ∧ (e.2.1 = 0 ∨ ∃ i : Nat, i < 1000 ∧ K i = 3 ∧ V i = e.2.1)) (pu p.1 6 (p.1 6 + 1)) p.2.1 p.2.2.1
  | 2 => pr_q w 2 p ((p.1 9 = 6 ∧ p.1 16 = 1) ∧ pr_hb K V (p.1 6 + 1) p.2.2.1) (pu p.1 6 (p.1 6 + 1)) p.2.1 p.2.2.1
  | 3 => pr_q w 3 p ((p.1 9 = 6 ∧ p.1 16 = 1) ∧ pr_hb K V (p.1 6 + 1) p.2.2.1) (pu p.1 6 (p.1 6 + 1)) p.2.1 p.2.2.1
  | 4 => pr_q w 4 p ((p.1 9 = 6 ∧ p.1 16 = 1) ∧ pr_t K p.1 e.2.1 1 ∧ pr_hb K V (p.1 6 + 1) p.2.2.1) (pu (pu p.1 6 (p.1 6 + 1)) 10 (e.2.1.toNat + 1)) p.2.1 p.2.2.1
  | 5 => pr_q w 5 p ((p.1 9 = 6 ∧ p.1 16 = 1) ∧ pr_t K p.1 e.2.1 4 ∧ 0 ≤ V e.2.1.toNat ∧ (p.1 8 : Int) + V e.2.1.toNat ≤ 300 ∧ pr_hb K V (p.1 6 + 1) p.2.2.1) (pu (pu (pu p.1 6 (p.1 6 + 1)) 8 (p.1 8 + (V e.2.1.toNat).toNat)) 10 (e.2.1.toNat + 1)) p.2.1 p.2.2.1
  | 6 => pr_q w 6 p ((p.1 9 = 6 ∧ p.1 16 = 1) ∧ pr_t K p.1 e.2.1 2 ∧ pr_hb K V (p.1 6 + 1) p.2.2.1) (pu (pu p.1 6 (p.1 6 + 1)) 10 (e.2.1.toNat + 1)) p.2.1 p.2.2.1
  | 7 => pr_q w 7 p ((p.1 9 = 6 ∧ p.1 16 = 1) ∧ 2 ≤ p.1 6) (pu p.1 6 (p.1 6 - 1)) p.2.1 p.2.2.1
  | 8 => pr_q w 8 p ((p.1 9 = 6 ∧ p.1 16 = 1) ∧ 2 ≤ p.1 6 ∧ pr_o e.2.1) (pu p.1 6 (p.1 6 - 1)) p.2.1 p.2.2.1
  | 9 => pr_q w 9 p ((p.1 9 = 6 ∧ p.1 16 = 1) ∧ 1 ≤ p.1 6) p.1 p.2.1 p.2.2.1
  | 10 => pr_q w 10 p ((p.1 9 = 6 ∧ p.1 16 = 1) ∧ 1 ≤ p.1 6) p.1 p.2.1 p.2.2.1
  | 11 => pr_q w 11 p ((p.1 9 = 6 ∧ p.1 16 = 1) ∧ pr_t K p.1 e.2.1 2 ∧ pr_t K p.1 e.2.2.1 2 ∧ (e.2.2.2 = 1 ∧ e.2.2.1 = e.2.1 + 2 ∨ e.2.2.2 = 0 ∧ e.2.2.1 = e.2.1) ∧ pr_hb K V (p.1 6) ((e.2.1, e.2.2.1, p.1 6) :: p.2.2.1)) (pu p.1 10 (e.2.2.1.toNat + 1)) p.2.1 ((e.2.1, e.2.2.1, p.1 6) :: p.2.2.1)
  | 12 => (match p.2.2.1 with
    | [] => .inl (8, 0)
    | q :: l => pr_q w 12 p ((p.1 9 = 6 ∧ p.1 16 = 1) ∧ q.1 = e.2.1 ∧ q.2.1 = e.2.2.1 ∧ 0 ≤ e.2.2.2 ∧ p.1 6 = q.2.2 + e.2.2.2.toNat ∧ pr_cs K V e.2.2.1.toNat e.2.2.2 ∧ pr_hb K V (q.2.2 + 1) l) (pu p.1 6 (q.2.2 + 1)) p.2.1 l)
  | 20 => pr_q w 20 p (p.1 9 = 6 ∧ p.1 6 = 0 ∧ p.2.2.1 = [] ∧ pr_t K p.1 e.2.1 1 ∧ p.1 16 = 0 ∧ nh p.2.1) (pu (pu p.1 10 (e.2.1.toNat + 1)) 16 1) p.2.1 p.2.2.1
  | 21 => pr_q w 21 p ((p.1 9 = 6 ∧ p.1 16 = 1) ∧ pr_t K p.1 e.2.1 2 ∧ p.1 15 = 0) (pu (pu p.1 10 (e.2.1.toNat + 1)) 15 (e.2.1.toNat + 1)) p.2.1 p.2.2.1
  | 22 => pr_q w 22 p ((p.1 9 = 6 ∧ p.1 16 = 1) ∧ p.1 6 = 1 ∧ p.2.2.1 = [] ∧ 0 ≤ e.2.1 ∧ e.2.1.toNat < 1000 ∧ K e.2.1.toNat = 2 ∧ p.1 15 = e.2.1.toNat + 1 ∧ nh p.2.1) (pu (pu (pu p.1 6 0) 15 0) 16 0) p.2.1 p.2.2.1
  | 23 => pr_q w 23 p ((p.1 9 = 6 ∧ p.1 16 = 1) ∧ p.1 6 = 2 ∧ p.2.2.1 = [] ∧ nh p.2.1) (pu (pu p.1 6 0) 16 0) p.2.1 p.2.2.1
  | 24 => pr_q w 24 p ((p.1 9 = 6 ∧ p.1 16 = 1) ∧ p.1 6 = 0 ∧ p.2.1.length < 25 ∧ p.2.2.1 = [] ∧ nh p.2.1) p.1 (0 :: p.2.1) p.2.2.1
  | 25 => pr_q w 25 p ((p.1 9 = 6 ∧ p.1 16 = 1) ∧ p.1 6 = 1 ∧ p.2.1.head? = some 0 ∧ p.2.2.1 = []) (pu (pu p.1 6 0) 16 0) (1 :: p.2.1.tail) p.2.2.1
  | 26 => pr_q w 26 p (p.1 9 = 6 ∧ p.1 6 = 0 ∧ p.2.1.head? = some 1 ∧ p.2.2.1 = [] ∧ p.1 16 = 0) p.1 (2 :: p.2.1.tail) p.2.2.1
  | 27 => pr_q w 27 p (p.1 9 = 6 ∧ p.1 6 = 0 ∧ p.2.1.head? = some 1 ∧ p.2.2.1 = [] ∧ p.1 16 = 0) p.1 p.2.1.tail p.2.2.1
  | 28 => pr_q w 28 p (p.1 9 = 6 ∧ p.1 6 = 0 ∧ p.2.1.head? = some 2 ∧ p.2.2.1 = [] ∧ p.1 16 = 0) p.1 p.2.1.tail p.2.2.1
  | 30 => pr_q w 30 p ((p.1 9 = 6 ∧ p.1 16 = 1) ∧ p.1 6 = 0 ∧ p.2.1.length < 25 ∧ 0 ≤ e.2.1 ∧ (e.2.1.toNat < 1000 ∧ p.1 10 = e.2.1.toNat + 1 ∧ p.1 15 = 0 ∧ nh p.2.1) ∧ p.2.2.1 = []) p.1 (3 :: p.2.1) p.2.2.1
  | 31 => pr_q w 31 p ((p.1 9 = 6 ∧ p.1 16 = 1) ∧ p.1 6 = 1 ∧ p.2.1.head? = some 3 ∧ p.2.2.1 = []) (pu (pu p.1 6 0) 16 0) (4 :: p.2.1.tail) p.2.2.1
  | 32 => pr_q w 32 p (p.1 9 = 6 ∧ p.1 6 = 0 ∧ p.2.1.head? = some 4 ∧ p.2.2.1 = [] ∧ p.1 16 = 0) p.1 p.2.1.tail p.2.2.1
  | 33 => pr_q w 33 p ((p.1 9 = 6 ∧ p.1 16 = 1) ∧ p.1 6 = 1 ∧ p.2.2.1 = [] ∧ nh p.2.1) (pu (pu p.1 6 0) 16 0) p.2.1 p.2.2.1
  | 34 => pr_q w 34 p ((p.1 9 = 6 ∧ p.1 16 = 1) ∧ p.1 6 = 1 ∧ p.2.2.1 = [] ∧ nh p.2.1) (pu (pu p.1 6 0) 16 0) p.2.1 p.2.2.1
  | 39 => pr_q w 39 p ((p.1 9 = 0 ∨ p.1 9 = 3) ∧ p.1 14 = 0) (pu p.1 9 1) p.2.1 p.2.2.1
  | 40 => pr_q w 40 p (p.1 9 = 1 ∧ p.1 0 < 12 ∧ pr_t K p.1 e.2.1 2) (pu (pu (pu (pu (pu p.1 12 0) 0 (p.1 0 + 1)) 2 0) 9 2) 10 (e.2.1.toNat + 1)) p.2.1 p.2.2.1
  | 38 => pr_q w 38 p (p.1 9 = 2 ∧ p.1 2 = 0 ∧ p.1 14 = 0 ∧ p.1 12 = 0) (pu p.1 12 1) p.2.1 p.2.2.1
  | 41 => pr_q w 41 p ((p.1 9 = 2 ∨ p.1 9 = 3 ∨ p.1 9 = 4 ∨ p.1 9 = 5) ∧ (pr_t K p.1 e.2.1 1 ∨ pr_t K p.1 e.2.1 2) ∧ p.1 14 = 0) (pu (pu (pu p.1 11 1) 10 (e.2.1.toNat + 1)) 14 1) p.2.1 p.2.2.1
  | 42 => pr_q w 42 p (p.1 9 = 2 ∧ pr_t K p.1 e.2.1 2 ∧ (e.2.2.1 = 1 ∧ p.1 2 < 12 ∨ e.2.2.1 = 0 ∧ p.1 1 < 12) ∧ p.1 11 = 1 ∧ p.1 12 = 1) (pu (pu (if e.2.2.1 = 1 then pu p.1 2 (p.1 2 + 1) else pu p.1 1 (p.1 1 + 1)) 10 (e.2.1.toNat + 1)) 14 0) p.2.1 p.2.2.1
  | 43 => pr_q w 43 p (p.1 9 = 2 ∧ p.1 14 = 0 ∧ p.1 12 = 1) (pu p.1 9 3) p.2.1 p.2.2.1
  | 44 => pr_q w 44 p (p.1 9 = 3 ∧ pr_t K p.1 e.2.1 1 ∧ (V e.2.1.toNat = 1 ∨ V e.2.1.toNat = 2 ∨ V e.2.1.toNat = 3) ∧ p.1 14 = 0) (pu (pu (pu p.1 11 0) 10 (e.2.1.toNat + 1)) 17 1) p.2.1 p.2.2.1
  | 45 => pr_q w 45 p ((p.1 9 = 3 ∧ p.1 17 = 1) ∧ p.1 3 < 60 ∧ pr_t K p.1 e.2.1 2) (pu (pu (pu (pu (pu (pu (pu p.1 13 0) 3 (p.1 3 + 1)) 4 0) 5 0) 9 4) 10 (e.2.1.toNat + 1)) 14 0) p.2.1 p.2.2.1
  | 51 => pr_q w 51 p (p.1 9 = 4 ∧ p.1 4 = 0 ∧ p.1 14 = 0 ∧ p.1 13 = 0 ∧ p.1 5 = 0) (pu p.1 13 1) p.2.1 p.2.2.1
  | 46 => pr_q w 46 p (p.1 9 = 4 ∧ p.1 4 < 12 ∧ pr_t K p.1 e.2.1 2 ∧ p.1 11 = 1 ∧ p.1 13 = 1) (pu (pu (pu p.1 4 (p.1 4 + 1)) 10 (e.2.1.toNat + 1)) 14 0) p.2.1 p.2.2.1
  | 47 => pr_q w 47 p (p.1 9 = 4 ∧ p.1 14 = 0 ∧ p.1 13 = 1) (pu p.1 9 5) p.2.1 p.2.2.1
  | 50 => pr_q w 50 p (p.1 9 = 5 ∧ p.1 5 < 12 ∧ pr_t K p.1 e.2.1 2 ∧ p.1 11 = 1 ∧ p.1 13 = 1) (pu (pu (pu p.1 5 (p.1 5 + 1)) 10 (e.2.1.toNat + 1)) 14 0) p.2.1 p.2.2.1
  | 48 => pr_q w 48 p (p.1 9 = 5 ∧ p.1 6 = 0 ∧ p.2.1 = [] ∧ p.2.2.1 = [] ∧ p.1 14 = 0) (pu (pu (pu p.1 9 6) 15 0) 16 0) p.2.1 p.2.2.1
  | 49 => pr_q w 49 p (p.1 9 = 6 ∧ p.1 6 = 0 ∧ p.2.1 = [] ∧ p.2.2.1 = [] ∧ p.1 15 = 0 ∧ p.1 16 = 0) (pu p.1 9 3) p.2.1 p.2.2.1
  | _ => .inl (8, 0)
end
/-- weights are small -/
def pr_w (w : Nat → Nat → Nat) : Prop := ∀ k, (w k 1 ≤ 2 ∧ w k 2 ≤ 2 ∧ w k 3 ≤ 2 ∧ w k 4 ≤ 2 ∧ w k 5 ≤ 2 ∧ w k 6 ≤ 2 ∧ w k 7 ≤ 4 ∧ w k 8 ≤ 2 ∧ w k 9 ≤ 2 ∧ w k 10 ≤ 2 ∧ w k 11 ≤ 4 ∧ w k 12 ≤ 2) ∧ (w k 20 ≤ 1 ∧ w k 21 ≤ 1 ∧ w k 22 ≤ 3 ∧ w k 23 ≤ 4 ∧ w k 24 ≤ 1 ∧ w k 25 ≤ 4 ∧ w k 26 ≤ 4 ∧ w k 27 ≤ 2 ∧ w k 28 ≤ 2 ∧ w k 33 ≤ 1 ∧ w k 34 ≤ 2) ∧ (w k 30 ≤ 3 ∧ w k 30 + w k 31 ≤ 7 ∧ w k 30 + w k 31 + w k 32 ≤ 9) ∧ (w k 39 ≤ 1 ∧ w k 40 ≤ 1 ∧ w k 38 ≤ 1 ∧ w k 43 ≤ 1 ∧ w k 41 ≤ 1 ∧ w k 42 ≤ 2 ∧ w k 46 ≤ 2 ∧ w k 50 ≤ 2) ∧ (w k 44 ≤ 1 ∧ w k 45 ≤ 2 ∧ w k 51 ≤ 1 ∧ w k 47 ≤ 1 ∧ w k 48 ≤ 5 ∧ w k 49 ≤ 3)
/-- no fault of 8 or more -/
def nb {α : Type} (r : gx_R α) (Q : α → Prop) : Prop := match r with
  | .inl x => x.1 < 8
  | .inr a => Q a
theorem nb_b {α β : Type} {r : gx_R α} {f : α → gx_R β} {Q : α → Prop} {Q' : β → Prop} (h : nb r Q) (hk : ∀ a, Q a → nb (f a) Q') : nb (gx_b r f) Q' := by
  cases r with
  | inl x => exact h
  | inr a => exact hk a h
theorem nb_imp {α : Type} {r : gx_R α} {Q Q' : α → Prop} (h : nb r Q) (hk : ∀ a, Q a → Q' a) : nb r Q' := by
  cases r with
  | inl x => exact h
  | inr a => exact hk a h
theorem nb_if {α : Type} {p : Prop} [Decidable p] {e : Int × Int} {x : gx_R α} {Q : α → Prop} (he : e.1 < 8) (h : p → nb x Q) : nb (gx_if p e x) Q := by
  unfold gx_if
  by_cases c : p
  · rw [if_pos c]; exact h c
  · rw [if_neg c]; exact he
section
variable {w : Nat → Nat → Nat} {K V P : Nat → Int} {σ : Type} {C : gx_V → σ → gx_R σ} {π : σ → pr_S} {nx : Nat → gx_R Nat} {sx : Nat → Int × Int} {Z : Nat}
/-- what a run asks for -/
def pr_H (w : Nat → Nat → Nat) (K V : Nat → Int) (C : gx_V → σ → gx_R σ) (π : σ → pr_S) (nx : Nat → gx_R Nat) (sx : Nat → Int × Int) (Z : Nat) : Prop := pr_w w ∧ (∀ e s p', pr w K V e (π s) = .inr p' → ∃ s', C e s = .inr s' ∧ π s' = p') ∧ (∀ i, nb (nx i) (fun j => j = i + 1)) ∧ (∀ i, (sx i).1 < 8) ∧ Z ≤ 1000 ∧ (∀ i, i ≤ Z → (K i = 1 ∨ K i = 2 ∨ K i = 3 ∨ K i = 4 ∨ K i = 5) → i < Z) ∧ (∀ i, i ≤ Z → K i = 4 → 0 ≤ V i) ∧ (∀ j, j < 1000 → ∃ z, pr_c K V j z)
theorem nb_C (H : pr_H w K V C π nx sx Z) {β : Type} {e : gx_V} {s : σ} {p' : pr_S} {f : σ → gx_R β} {Q : β → Prop} (h : pr w K V e (π s) = .inr p') (hk : ∀ s', π s' = p' → nb (f s') Q) : nb (gx_b (C e s) f) Q := by
  obtain ⟨s', e1, e2⟩ := H.2.1 e s p' h
  rw [e1]
  exact hk s' e2
theorem nb_n (H : pr_H w K V C π nx sx Z) {β : Type} {i : Nat} {f : Nat → gx_R β} {Q : β → Prop} (hk : nb (f (i + 1)) Q) : nb (gx_b (nx i) f) Q := nb_b (H.2.2.1 i) (fun j hj => by rw [hj]; exact hk)
theorem nb_sg (H : pr_H w K V C π nx sx Z) {β : Type} {i : Nat} {c : Int} {f : Nat → gx_R β} {Q : β → Prop} (hi : i ≤ Z) (hk : i < Z → nb (f (i + 1)) Q) : nb (gx_b (xx_sign nx sx K V c i) f) Q := by
  refine nb_b (Q := fun j => j = i + 1 ∧ i < Z) (nb_if (H.2.2.2.1 i) (fun c => nb_imp (H.2.2.1 i) (fun j hj => ⟨hj, H.2.2.2.2.2.1 i hi (by rw [c.1]; decide)⟩))) (fun j hj => ?_)
  rw [hj.1]; exact hk hj.2
theorem nb_wd (H : pr_H w K V C π nx sx Z) {β : Type} {i : Nat} {c : Int} {f : Nat → gx_R β} {Q : β → Prop} (hi : i ≤ Z) (hk : i < Z → nb (f (i + 1)) Q) : nb (gx_b (xx_word nx sx K V c i) f) Q := by
  refine nb_b (Q := fun j => j = i + 1 ∧ i < Z) (nb_if (H.2.2.2.1 i) (fun c => nb_imp (H.2.2.1 i) (fun j hj => ⟨hj, H.2.2.2.2.2.1 i hi (by rw [c.1]; decide)⟩))) (fun j hj => ?_)
  rw [hj.1]; exact hk hj.2
theorem nb_nm (H : pr_H w K V C π nx sx Z) {β : Type} {i : Nat} {f : Nat → gx_R β} {Q : β → Prop} (hi : i ≤ Z) (hk : K i = 2 → i < Z → nb (f (i + 1)) Q) : nb (gx_b (xx_name nx sx K i) f) Q := by
  refine nb_b (Q := fun j => j = i + 1 ∧ K i = 2 ∧ i < Z) (nb_if (H.2.2.2.1 i) (fun c => nb_imp (H.2.2.1 i) (fun j hj => ⟨hj, c, H.2.2.2.2.2.1 i hi (by rw [c]; decide)⟩))) (fun j hj => ?_)
  rw [hj.1]; exact hk hj.2.1 hj.2.2
theorem nb_op (H : pr_H w K V C π nx sx Z) {β : Type} {i deep : Nat} {f : Nat → gx_R β} {Q : β → Prop} (hk : deep < 25 → nb (f (i + 1)) Q) : nb (gx_b (xx_open nx P deep i) f) Q := by
  refine nb_b (Q := fun j => j = i + 1 ∧ deep < 25) (nb_if (show (2 : Int) < 8 by decide) (fun c => nb_imp (H.2.2.1 i) (fun j hj => ⟨hj, c⟩))) (fun j hj => ?_)
  rw [hj.1]; exact hk hj.2
theorem nb_ops (H : pr_H w K V C π nx sx Z) {β : Type} {i deep : Nat} {c : Int} {f : Nat → gx_R β} {Q : β → Prop} (hi : i ≤ Z) (hk : i < Z → deep < 25 → nb (f (i + 1)) Q) : nb (gx_b (xx_opens nx sx K V P c deep i) f) Q := by
  refine nb_b (Q := fun j => j = i + 1 ∧ i < Z ∧ deep < 25) (nb_if (H.2.2.2.1 i) (fun c => nb_if (show (2 : Int) < 8 by decide) (fun c2 => nb_imp (H.2.2.1 i) (fun j hj => ⟨hj, H.2.2.2.2.2.1 i hi (by rw [c.1]; decide), c2⟩)))) (fun j hj => ?_)
  rw [hj.1]; exact hk hj.2.1 hj.2.2
/-- where an e may begin -/
def pX (Z i st : Nat) (p : pr_S) : Prop := (p.1 9 = 6 ∧ p.1 16 = 1) ∧ p.1 10 ≤ i ∧ p.1 8 = st ∧ i ≤ Z ∧ ∀ k, p.2.2.2 k ≤ 2 * i + 60
/-- what an e does -/
def pE (p p' : pr_S) (i j d st' : Nat) : Prop := (∀ n, n ≠ 6 → n ≠ 8 → n ≠ 10 → p'.1 n = p.1 n) ∧ p'.1 6 = p.1 6 + d ∧ p'.1 8 = st' ∧ p'.1 10 ≤ j ∧ p'.2.1 = p.2.1 ∧ p'.2.2.1 = p.2.2.1 ∧ ∀ k, p'.2.2.2 k + 2 * i ≤ p.2.2.2 k + 2 * j
theorem pE.x {p p' : pr_S} {i j d st st' : Nat} (X : pX Z i st p) (E : pE p p' i j d st') (hj : j ≤ Z) : pX Z j st' p' := ⟨by rw [E.1 9 (by decide) (by decide) (by decide), E.1 16 (by decide) (by decide) (by decide)]; exact X.1, E.2.2.2.1, E.2.2.1, hj, fun k => by have := E.2.2.2.2.2.2 k; have := X.2.2.2.2 k; omega⟩
/-- an e has room -/
def pH (K V : Nat → Int) (deep x : Nat) (p : pr_S) : Prop := deep ≤ 25 ∧ ((∀ q ∈ p.2.2.1, ∀ z, pr_c K V q.2.1.toNat z → z ≤ 12) → p.1 6 + p.2.2.1.length ≤ 14 * deep + x)
theorem pH.hb {deep x : Nat} {p : pr_S} (h : pH K V deep x p) (hx : x ≤ 1) : pr_hb K V (p.1 6 + 1) p.2.2.1 := fun z => by have := h.2 z; have := h.1; omega
theorem pH.hb0 {deep x : Nat} {p : pr_S} (h : pH K V deep x p) (hx : x ≤ 2) : pr_hb K V (p.1 6) p.2.2.1 := fun z => by have := h.2 z; have := h.1; omega
theorem pH.up {deep x : Nat} {p : pr_S} (h : pH K V deep x p) (hx : x ≤ 14) (hd : deep < 25) : pH K V (deep + 1) 0 p := ⟨by omega, fun z => by have := h.2 z; omega⟩
theorem pH.mono {deep x y : Nat} {p : pr_S} (h : pH K V deep x p) (hx : x ≤ y) : pH K V deep y p := ⟨h.1, fun z => by have := h.2 z; omega⟩
theorem pE.h {p p' : pr_S} {deep x i j d st : Nat} (E : pE p p' i j d st) (h : pH K V deep x p) : pH K V deep (x + d) p' := ⟨h.1, by rw [E.2.2.2.2.2.1, E.2.1]; intro z; have := h.2 z; omega⟩
theorem pH_0 {deep : Nat} {p : pr_S} (hd : deep ≤ 25) (h6 : p.1 6 = 0) (ho : p.2.2.1 = []) : pH K V deep 0 p := ⟨hd, fun _ => by rw [h6, ho]; show 0 + 0 ≤ _; omega⟩
theorem pE.trans {p p' p2 : pr_S} {i j l d d2 st st2 : Nat} (E : pE p p' i j d st) (F : pE p' p2 j l d2 st2) : pE p p2 i l (d + d2) st2 := ⟨fun n h1 h2 h3 => (F.1 n h1 h2 h3).trans (E.1 n h1 h2 h3), by rw [F.2.1, E.2.1]; omega, F.2.2.1, F.2.2.2.1, F.2.2.2.2.1.trans E.2.2.2.2.1, F.2.2.2.2.2.1.trans E.2.2.2.2.2.1, fun k => by have := E.2.2.2.2.2.2 k; have := F.2.2.2.2.2.2 k; omega⟩
end
