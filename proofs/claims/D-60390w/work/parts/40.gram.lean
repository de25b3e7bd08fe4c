/-! PURE LAYER, 10: the grammar. K, V, P: kinds, values, places of tokens (kinds as the component has them); sy: the system's own text. What is read is told as events, or a fault and its place -/
/-- events: what, three numbers -/
abbrev gx_V : Type := Nat × Int × Int × Int
abbrev gx_R (α : Type) : Type := (Int × Int) ⊕ α
section
variable {α β : Type}
def gx_b (x : gx_R α) (f : α → gx_R β) : gx_R β := match x with
  | .inl e => .inl e
  | .inr a => f a
def gx_if (p : Prop) [Decidable p] (e : Int × Int) (x : gx_R α) : gx_R α := if p then x else .inl e
theorem gx_b_ok {x : gx_R α} {f : α → gx_R β} {b : β} (h : gx_b x f = .inr b) : ∃ a, x = .inr a ∧ f a = .inr b := by
  cases x with
  | inl e => cases h
  | inr a => exact ⟨a, rfl, h⟩
theorem gx_b_er {x : gx_R α} {f : α → gx_R β} {e : Int × Int} (h : gx_b x f = .inl e) : x = .inl e ∨ ∃ a, x = .inr a ∧ f a = .inl e := by
  cases x with
  | inl e' => left; cases h; rfl
  | inr a => exact Or.inr ⟨a, rfl, h⟩
end
section
variable (sy : Bool) (K V P : Nat → Int)
/-- one token on -/
def gx_next (i : Nat) : gx_R Nat := if sy = false ∧ 1000 ≤ i + 1 ∧ K (i + 1) ≠ 0 then .inl (if K (i + 1) = 6 then 1 else 2, P (i + 1)) else .inr (i + 1)
abbrev gx_sg (c : Int) (i : Nat) : Prop := K i = 5 ∧ V i = c
abbrev gx_wd (w : Int) (i : Nat) : Prop := K i = 1 ∧ V i = w
abbrev gx_op (i : Nat) : Prop := K i = 5 ∧ (V i = 43 ∨ V i = 45 ∨ V i = 42 ∨ V i = 47 ∨ V i = 38 ∨ V i = 124 ∨ V i = 60 ∨ V i = 62 ∨ V i = 61)
/-- a sign must stand there -/
def gx_sign (c : Int) (i : Nat) : gx_R Nat := gx_if (gx_sg K V c i) (1, P i) (gx_next sy K P i)
def gx_word (w : Int) (i : Nat) : gx_R Nat := gx_if (gx_wd K V w i) (1, P i) (gx_next sy K P i)
/-- a name must stand there -/
def gx_name (i : Nat) : gx_R Nat := gx_if (K i = 2) (1, P i) (gx_next sy K P i)
/-- something is opened -/
def gx_open (deep i : Nat) : gx_R Nat := gx_if (deep < 25) (2, P i) (gx_next sy K P i)
def gx_opens (c : Int) (deep i : Nat) : gx_R Nat := gx_if (gx_sg K V c i) (1, P i) (gx_open sy K P deep i)
section
variable {σ : Type} (C : gx_V → σ → gx_R σ)
/-- e and its parts. Modes: 0 a term, 1 behind a term, 2 behind the ( of a call, 3 behind an e of a call. deep: how many are open; st: letters of strings so far; s: what events have made so far.
Answer: the token behind, letters, what events have made, how many e. Events: 1 a number (value), 2 true, 3 false or null, 4 this (token), 5 a string (token), 6 a variable (token), 7 an element read, 8 a sign (which), 9 -, 10 ~, 11 a call begins (its first name's token, its last, 1 if they are two; the token behind the names is (j)), 12 a call (tokens as in 11; how many e) -/
def ge : Nat → Nat → Nat → Nat → Nat → σ → gx_R (Nat × Nat × σ × Nat)
  | 0, _, _, _, _, _ => .inl (9, 0)
  | f + 1, 0, deep, st, i, s =>
    if K i = 3 then gx_b (C (1, V i, 0, 0) s) fun s1 => gx_b (gx_next sy K P i) fun j => .inr (j, st, s1, 0)
    else if K i = 4 then gx_if (sy = true ∨ (st : Int) + V i ≤ 300) (2, P i) (gx_b (C (5, (i : Int), 0, 0) s) fun s1 => gx_b (gx_next sy K P i) fun j => .inr (j, st + (V i).toNat, s1, 0))
    else if K i = 1 then gx_if (V i = 11 ∨ V i = 12 ∨ V i = 13 ∨ V i = 14) (1, P i) (gx_b (C (if V i = 14 then (4, (i : Int), 0, 0) else if V i = 11 then (2, 0, 0, 0) else (3, 0, 0, 0)) s) fun s1 => gx_b (gx_next sy K P i) fun j => .inr (j, st, s1, 0))
    else if K i = 2 then gx_b (gx_next sy K P i) fun j =>
      if gx_sg K V 91 j then gx_b (C (6, (i : Int), 0, 0) s) fun s1 => gx_b (gx_open sy K P deep j) fun j1 => gx_b (ge f 0 (deep + 1) st j1 s1) fun r1 => gx_b (ge f 1 (deep + 1) r1.2.1 r1.1 r1.2.2.1) fun r2 => gx_b (gx_sign sy K V P 93 r2.1) fun j2 => gx_b (C (7, 0, 0, 0) r2.2.2.1) fun s2 => .inr (j2, r2.2.1, s2, 0)
      else if gx_sg K V 46 j then gx_b (gx_next sy K P j) fun j1 => gx_b (gx_name sy K P j1) fun j2 => gx_b (C (11, (i : Int), (j1 : Int), 1) s) fun s1 => gx_b (gx_opens sy K V P 40 deep j2) fun j3 => gx_b (ge f 2 (deep + 1) st j3 s1) fun r => gx_b (C (12, (i : Int), (j1 : Int), (r.2.2.2 : Int)) r.2.2.1) fun s2 => .inr (r.1, r.2.1, s2, 0)
      else if gx_sg K V 40 j then gx_b (C (11, (i : Int), (i : Int), 0) s) fun s1 => gx_b (gx_open sy K P deep j) fun j3 => gx_b (ge f 2 (deep + 1) st j3 s1) fun r => gx_b (C (12, (i : Int), (i : Int), (r.2.2.2 : Int)) r.2.2.1) fun s2 => .inr (r.1, r.2.1, s2, 0)
      else gx_b (C (6, (i : Int), 0, 0) s) fun s1 => .inr (j, st, s1, 0)
    else if gx_sg K V 40 i then gx_b (gx_open sy K P deep i) fun j1 => gx_b (ge f 0 (deep + 1) st j1 s) fun r1 => gx_b (ge f 1 (deep + 1) r1.2.1 r1.1 r1.2.2.1) fun r2 => gx_b (gx_sign sy K V P 41 r2.1) fun j2 => .inr (j2, r2.2.1, r2.2.2.1, 0)
    else gx_if (gx_sg K V 45 i ∨ gx_sg K V 126 i) (1, P i) (gx_b (gx_open sy K P deep i) fun j1 => gx_b (ge f 0 (deep + 1) st j1 s) fun r1 => gx_b (C (if V i = 45 then 9 else 10, 0, 0, 0) r1.2.2.1) fun s2 => .inr (r1.1, r1.2.1, s2, 0))
  | f + 1, 1, deep, st, i, s =>
    if gx_op K V i then gx_b (gx_next sy K P i) fun j => gx_b (ge f 0 deep st j s) fun r1 => gx_b (C (8, V i, 0, 0) r1.2.2.1) fun s1 => ge f 1 deep r1.2.1 r1.1 s1
    else .inr (i, st, s, 0)
  | f + 1, 2, deep, st, i, s =>
    if gx_sg K V 41 i then gx_b (gx_next sy K P i) fun j => .inr (j, st, s, 0)
    else gx_b (ge f 0 deep st i s) fun r1 => gx_b (ge f 1 deep r1.2.1 r1.1 r1.2.2.1) fun r2 => gx_b (ge f 3 deep r2.2.1 r2.1 r2.2.2.1) fun r3 => .inr (r3.1, r3.2.1, r3.2.2.1, r3.2.2.2 + 1)
  | f + 1, _, deep, st, i, s =>
    if gx_sg K V 41 i then gx_b (gx_next sy K P i) fun j => .inr (j, st, s, 0)
    else gx_b (gx_sign sy K V P 44 i) fun j => gx_b (ge f 0 deep st j s) fun r1 => gx_b (ge f 1 deep r1.2.1 r1.1 r1.2.2.1) fun r2 => gx_b (ge f 3 deep r2.2.1 r2.1 r2.2.2.1) fun r3 => .inr (r3.1, r3.2.1, r3.2.2.1, r3.2.2.2 + 1)
/-- a whole e -/
def ge_e (f deep st i : Nat) (s : σ) : gx_R (Nat × Nat × σ × Nat) := gx_b (ge sy K V P C f 0 deep st i s) fun r1 => ge sy K V P C f 1 deep r1.2.1 r1.1 r1.2.2.1
end
end
