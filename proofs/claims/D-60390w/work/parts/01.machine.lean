/-! THE ABSTRACT MACHINE (AM). A reference: null or a heap cell (inl), or a constant object (inr: a string constant, a static array). A value: an int, a long (both as Int), a reference. -/
abbrev am_R : Type := Option Nat ⊕ Nat
abbrev am_V : Type := Int ⊕ Int ⊕ am_R
abbrev am_i (x : Int) : am_V := Sum.inl x
abbrev am_l (x : Int) : am_V := Sum.inr (Sum.inl x)
abbrev am_r (X : am_R) : am_V := Sum.inr (Sum.inr X)
abbrev am_a (a : Nat) : am_R := Sum.inl (some a)
abbrev am_n : am_R := Sum.inl none
abbrev am_k (j : Nat) : am_R := Sum.inr j
/-- int contents of cells: object fields and array elements -/
abbrev am_H : Type := Nat → Nat → Int
/-- a cell's shape: (0, class, its reference fields), (t, length, []) for arrays of numbers, (t, length, elements) for arrays of references (t from 10 on) -/
abbrev am_C : Type := Nat × Nat × List am_R
abbrev am_S : Type := List am_C × am_H
/-- an instruction with its resolved operands; a block of them -/
abbrev am_A : Type := Instr × List Nat
abbrev am_B : Type := Bool × List am_A
/-- an outcome: returned (inl) or threw the object in a cell (inr); the state behind it -/
abbrev am_O : Type := (Option am_V ⊕ Nat) × am_S
abbrev am_F : Type := Nat ⊕ List am_A → List (Option am_V) → List am_V → am_S → Option am_O
abbrev am_G : Type := Nat → Nat → List am_V → am_S → Option am_O

def am_w (x : Int) : Int := x.bmod 4294967296
def am_W (x : Int) : Int := x.bmod 18446744073709551616
def am_and (x y : Int) : Int := (Int32.ofInt x &&& Int32.ofInt y).toInt
def am_or (x y : Int) : Int := (Int32.ofInt x ||| Int32.ofInt y).toInt
def am_xor (x y : Int) : Int := (Int32.ofInt x ^^^ Int32.ofInt y).toInt
def am_shl (x y : Int) : Int := (Int32.ofInt x <<< (Int32.ofInt y &&& 31)).toInt
def am_shr (x y : Int) : Int := (Int32.ofInt x >>> (Int32.ofInt y &&& 31)).toInt
def am_Land (x y : Int) : Int := (Int64.ofInt x &&& Int64.ofInt y).toInt
def am_Lor (x y : Int) : Int := (Int64.ofInt x ||| Int64.ofInt y).toInt
def am_Lshl (x y : Int) : Int := (Int64.ofInt x <<< ((Int32.ofInt y).toInt64 &&& 63)).toInt
def am_lcmp (x y : Int) : Int := if x < y then -1 else if x = y then 0 else 1
def am_s16 (x : Int) : Int := x.bmod 65536
def am_s8 (x : Int) : Int := x.bmod 256

/-- one place of one cell gets another number -/
def am_up (h : am_H) (a k : Nat) (v : Int) : am_H := fun b => if b = a then (fun j => if j = k then v else h a j) else h b
/-- a cell of zeros -/
def am_zr (h : am_H) (a : Nat) : am_H := fun b => if b = a then (fun _ => 0) else h b
/-- a reference kept as a number in a place -/
def am_dec (x : Int) : am_R := if x = 0 then am_n else am_a (x - 1).toNat
def am_enc (X : am_R) : Option Int := match X with
  | .inl none => some 0
  | .inl (some a) => cond (Nat.blt a 5000) (some (a + 1)) none
  | .inr _ => none

section
variable {α : Type}
def am_ob (o : Option α) (k : α → Option am_O) : Option am_O := match o with
  | some x => k x
  | none => none
end
def am_p1 (st : List am_V) (k : Int → List am_V → Option am_O) : Option am_O := match st with
  | .inl x :: st => k x st
  | _ => none
def am_p2 (st : List am_V) (k : Int → Int → List am_V → Option am_O) : Option am_O := match st with
  | .inl y :: .inl x :: st => k x y st
  | _ => none
def am_l1 (st : List am_V) (k : Int → List am_V → Option am_O) : Option am_O := match st with
  | .inr (.inl x) :: st => k x st
  | _ => none
def am_l2 (st : List am_V) (k : Int → Int → List am_V → Option am_O) : Option am_O := match st with
  | .inr (.inl y) :: .inr (.inl x) :: st => k x y st
  | _ => none
def am_pr (st : List am_V) (k : am_R → List am_V → Option am_O) : Option am_O := match st with
  | .inr (.inr X) :: st => k X st
  | _ => none
def am_rr (st : List am_V) (k : am_R → am_R → List am_V → Option am_O) : Option am_O := match st with
  | .inr (.inr Y) :: .inr (.inr X) :: st => k X Y st
  | _ => none
/-- a heap cell -/
def am_hp (X : am_R) (k : Nat → Option am_O) : Option am_O := match X with
  | .inl (some a) => k a
  | _ => none
/-- a constant -/
def am_ct (X : am_R) (k : Nat → Option am_O) : Option am_O := match X with
  | .inr j => k j
  | _ => none
/-- an object of a class: its cell and its references -/
def am_obj (σ : am_S) (X : am_R) (c : Nat) (k : Nat → List am_R → Option am_O) : Option am_O :=
  am_hp X fun a => am_ob σ.1[a]? fun q => cond (Nat.beq q.1 0 && Nat.beq q.2.1 c) (k a q.2.2) none
/-- an array: its cell, length and references -/
def am_arr (σ : am_S) (X : am_R) (t : Nat) (k : Nat → Nat → List am_R → Option am_O) : Option am_O :=
  am_hp X fun a => am_ob σ.1[a]? fun q => cond (Nat.beq q.1 t) (k a q.2.1 q.2.2) none
def am_idx (i : Int) (n : Nat) (k : Nat → Option am_O) : Option am_O := if 0 ≤ i ∧ i < n then k i.toNat else none
def am_bit (v : Int) (k : Option am_O) : Option am_O := if v = 0 ∨ v = 1 then k else none
/-- the weight of an operand stack -/
def am_wt : List am_V → Nat
  | [] => 0
  | .inr (.inl _) :: r => am_wt r + 2
  | _ :: r => am_wt r + 1
/-- locals: a store kills the long ahead of it (o = []: a method without longs) -/
def am_st1 (o : List Nat) (ls : List (Option am_V)) (i : Nat) (v : am_V) : List (Option am_V) := match o with
  | [] => ls.set i (some v)
  | _ => (match i with
   | 0 => ls
   | j + 1 => match ls[j]? with
     | some (some (.inr (.inl _))) => ls.set j none
     | _ => ls).set i (some v)
def am_st2 (ls : List (Option am_V)) (i : Nat) (v : am_V) : List (Option am_V) := (am_st1 [1] ls i v).set (i + 1) none
def am_ldi (ls : List (Option am_V)) (i : Nat) (k : Int → Option am_O) : Option am_O := match ls[i]? with
  | some (some (.inl x)) => k x
  | _ => none
def am_ldl (ls : List (Option am_V)) (i : Nat) (k : Int → Option am_O) : Option am_O := match ls[i]? with
  | some (some (.inr (.inl x))) => k x
  | _ => none
def am_ldr (ls : List (Option am_V)) (i : Nat) (k : am_R → Option am_O) : Option am_O := match ls[i]? with
  | some (some (.inr (.inr X))) => k X
  | _ => none
/-- behind a call: no answer, an int, a long, a reference; what is thrown goes on, or to a handler. am_x..: the call must not have changed the shapes S -/
def am_cV (o : Option am_O) (f : Nat → am_S → Option am_O) (k : am_S → Option am_O) : Option am_O := match o with
  | some (.inl (none), σ) => k σ
  | some (.inr a, σ) => f a σ
  | _ => none
def am_xV (S : List am_C) (o : Option am_O) (f : Nat → am_H → Option am_O) (k : am_H → Option am_O) : Option am_O := match o with
  | some (.inl (none), σ) => if σ.1 = S then k σ.2 else none
  | some (.inr a, σ) => if σ.1 = S then f a σ.2 else none
  | _ => none
def am_cI (o : Option am_O) (f : Nat → am_S → Option am_O) (k : Int → am_S → Option am_O) : Option am_O := match o with
  | some (.inl (some (.inl n)), σ) => k n σ
  | some (.inr a, σ) => f a σ
  | _ => none
def am_xI (S : List am_C) (o : Option am_O) (f : Nat → am_H → Option am_O) (k : Int → am_H → Option am_O) : Option am_O := match o with
  | some (.inl (some (.inl n)), σ) => if σ.1 = S then k n σ.2 else none
  | some (.inr a, σ) => if σ.1 = S then f a σ.2 else none
  | _ => none
def am_cL (o : Option am_O) (f : Nat → am_S → Option am_O) (k : Int → am_S → Option am_O) : Option am_O := match o with
  | some (.inl (some (.inr (.inl n))), σ) => k n σ
  | some (.inr a, σ) => f a σ
  | _ => none
def am_xL (S : List am_C) (o : Option am_O) (f : Nat → am_H → Option am_O) (k : Int → am_H → Option am_O) : Option am_O := match o with
  | some (.inl (some (.inr (.inl n))), σ) => if σ.1 = S then k n σ.2 else none
  | some (.inr a, σ) => if σ.1 = S then f a σ.2 else none
  | _ => none
def am_cR (o : Option am_O) (f : Nat → am_S → Option am_O) (k : am_R → am_S → Option am_O) : Option am_O := match o with
  | some (.inl (some (.inr (.inr X))), σ) => k X σ
  | some (.inr a, σ) => f a σ
  | _ => none
def am_xR (S : List am_C) (o : Option am_O) (f : Nat → am_H → Option am_O) (k : am_R → am_H → Option am_O) : Option am_O := match o with
  | some (.inl (some (.inr (.inr X))), σ) => if σ.1 = S then k X σ.2 else none
  | some (.inr a, σ) => if σ.1 = S then f a σ.2 else none
  | _ => none
/-- what is thrown leaves the method -/
def am_up0 (a : Nat) (σ : am_S) : Option am_O := some (.inr a, σ)
def am_up1 (S : List am_C) (a : Nat) (h : am_H) : Option am_O := some (.inr a, (S, h))
/-- switches, target by target -/
def am_sw (F : Nat → Option am_O) (x : Int) : Int → List Nat → Nat → Option am_O
  | _, [], d => F d
  | lo, t :: r, d => if x = lo then F t else am_sw F x (lo + 1) r d
def am_lk (F : Nat → Option am_O) (x : Int) : List (Int × Int) → List Nat → Nat → Option am_O
  | [], _, d => F d
  | _ :: _, [], _ => none
  | q :: ps, t :: r, d => if x = q.1 then F t else am_lk F x ps r d
