/-! PURE LAYER, 36: what the model does at an event, as a change of its heap; where its reading stands -/
/-- beside the heap: the token of the type at hand (-1: none), the sort of the sub, blocks that are open (sort, label, hole, from), calls that are open -/
abbrev mi_S : Type := am_H × Int × Int × List (Int × Int × Int × Int) × List Int
/-- an item -/
def mi_put (k a b t : Int) (g : am_H) : am_H := am_up (am_up (am_up (am_up (am_up (am_up g 277 (g 254 33).toNat k) 278 (g 254 33).toNat a) 279 (g 254 33).toNat b) 280 (g 254 33).toNat t) 281 (g 254 33).toNat (g 254 17 - 1)) 254 33 (g 254 33 + 1)
def mi_add (k a b t : Int) (g : am_H) : gx_R am_H := ce_q (g 254 33 < 4900) (.inr (mi_put k a b t g))
def mi_h (s : mi_S) (r : gx_R am_H) : gx_R mi_S := gx_b r fun g => .inr (g, s.2)
/-- a variable -/
def mi_dec (sub sort ty name number slot : Int) (g : am_H) : am_H := am_up (am_up (am_up (am_up (am_up (am_up (am_up (am_up g 270 (g 254 25).toNat (g 254 14 - 1)) 271 (g 254 25).toNat sub) 272 (g 254 25).toNat sort) 273 (g 254 25).toNat name) 274 (g 254 25).toNat ty) 275 (g 254 25).toNat number) 276 (g 254 25).toNat slot) 254 25 (g 254 25 + 1)
def mi_call (first last : Int) (g : am_H) : am_H := am_up (am_up (am_up (am_up (am_up g 254 39 (g 254 39 + 1)) 282 (g 254 39).toNat first) 283 (g 254 39).toNat last) 284 (g 254 39).toNat 0) 289 (g 254 39).toNat (g 254 17 - 1)
/-- a block is opened -/
def mi_blk (k : Nat) (a b c e : Int) (g : am_H) : am_H := am_up (am_up (am_up (am_up (am_up g 293 k a) 294 k b) 295 k c) 296 k e) 254 55 ((k : Int) + 1)
section
variable (V : Nat → Int)
/-- the model's way with an event -/
def mi (e : gx_V) (s : mi_S) : gx_R mi_S :=
  let g := s.1
  match e.1 with
  | 1 => mi_h s (mi_add 0 e.2.1 0 0 g)
  | 2 => mi_h s (mi_add 0 (-1) 0 0 g)
  | 3 => mi_h s (mi_add 0 0 0 0 g)
  | 4 => mi_h s (mi_add 3 0 0 e.2.1 g)
  | 5 => mi_h s (mi_add 1 0 0 e.2.1 g)
  | 6 => mi_h s (mi_add 4 0 0 e.2.1 g)
  | 7 => mi_h s (mi_add 5 0 0 0 g)
  | 8 => mi_h s (mi_add 6 e.2.1 0 0 g)
  | 9 => mi_h s (mi_add 7 0 0 0 g)
  | 10 => mi_h s (mi_add 8 0 0 0 g)
  | 11 => ce_q (g 254 39 < 990) (gx_b (mi_add 9 (g 254 39) 0 0 (mi_call (if e.2.2.2 = 1 then e.2.1 else -1) e.2.2.1 g)) fun g1 => .inr (g1, s.2.1, s.2.2.1, s.2.2.2.1, g 254 39 :: s.2.2.2.2))
  | 12 => (match s.2.2.2.2 with
    | [] => .inl (8, 0)
    | c :: l => gx_b (mi_add 10 c 0 0 (am_up g 284 c.toNat e.2.2.2)) fun g1 => .inr (g1, s.2.1, s.2.2.1, s.2.2.2.1, l))
  | 20 => mi_h s (mi_add 11 0 0 e.2.1 g)
  | 21 => .inr s
  | 22 => mi_h s (gx_b (mi_add 13 0 0 e.2.1 g) (mi_add 12 0 0 0))
  | 23 => mi_h s (gx_b (mi_add 14 0 0 0 g) (mi_add 12 0 0 0))
  | 24 => ce_q (0 ≤ g 254 50 ∧ g 254 50 < 99990) (.inr (am_up g 254 50 (g 254 50 + 2), s.2.1, s.2.2.1, (1, g 254 50, 0, g 254 33) :: s.2.2.2.1, s.2.2.2.2))
  | 25 => (match s.2.2.2.1 with
    | [] => .inl (8, 0)
    | b :: l => ce_q (l.length < 40) (gx_b (mi_add 15 0 b.2.1 0 g) fun g1 => .inr (mi_blk l.length 1 b.2.1 (g 254 33) b.2.2.2 g1, s.2.1, s.2.2.1, (1, b.2.1, g 254 33, b.2.2.2) :: l, s.2.2.2.2)))
  | 26 => (match s.2.2.2.1 with
    | [] => .inl (8, 0)
    | b :: l => gx_b (mi_add 16 0 (b.2.1 + 1) 0 (am_up g 254 55 (l.length : Int))) fun g1 => gx_b (mi_add 20 b.2.1 0 0 g1) fun g2 => .inr (mi_blk l.length 2 b.2.1 (g 254 33) 0 (am_up g2 278 b.2.2.1.toNat (g1 254 33)), s.2.1, s.2.2.1, (2, b.2.1, g 254 33, 0) :: l, s.2.2.2.2))
  | 27 => (match s.2.2.2.1 with
    | [] => .inl (8, 0)
    | b :: l => gx_b (mi_add 20 b.2.1 0 0 (am_up g 254 55 (l.length : Int))) fun g1 => gx_b (mi_add 12 0 0 0 (am_up g1 278 b.2.2.1.toNat (g 254 33))) fun g2 => .inr (g2, s.2.1, s.2.2.1, l, s.2.2.2.2))
  | 28 => (match s.2.2.2.1 with
    | [] => .inl (8, 0)
    | b :: l => gx_b (mi_add 20 (b.2.1 + 1) 0 0 (am_up g 254 55 (l.length : Int))) fun g1 => gx_b (mi_add 12 0 0 0 (am_up g1 278 b.2.2.1.toNat (g 254 33))) fun g2 => .inr (g2, s.2.1, s.2.2.1, l, s.2.2.2.2))
  | 30 => ce_q (0 ≤ g 254 50 ∧ g 254 50 < 99990) (gx_b (mi_add 20 (g 254 50) 0 0 (am_up g 254 50 (g 254 50 + 2))) fun g1 => gx_b (mi_add 17 0 0 0 g1) fun g2 => .inr (g2, s.2.1, s.2.2.1, (3, g 254 50, 0, g 254 33) :: s.2.2.2.1, s.2.2.2.2))
  | 31 => (match s.2.2.2.1 with
    | [] => .inl (8, 0)
    | b :: l => ce_q (l.length < 40) (gx_b (mi_add 15 0 (b.2.1 + 1) 0 g) fun g1 => .inr (mi_blk l.length 3 b.2.1 (g 254 33) b.2.2.2 g1, s.2.1, s.2.2.1, (3, b.2.1, g 254 33, b.2.2.2) :: l, s.2.2.2.2)))
  | 32 => (match s.2.2.2.1 with
    | [] => .inl (8, 0)
    | b :: l => gx_b (mi_add 16 b.2.2.2 b.2.1 0 (am_up g 254 55 (l.length : Int))) fun g1 => gx_b (mi_add 20 (b.2.1 + 1) 0 0 g1) fun g2 => gx_b (mi_add 12 0 0 0 (am_up g2 278 b.2.2.1.toNat (g1 254 33))) fun g3 => .inr (g3, s.2.1, s.2.2.1, l, s.2.2.2.2))
  | 33 => mi_h s (mi_add 18 0 0 0 g)
  | 34 => mi_h s (gx_b (mi_add 19 0 0 0 g) (mi_add 12 0 0 0))
  | 38 => .inr s
  | 39 => .inr s
  | 40 => .inr (am_up (am_up (am_up (am_up g 261 (g 254 14).toNat e.2.1) 262 (g 254 14).toNat 0) 254 14 (g 254 14 + 1)) 254 60 0, s.2)
  | 41 => .inr (g, e.2.1, s.2.2)
  | 42 => ce_q (g 254 25 < 1090) (if e.2.2.1 = 1 then .inr (am_up (mi_dec (-1) 1 s.2.1 e.2.1 (g 262 (g 254 14 - 1).toNat) (g 262 (g 254 14 - 1).toNat) g) 262 (g 254 14 - 1).toNat (g 262 (g 254 14 - 1).toNat + 1), s.2)
      else .inr (am_up (am_up (mi_dec (-1) 0 s.2.1 e.2.1 (g 254 60) (g 254 16) g) 254 16 (g 254 16 + 1)) 254 60 (g 254 60 + 1), s.2))
  | 43 => .inr s
  | 44 => .inr (g, -1, V e.2.1.toNat, s.2.2.2)
  | 45 => .inr (am_up (am_up (am_up (am_up (am_up (am_up (am_up (am_up (am_up g 263 (g 254 17).toNat (g 254 14 - 1)) 264 (g 254 17).toNat s.2.2.1) 265 (g 254 17).toNat e.2.1) 266 (g 254 17).toNat s.2.1) 267 (g 254 17).toNat 0) 268 (g 254 17).toNat 0) 269 (g 254 17).toNat (g 254 33)) 254 17 (g 254 17 + 1)) 254 50 0, s.2)
  | 51 => .inr s
  | 46 => ce_q (g 254 25 < 1090) (.inr (am_up (mi_dec (g 254 17 - 1) 2 s.2.1 e.2.1 (g 267 (g 254 17 - 1).toNat) (g 267 (g 254 17 - 1).toNat) g) 267 (g 254 17 - 1).toNat (g 267 (g 254 17 - 1).toNat + 1), s.2))
  | 47 => .inr s
  | 50 => ce_q (g 254 25 < 1090) (.inr (am_up (mi_dec (g 254 17 - 1) 3 s.2.1 e.2.1 (g 268 (g 254 17 - 1).toNat) (g 268 (g 254 17 - 1).toNat) g) 268 (g 254 17 - 1).toNat (g 268 (g 254 17 - 1).toNat + 1), s.2))
  | 48 => .inr (am_up (am_up g 269 (g 254 17 - 1).toNat (g 254 33)) 254 55 0, s.2)
  | 49 => mi_h s (gx_b (mi_add 0 0 0 0 g) (mi_add 18 1 0 0))
  | _ => .inl (8, 0)
end
/-- cells that stand where the reading stands -/
def mp_C : List Nat := [280, 284, 290, 291, 292]
def mp_F : List (Nat × Nat) := [(254, 10), (254, 11), (254, 12), (254, 48), (254, 49), (254, 51), (254, 61), (254, 62)]
/-- cells that a reading may change at all -/
def mp_C2 : List Nat := [261, 262, 263, 264, 265, 266, 267, 268, 269, 270, 271, 272, 273, 274, 275, 276, 277, 278, 279, 280, 281, 282, 283, 284, 289, 290, 291, 292, 293, 294, 295, 296]
def mp_F2 : List (Nat × Nat) := [(254, 10), (254, 11), (254, 12), (254, 14), (254, 16), (254, 25), (254, 33), (254, 39), (254, 48), (254, 49), (254, 50), (254, 51), (254, 55), (254, 60), (254, 61), (254, 62)]
/-- kinds, as the model has them -/
def mp_k (k : Int) : Int := if k = 1 then 5 else if k = 2 then 1 else if k = 3 then 2 else if k = 4 then 3 else if k = 5 then 4 else k
/-- items whose token is asked for later -/
def mp_rel (k : Int) : Prop := k = 1 ∨ k = 3 ∨ k = 4 ∨ k = 11 ∨ k = 13
/-- counts -/
def mp_ok (g : am_H) : Prop := (0 ≤ g 254 33 ∧ g 254 33 ≤ 4900) ∧ (0 ≤ g 254 39 ∧ g 254 39 ≤ 990) ∧ (0 ≤ g 254 17 ∧ g 254 17 ≤ 60) ∧ (0 ≤ g 254 14 ∧ g 254 14 ≤ 12) ∧ (0 ≤ g 254 25 ∧ g 254 25 ≤ 1090) ∧ (0 ≤ (0 : Int) ∧ (0 : Int) ≤ 100000) ∧ (0 ≤ g 254 16 ∧ g 254 16 ≤ 12) ∧ (0 ≤ (0 : Int) ∧ (0 : Int) ≤ 12)
section
variable (K V P : Nat → Int) (Z : Nat)
/-- the tokens -/
def mp_T (h : am_H) : Prop := Z ≤ 1000 ∧ (K Z = 0 ∨ K Z = 6 ∨ K Z = 7) ∧ ∀ i, i ≤ Z → h 257 i = mp_k (K i) ∧ h 258 i = P i ∧ (0 ≤ K i ∧ K i ≤ 7) ∧ (-32768 ≤ V i ∧ V i ≤ 32767) ∧ ((K i = 1 ∨ K i = 3 ∨ K i = 4 ∨ K i = 5) → h 260 i = V i) ∧ (K i = 4 → 0 ≤ V i) ∧ (K i = 1 → 0 ≤ V i ∧ V i ≤ 20)
def mp_I (i : Nat) : Prop := i ≤ Z ∧ (K i ≠ 0 → K i ≠ 6 → K i ≠ 7 → i < Z)
/-- where the model's reading stands: oc: calls that are open -/
def mp_N (g0 : am_H) (oc : List Int) (i deep st : Nat) (g h : am_H) : Prop := p_fr mp_C mp_F g h ∧ p_fr mp_C2 mp_F2 g0 g ∧ (h 254 10 = i ∧ h 254 11 = 0 ∧ h 254 48 = deep ∧ h 254 49 = st ∧ 0 ≤ h 254 51 ∧ h 254 51 ≤ 142) ∧ mp_T K V P Z g ∧ mp_I K Z i ∧ mp_ok g ∧ (deep ≤ 25 ∧ st ≤ 300) ∧
  (∀ k : Nat, (k : Int) < g 254 33 → (mp_rel (g 277 k) → h 280 k = g 280 k) ∧ 0 ≤ h 280 k ∧ h 280 k ≤ 1001) ∧ (∀ k : Nat, (k : Int) < g 254 39 → (k : Int) ∉ oc → h 284 k = g 284 k) ∧ (∀ c ∈ oc, 0 ≤ c ∧ c < g 254 39 ∧ 0 ≤ g 283 c.toNat ∧ g 283 c.toNat ≤ 1001)
/-- a fault has been found -/
def mp_B (g0 : am_H) (m : Nat) (e : Int × Int) (h : am_H) : Prop := p_fr mp_C2 mp_F2 g0 h ∧ 0 < e.1 ∧ h 254 11 = e.1 ∧ h 254 12 = e.2 ∧ (0 ≤ h 254 10 ∧ h 254 10 ≤ 1001) ∧ (0 ≤ h 254 33 ∧ h 254 33 ≤ m) ∧ (0 ≤ h 254 39 ∧ h 254 39 ≤ 999) ∧ (-(m : Int) ≤ h 254 48 ∧ h 254 48 ≤ m) ∧ (0 ≤ h 254 51 ∧ h 254 51 ≤ 142) ∧ (0 ≤ h 254 17 ∧ h 254 17 ≤ 60) ∧ (0 ≤ h 254 14 ∧ h 254 14 ≤ 12) ∧ (0 ≤ h 254 25 ∧ h 254 25 ≤ (m : Int) - 3810)
end
