/-! PURE LAYER, 12: what the component does at an event, as a change of the heap. w: it writes (the second reading); sy: the system's own text. A fault 8: an array is too small, or a number is none -/
/-- the first place from k on, of m, where a row has x; -1 -/
def p_find (f : Nat → Int) (x : Int) : Nat → Nat → Int
  | 0, _ => -1
  | m + 1, k => if f k = x then k else p_find f x m (k + 1)
def p_find2 (f g : Nat → Int) (x y : Int) : Nat → Nat → Int
  | 0, _ => -1
  | m + 1, k => if f k = x ∧ g k = y then k else p_find2 f g x y m (k + 1)
theorem p_find_rg (f : Nat → Int) (x : Int) : ∀ m k, p_find f x m k = -1 ∨ ((k : Int) ≤ p_find f x m k ∧ p_find f x m k < k + m ∧ f (p_find f x m k).toNat = x)
  | 0, k => Or.inl rfl
  | m + 1, k => by
    unfold p_find
    split
    · rename_i c; exact Or.inr ⟨by omega, by omega, by rw [Int.toNat_natCast]; exact c⟩
    · rcases p_find_rg f x m (k + 1) with h | ⟨h1, h2, h3⟩
      · exact Or.inl h
      · exact Or.inr ⟨by omega, by omega, h3⟩
theorem p_find2_rg (f g : Nat → Int) (x y : Int) : ∀ m k, p_find2 f g x y m k = -1 ∨ ((k : Int) ≤ p_find2 f g x y m k ∧ p_find2 f g x y m k < k + m ∧ f (p_find2 f g x y m k).toNat = x ∧ g (p_find2 f g x y m k).toNat = y)
  | 0, k => Or.inl rfl
  | m + 1, k => by
    unfold p_find2
    split
    · rename_i c; exact Or.inr ⟨by omega, by omega, by rw [Int.toNat_natCast]; exact c⟩
    · rcases p_find2_rg f g x y m (k + 1) with h | ⟨h1, h2, h3⟩
      · exact Or.inl h
      · exact Or.inr ⟨by omega, by omega, h3⟩
/-- counts that may stand there -/
def ce_ok (g : am_H) : Prop := (0 ≤ g 8 3 ∧ g 8 3 ≤ 9000) ∧ (0 ≤ g 8 4 ∧ g 8 4 ≤ 100000) ∧ (0 ≤ g 235 3 ∧ g 235 3 ≤ 8000) ∧ (0 ≤ g 235 4 ∧ g 235 4 ≤ 100000) ∧ (0 ≤ g 213 3 ∧ g 213 3 ≤ 24) ∧ (0 ≤ g 217 5 ∧ g 217 5 ≤ 130) ∧ (0 ≤ g 223 5 ∧ g 223 5 ≤ 50) ∧ (0 ≤ g 229 5 ∧ g 229 5 ≤ 50)
def ce_q {α : Type} (p : Prop) [Decidable p] (x : gx_R α) : gx_R α := if p then x else .inl (8, 0)
/-- a fault of names -/
def ce_chk {α : Type} (w : Bool) (p : Prop) [Decidable p] (e : Int × Int) (x : gx_R α) : gx_R α := if w = true ∧ ¬ p then .inl e else x
def ce_add (op a b : Int) (g : am_H) : am_H := am_up (am_up (am_up (am_up g 9 (g 8 3).toNat op) 10 (g 8 3).toNat (am_s16 a)) 11 (g 8 3).toNat (am_s16 b)) 8 3 (g 8 3 + 1)
def ce_vm (w : Bool) (op a b : Int) (g : am_H) : gx_R am_H := if w = true then ce_q (g 8 3 < 9000) (.inr (ce_add op a b g)) else .inr g
def ce_tel (op a b : Int) (g : am_H) : am_H := am_up (am_up (am_up (am_up g 236 (g 235 3).toNat op) 237 (g 235 3).toNat (am_s16 a)) 238 (g 235 3).toNat (am_s16 b)) 235 3 (g 235 3 + 1)
def ce_li (w sy : Bool) (op a b : Int) (g : am_H) : gx_R am_H := if w = true ∧ sy = false then ce_q (g 235 3 < 8000) (.inr (ce_tel op a b g)) else .inr g
def ce_cls (g : am_H) (x : Int) : Int := p_find (g 214) x (g 213 3).toNat 0
def ce_sub (g : am_H) (o x : Int) : Int := p_find2 (g 218) (g 219) o x (g 217 5).toNat 0
def ce_vc (g : am_H) (x : Int) : Int := p_find (g 224) x (g 223 5).toNat 0
def ce_vs (g : am_H) (x : Int) : Int := p_find (g 230) x (g 229 5).toNat 0
def ce_own (g : am_H) (x : Int) : Int := p_find (g 214) x (g 213 3 - g 212 20).toNat (g 212 20).toNat
/-- names are told by their numbers -/
abbrev ce_nm (g : am_H) (x : Int) : Prop := 0 ≤ x ∧ x < 1400 ∧ 0 ≤ g 6 x.toNat ∧ g 6 x.toNat < 18000
abbrev ce_hid (g : am_H) (x : Int) : Prop := g 5 (g 6 x.toNat).toNat = 95
/-- the class that a name means -/
def ce_cof (sy : Bool) (g : am_H) (x : Int) : Int :=
  if sy = true ∨ ¬ ce_hid g x then (if ce_cls g x = -1 ∨ g 212 20 ≤ ce_cls g x then ce_own g x else ce_cls g x) else ce_own g x
def ce_sof (sy : Bool) (g : am_H) (o x : Int) : Int := if sy = false ∧ o < g 212 20 ∧ ce_hid g x then -1 else ce_sub g o x
abbrev ce_var (g : am_H) (x : Int) : Prop := ce_vs g x ≠ -1 ∨ ce_vc g x ≠ -1
/-- kind, place, type, number of a variable -/
def ce_kd (g : am_H) (x : Int) : Int := if ce_vs g x ≠ -1 then g 231 (ce_vs g x).toNat else g 225 (ce_vc g x).toNat
def ce_pl (g : am_H) (x : Int) : Int := if ce_vs g x ≠ -1 then g 232 (ce_vs g x).toNat else g 226 (ce_vc g x).toNat
def ce_ty (g : am_H) (x : Int) : Int := if ce_vs g x ≠ -1 then g 233 (ce_vs g x).toNat else g 227 (ce_vc g x).toNat
def ce_no (g : am_H) (x : Int) : Int := if ce_vs g x ≠ -1 then g 234 (ce_vs g x).toNat else g 228 (ce_vc g x).toNat
def ce_seg (k : Int) : Int := if k = 1 then 1 else if k = 2 then 2 else 3
def ce_lseg (k : Int) : Int := if k = 1 then 1 else if k = 2 then 2 else if k = 4 then 4 else 3
/-- commands as they are told of a variable -/
def ce_tvar (w sy : Bool) (op x : Int) (g : am_H) : gx_R am_H := if w = true ∧ sy = false then ce_li w sy op (ce_lseg (ce_kd g x)) (ce_no g x) g else .inr g
def ce_call (w : Bool) (o x many : Int) (g : am_H) : gx_R am_H := if w = true then ce_vm w 15 (ce_sub g o x) many g else .inr g
def ce_tcall (w sy : Bool) (o x many : Int) (g : am_H) : gx_R am_H := if w = true ∧ sy = false then ce_q (ce_sub g o x ≠ -1) (ce_li w sy 15 (g 222 (ce_sub g o x).toNat) many g) else .inr g
def ce_both (w sy : Bool) (op told : Int) (g : am_H) : gx_R am_H := gx_b (ce_vm w op 0 0 g) (ce_li w sy told 0 0)
/-- owner's pointers are looked at -/
def ce_ckd (g : am_H) : Int := if g 215 (g 212 13).toNat = 0 then 0 else 1
def ce_get (w : Bool) (g : am_H) : gx_R am_H := ce_q (0 ≤ g 212 13 ∧ g 212 13 < 24) (ce_vm w 17 (ce_ckd g) 0 g)
def ce_set (w : Bool) (g : am_H) : gx_R am_H := ce_q (0 ≤ g 212 13 ∧ g 212 13 < 24) (ce_vm w 18 (ce_ckd g) 0 g)
/-- a variable is read -/
def ce_load (w sy : Bool) (x wh : Int) (g : am_H) : gx_R am_H :=
  ce_chk w (ce_var g x) (4, wh) (if w = false then .inr g else ce_chk w (g 212 14 ≠ 2 ∨ ce_kd g x ≠ 4) (6, wh) (gx_b (ce_tvar w sy 0 x g) fun g1 =>
    if ce_kd g1 x = 4 then gx_b (ce_vm w 19 (ce_pl g1 x) 0 g1) (ce_get w) else ce_vm w 0 (ce_seg (ce_kd g1 x)) (ce_pl g1 x) g1))
def ce_store (w : Bool) (x : Int) (g : am_H) : gx_R am_H :=
  if w = false then .inr g else if ce_kd g x = 4 then gx_b (ce_vm w 1 5 0 g) fun g1 => gx_b (ce_vm w 19 (ce_pl g1 x) 0 g1) (ce_set w) else ce_vm w 1 (ce_seg (ce_kd g x)) (ce_pl g x) g
def ce_lab (w : Bool) (g : am_H) : Int × am_H := if w = true then (g 8 4, am_up g 8 4 (g 8 4 + 1)) else (0, g)
def ce_labq (w : Bool) (g : am_H) : gx_R (Int × am_H) := if w = true then ce_q (g 8 4 < 100000) (.inr (g 8 4, am_up g 8 4 (g 8 4 + 1))) else .inr (0, g)
def ce_told (g : am_H) : gx_R (Int × am_H) := ce_q (g 235 4 < 99990) (.inr (g 235 4, am_up g 235 4 (g 235 4 + 2)))
def ce_unless (w sy : Bool) (l : Int) (g : am_H) : gx_R am_H := gx_b (ce_li w sy 0 0 0 g) fun g => gx_b (ce_li w sy 8 0 0 g) fun g => ce_li w sy 13 l 0 g
/-- how many e the brackets of a call have -/
def gx_count (K V : Nat → Int) (at_ : Nat) : Nat → Nat → Int → Int → Bool → Option Int
  | 0, _, _, _, _ => none
  | f + 1, k, open_, many, some_ =>
    if K k = 0 ∨ K k = 6 then some many
    else
      (let o2 := if K k = 5 ∧ (V k = 40 ∨ V k = 91) then open_ + 1 else if K k = 5 ∧ (V k = 41 ∨ V k = 93) then open_ - 1 else open_
       let m2 := if K k = 5 ∧ V k = 44 ∧ o2 = 1 then many + 1 else many
       if o2 = 0 then some (if some_ = true then m2 + 1 else 0) else gx_count K V at_ f (k + 1) o2 m2 (some_ || decide (at_ < k)))
section
variable (w sy : Bool) (K V P : Nat → Int)
/-- the sub of a call whose first and last names stand at tokens; whether it has an object -/
abbrev ce_obj (g : am_H) (i j : Nat) : Prop := i = j ∨ ce_var g (V i)
def ce_cc (g : am_H) (i j : Nat) : Int := if i = j ∨ w = false then g 212 13 else if ce_var g (V i) then ce_ty g (V i) else ce_cof sy g (V i)
def ce_cs (g : am_H) (i j : Nat) : Int := if w = true then ce_sof sy g (ce_cc w sy V g i j) (V j) else 0
/-- a call begins -/
def ce_begin (i j : Nat) (g : am_H) : gx_R am_H :=
  ce_q (ce_nm g (V i) ∧ ce_nm g (V j) ∧ (0 ≤ g 212 20 ∧ g 212 20 ≤ g 213 3)) (gx_b
    (if i = j then
      ce_chk w (ce_sof sy g (g 212 13) (V i) ≠ -1) (4, P i) (ce_chk w (g 220 (if ce_sof sy g (g 212 13) (V i) ≤ 0 then 0 else ce_sof sy g (g 212 13) (V i)).toNat = 3) (5, P i) (gx_b (ce_vm w 0 4 0 g) (ce_li w sy 0 6 0)))
     else ce_chk w (ce_var g (V i) ∨ ce_cof sy g (V i) ≠ -1) (4, P i) (if ce_var g (V i) then ce_load w sy (V i) (P i) g else .inr g)) fun g1 =>
    ce_chk w (ce_cc w sy V g1 i j ≠ -1 ∧ ce_sof sy g1 (ce_cc w sy V g1 i j) (V j) ≠ -1) (4, P j)
      (ce_chk w ((g1 220 (ce_cs w sy V g1 i j).toNat = 3) ↔ ce_obj V g1 i j) (5, P j)
        (match gx_count K V (j + 1) 4500 (j + 1) 0 0 false with
         | none => .inl (8, 0)
         | some many => ce_chk w (g1 221 (ce_cs w sy V g1 i j).toNat = many) (5, P j) (ce_chk w (i ≠ j ∨ g1 212 14 ≠ 2) (6, P i) (.inr g1)))))
def ce_end (i j : Nat) (g : am_H) : gx_R am_H :=
  match gx_count K V (j + 1) 4500 (j + 1) 0 0 false with
  | none => .inl (8, 0)
  | some many => gx_b (ce_vm w 15 (ce_cs w sy V g i j) (if ce_obj V g i j then many + 1 else many) g) fun g1 => ce_li w sy 15 (g1 222 (ce_cs w sy V g1 i j).toNat) (if ce_obj V g1 i j then many + 1 else many) g1
/-- a sign between two e -/
def ce_op (c : Int) (g : am_H) : gx_R am_H :=
  if c = 43 then ce_both w sy 2 2 g else if c = 45 then ce_both w sy 3 3 g else if c = 38 then ce_both w sy 5 5 g else if c = 124 then ce_both w sy 6 6 g else if c = 60 then ce_both w sy 9 9 g else if c = 62 then ce_both w sy 10 10 g else if c = 61 then ce_both w sy 8 8 g
  else gx_b (ce_call w (ce_cls g (g 212 33)) (if c = 42 then g 212 34 else g 212 35) 2 g) fun g1 => ce_tcall w sy (ce_cls g1 (g1 212 33)) (if c = 42 then g1 212 34 else g1 212 35) 2 g1
/-- the letters of a string -/
def ce_chars (s : Int) (from_ : Nat) : Nat → Nat → am_H → gx_R am_H
  | 0, _, g => .inr g
  | m + 1, k, g => gx_b (ce_vm w 0 0 (g 3 (from_ + k)) g) fun g => gx_b (ce_call w s (g 212 32) 2 g) fun g => gx_b (ce_li w sy 0 0 (g 3 (from_ + k)) g) fun g => gx_b (ce_tcall w sy s (g 212 32) 2 g) fun g => ce_chars s from_ m (k + 1) g
def ce_str (i : Nat) (g : am_H) : gx_R am_H :=
  ce_q (0 ≤ V i ∧ V i ≤ 60 ∧ 0 ≤ P i ∧ P i + 1 + V i ≤ 16000) (gx_b (ce_vm w 0 0 (V i) g) fun g1 => gx_b (ce_call w (ce_cls g (g 212 30)) (g1 212 31) 1 g1) fun g1 => gx_b (ce_li w sy 0 0 (V i) g1) fun g1 => gx_b (ce_tcall w sy (ce_cls g (g 212 30)) (g1 212 31) 1 g1) fun g1 => ce_chars w sy (ce_cls g (g 212 30)) (P i + 1).toNat (V i).toNat 0 g1)
end
/-- what the component keeps beside the heap: the type at hand, fields, own statics, parameters, vars; labels of statements that are open -/
abbrev ce_S : Type := am_H × Int × Int × Int × Int × Int × List (Int × Int × Int × Int)
def ce_h (s : ce_S) (r : gx_R am_H) : gx_R ce_S := gx_b r fun g => .inr (g, s.2)
def ce_var1 (k pl ty no x : Int) (g : am_H) : am_H := am_up (am_up (am_up (am_up (am_up (am_up g 224 (g 223 5).toNat x) 225 (g 223 5).toNat k) 226 (g 223 5).toNat pl) 227 (g 223 5).toNat ty) 228 (g 223 5).toNat no) 223 5 (g 223 5 + 1)
def ce_var2 (k pl ty no x : Int) (g : am_H) : am_H := am_up (am_up (am_up (am_up (am_up (am_up g 230 (g 229 5).toNat x) 231 (g 229 5).toNat k) 232 (g 229 5).toNat pl) 233 (g 229 5).toNat ty) 234 (g 229 5).toNat no) 229 5 (g 229 5 + 1)
section
variable (w sy : Bool) (K V P : Nat → Int)
/-- a sub's beginning -/
def ce_func (s : ce_S) : gx_R am_H :=
  let g := s.1
  ce_q (0 ≤ g 212 16 ∧ g 212 16 < 130 ∧ 0 ≤ g 212 13 ∧ g 212 13 < 24) (gx_b (ce_vm w 14 (g 212 16) s.2.2.2.2.2.1 g) fun g => gx_b (ce_li w sy 14 (g 222 (g 212 16).toNat) s.2.2.2.2.2.1 g) fun g0 =>
    let g := am_up g0 235 4 0
    if g 212 14 = 3 then gx_b (ce_vm w 0 1 0 g) fun g => gx_b (ce_vm w 1 4 0 g) fun g => gx_b (ce_li w sy 0 1 0 g) fun g => ce_li w sy 1 6 0 g
    else if g 212 14 = 1 then gx_b (ce_vm w 0 0 (if g 216 (g 212 13).toNat ≤ 1 then 1 else g 216 (g 212 13).toNat) g) fun g => gx_b (ce_call w (ce_cls g (g 212 28)) (g 212 29) 1 g) fun g => gx_b (ce_vm w 1 4 0 g) fun g => gx_b (ce_li w sy 0 0 (if g 216 (g 212 13).toNat ≤ 1 then 1 else g 216 (g 212 13).toNat) g) fun g => gx_b (ce_tcall w sy (ce_cls g (g 212 28)) (g 212 29) 1 g) fun g => ce_li w sy 1 6 0 g
    else .inr g)
/-- the component's way with an event -/
def ce (e : gx_V) (s : ce_S) : gx_R ce_S :=
  let g := s.1
  let i := e.2.1.toNat
  match e.1 with
  | 1 => ce_h s (gx_b (ce_vm w 0 0 e.2.1 g) (ce_li w sy 0 0 e.2.1))
  | 2 => ce_h s (gx_b (ce_vm w 0 0 0 g) fun g => gx_b (ce_li w sy 0 0 0 g) (ce_both w sy 7 7))
  | 3 => ce_h s (gx_b (ce_vm w 0 0 0 g) (ce_li w sy 0 0 0))
  | 4 => ce_h s (ce_chk w (g 212 14 ≠ 2) (6, P i) (gx_b (ce_vm w 0 4 0 g) (ce_li w sy 0 6 0)))
  | 5 => ce_h s (ce_str w sy V P i g)
  | 6 => ce_h s (ce_q (ce_nm g (V i)) (ce_load w sy (V i) (P i) g))
  | 7 => ce_h s (gx_b (ce_both w sy 2 2 g) fun g => gx_b (ce_get w g) fun g => gx_b (ce_li w sy 1 6 1 g) (ce_li w sy 0 5 0))
  | 8 => ce_h s (ce_op w sy e.2.1 g)
  | 9 => ce_h s (ce_both w sy 4 4 g)
  | 10 => ce_h s (ce_both w sy 7 7 g)
  | 11 => ce_h s (ce_begin w sy K V P i e.2.2.1.toNat g)
  | 12 => ce_h s (ce_end w sy K V i e.2.2.1.toNat g)
  | 20 => ce_h s (if sy = true then .inr g else ce_vm w 20 (P i) 0 g)
  | 21 => ce_h s (ce_q (ce_nm g (V i)) (ce_chk w (ce_var g (V i)) (4, P i) (ce_chk w (g 212 14 ≠ 2 ∨ ce_kd g (V i) ≠ 4) (6, P i) (.inr g))))
  | 22 => ce_h s (gx_b (ce_store w (V i) g) (ce_tvar w sy 1 (V i)))
  | 23 => ce_h s (gx_b (ce_vm w 1 5 0 g) fun g => gx_b (ce_set w g) fun g => gx_b (ce_li w sy 1 7 0 g) fun g => gx_b (ce_li w sy 1 6 1 g) fun g => gx_b (ce_li w sy 0 7 0 g) (ce_li w sy 1 5 0))
  | 24 => gx_b (ce_told g) fun r => .inr (r.2, s.2.1, s.2.2.1, s.2.2.2.1, s.2.2.2.2.1, s.2.2.2.2.2.1, (r.1, 0, 0, 0) :: s.2.2.2.2.2.2)
  | 25 => (match s.2.2.2.2.2.2 with
    | [] => .inl (8, 0)
    | q :: l => gx_b (ce_unless w sy q.1 g) fun g => gx_b (ce_labq w g) fun r => gx_b (ce_labq w r.2) fun r2 => gx_b (ce_vm w 13 r.1 0 r2.2) fun g => gx_b (ce_vm w 12 r2.1 0 g) fun g => gx_b (ce_vm w 11 r.1 0 g) fun g => .inr (g, s.2.1, s.2.2.1, s.2.2.2.1, s.2.2.2.2.1, s.2.2.2.2.2.1, (q.1, r2.1, 0, 0) :: l))
  | 26 => (match s.2.2.2.2.2.2 with
    | [] => .inl (8, 0)
    | q :: l => gx_b (ce_labq w g) fun r => gx_b (ce_vm w 12 r.1 0 r.2) fun g => gx_b (ce_vm w 11 q.2.1 0 g) fun g => gx_b (ce_li w sy 12 (q.1 + 1) 0 g) fun g => gx_b (ce_li w sy 11 q.1 0 g) fun g => .inr (g, s.2.1, s.2.2.1, s.2.2.2.1, s.2.2.2.2.1, s.2.2.2.2.2.1, (q.1, q.2.1, r.1, 0) :: l))
  | 27 => (match s.2.2.2.2.2.2 with
    | [] => .inl (8, 0)
    | q :: l => gx_b (ce_vm w 11 q.2.1 0 g) fun g => gx_b (ce_li w sy 11 q.1 0 g) fun g => .inr (g, s.2.1, s.2.2.1, s.2.2.2.1, s.2.2.2.2.1, s.2.2.2.2.2.1, l))
  | 28 => (match s.2.2.2.2.2.2 with
    | [] => .inl (8, 0)
    | q :: l => gx_b (ce_vm w 11 q.2.2.1 0 g) fun g => gx_b (ce_li w sy 11 (q.1 + 1) 0 g) fun g => .inr (g, s.2.1, s.2.2.1, s.2.2.2.1, s.2.2.2.2.1, s.2.2.2.2.2.1, l))
  | 30 => gx_b (ce_labq w g) fun r => gx_b (ce_labq w r.2) fun r2 => gx_b (ce_told r2.2) fun r3 => gx_b (ce_vm w 11 r.1 0 r3.2) fun g => gx_b (ce_li w sy 11 r3.1 0 g) fun g => gx_b (if sy = true then .inr g else ce_vm w 20 (P i) 0 g) fun g => .inr (g, s.2.1, s.2.2.1, s.2.2.2.1, s.2.2.2.2.1, s.2.2.2.2.2.1, (r3.1, r.1, r2.1, 0) :: s.2.2.2.2.2.2)
  | 31 => (match s.2.2.2.2.2.2 with
    | [] => .inl (8, 0)
    | q :: _ => ce_h s (gx_b (ce_unless w sy (q.1 + 1) g) fun g => gx_b (ce_labq w g) fun r => gx_b (ce_vm w 13 r.1 0 r.2) fun g => gx_b (ce_vm w 12 q.2.2.1 0 g) fun g => ce_vm w 11 r.1 0 g))
  | 32 => (match s.2.2.2.2.2.2 with
    | [] => .inl (8, 0)
    | q :: l => gx_b (ce_vm w 12 q.2.1 0 g) fun g => gx_b (ce_vm w 11 q.2.2.1 0 g) fun g => gx_b (ce_li w sy 12 q.1 0 g) fun g => gx_b (ce_li w sy 11 (q.1 + 1) 0 g) fun g => .inr (g, s.2.1, s.2.2.1, s.2.2.2.1, s.2.2.2.2.1, s.2.2.2.2.2.1, l))
  | 33 => ce_h s (ce_both w sy 16 16 g)
  | 34 => ce_h s (gx_b (ce_vm w 1 5 0 g) (ce_li w sy 1 7 0))
  | 39 => ce_h s (ce_q (g 212 17 < 1000) (.inr (am_up (am_up g 212 13 (g 212 17)) 212 17 (g 212 17 + 1))))
  | 40 => ce_h s (ce_q (ce_nm g (V i) ∧ 0 ≤ g 212 20 ∧ g 212 20 ≤ g 213 3 ∧ g 212 20 ≤ g 212 13 ∧ g 212 13 < 24)
      (if w = true then ce_chk w (ce_cls g (V i) = g 212 13 ∨ (sy = false ∧ ce_hid g (V i) ∧ ce_own g (V i) = g 212 13)) (3, P i) (.inr g)
       else ce_q (g 213 3 < 24) (.inr (am_up (am_up (am_up (am_up (am_up g 214 (g 213 3).toNat (V i)) 215 (g 213 3).toNat 1) 216 (g 213 3).toNat 0) 213 3 (g 213 3 + 1)) 215 (g 212 13).toNat (if sy = false ∨ V i = g 212 30 ∨ ce_hid g (V i) then 1 else 0)))))
  | 38 => .inr (am_up (am_up g 223 5 0) 212 18 (g 212 16), s.2.1, 0, 0, 0, 0, s.2.2.2.2.2.2)
  | 41 => (if K i = 1 then .inr (g, -1, s.2.2) else ce_q (ce_nm g (V i) ∧ 0 ≤ g 212 20 ∧ g 212 20 ≤ g 213 3) (ce_chk w (ce_cof sy g (V i) ≠ -1) (4, P i) (.inr (g, ce_cof sy g (V i), s.2.2))))
  | 42 => ce_chk w (ce_vc g (V i) = -1) (3, P i) (ce_q (g 223 5 < 50 ∧ g 212 15 < 100000) (
      if e.2.2.1 = 1 then .inr (ce_var1 4 s.2.2.1 s.2.1 s.2.2.1 (V i) g, s.2.1, s.2.2.1 + 1, s.2.2.2)
      else .inr (am_up (ce_var1 3 (g 212 15) s.2.1 s.2.2.2.1 (V i) g) 212 15 (g 212 15 + 1), s.2.1, s.2.2.1, s.2.2.2.1 + 1, s.2.2.2.2)))
  | 43 => ce_h s (ce_q (0 ≤ g 212 20 ∧ g 212 20 ≤ g 212 13 ∧ g 212 13 < 24) (.inr (am_up g 216 (g 212 13).toNat s.2.2.1)))
  | 44 => ce_h s (.inr (am_up g 212 14 (V i)))
  | 45 => ce_h s (ce_chk w (ce_sub g (g 212 13) (V i) = g 212 16) (3, P i) (if w = true then .inr g else ce_q (g 217 5 < 130 ∧ 0 ≤ g 212 21 ∧ g 212 21 ≤ g 217 5 ∧ g 212 21 ≤ g 212 16 ∧ g 212 16 < 130)
      (.inr (am_up (am_up (am_up (am_up (am_up (am_up g 218 (g 217 5).toNat (g 212 13)) 219 (g 217 5).toNat (V i)) 220 (g 217 5).toNat (g 212 14)) 221 (g 217 5).toNat 0) 217 5 (g 217 5 + 1)) 222 (g 212 16).toNat (if sy = true then 0 else am_w (am_w (am_w (100 * am_w (am_w (8 + g 212 13) - g 212 20)) + g 212 16) - g 212 18))))))
  | 51 => .inr (am_up g 229 5 0, s.2.1, s.2.2.1, s.2.2.2.1, 0, s.2.2.2.2.2)
  | 46 => ce_chk w (ce_vs g (V i) = -1) (3, P i) (ce_q (g 229 5 < 50) (.inr (ce_var2 1 (if g 212 14 = 3 then s.2.2.2.2.1 + 1 else s.2.2.2.2.1) s.2.1 (if g 212 14 = 3 then s.2.2.2.2.1 + 1 else s.2.2.2.2.1) (V i) g, s.2.1, s.2.2.1, s.2.2.2.1, s.2.2.2.2.1 + 1, s.2.2.2.2.2)))
  | 47 => ce_q (0 ≤ g 212 21 ∧ g 212 21 ≤ g 212 16 ∧ g 212 16 < 130) (.inr (am_up g 221 (g 212 16).toNat s.2.2.2.2.1, s.2.1, s.2.2.1, s.2.2.2.1, s.2.2.2.2.1, 0, s.2.2.2.2.2.2))
  | 50 => ce_chk w (ce_vs g (V i) = -1) (3, P i) (ce_q (g 229 5 < 50) (.inr (ce_var2 2 s.2.2.2.2.2.1 s.2.1 s.2.2.2.2.2.1 (V i) g, s.2.1, s.2.2.1, s.2.2.2.1, s.2.2.2.2.1, s.2.2.2.2.2.1 + 1, s.2.2.2.2.2.2)))
  | 48 => ce_h s (ce_func w sy s)
  | 49 => ce_h s (gx_b (ce_vm w 0 0 0 g) fun g => gx_b (ce_vm w 16 0 0 g) fun g => gx_b (ce_li w sy 0 0 0 g) fun g => gx_b (ce_li w sy 16 0 0 g) fun g => ce_q (g 212 16 < 1000) (.inr (am_up g 212 16 (g 212 16 + 1))))
  | _ => .inl (8, 0)
end
