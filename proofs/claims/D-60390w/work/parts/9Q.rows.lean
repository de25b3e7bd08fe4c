/-! CONSTRUCTORS, 9: rows kept as lists: cells 212 .. 238, 8; lines of code as a list, the last one first; the component's way with events over them. Printed by gen/ct2.py out of part 42 -/
abbrev Tr : Type := List (List Int) × List (Int × Int × Int)
def tix (c : Nat) : Option Nat := cond (Nat.ble 212 c && Nat.ble c 238) (some (c - 212)) (cond (Nat.beq c 8) (some 27) none)
section
variable {α : Type}
def rset (d : α) : List α → Nat → α → List α
  | [], 0, v => [v]
  | [], k + 1, v => d :: rset d [] k v
  | _ :: l, 0, v => v :: l
  | x :: l, k + 1, v => x :: rset d l k v
theorem rset_at {d : α} : ∀ (l : List α) (k : Nat) (v : α) (j : Nat), (rset d l k v).getD j d = if j = k then v else l.getD j d
  | [], 0, v, 0 => rfl
  | [], 0, v, j + 1 => rfl
  | [], k + 1, v, 0 => rfl
  | [], k + 1, v, j + 1 => by
    show (rset d [] k v).getD j d = _
    rw [rset_at [] k v j]
    by_cases e : j = k
    · rw [if_pos e, if_pos (by omega)]
    · rw [if_neg e, if_neg (by omega)]; rfl
  | x :: l, 0, v, 0 => rfl
  | x :: l, 0, v, j + 1 => rfl
  | x :: l, k + 1, v, 0 => rfl
  | x :: l, k + 1, v, j + 1 => by
    show (rset d l k v).getD j d = _
    rw [rset_at l k v j]
    by_cases e : j = k
    · rw [if_pos e, if_pos (by omega)]
    · rw [if_neg e, if_neg (by omega)]; rfl
end
def tu (T : Tr) (c k : Nat) (v : Int) : Tr := match tix c with
  | some p => (rset [] T.1 p (rset 0 (T.1.getD p []) k v), T.2)
  | none => T
def syR5 : List Int := [99, 108, 97, 115, 115, 99, 111, 110, 115, 116, 114, 117, 99, 116, 111, 114, 102, 117, 110, 99, 116, 105, 111, 110, 109, 101, 116, 104, 111, 100, 102, 105, 101, 108, 100, 115, 116, 97, 116, 105, 99, 118, 97, 114, 105, 110, 116, 99, 104, 97, 114, 98, 111, 111, 108, 101, 97, 110, 118, 111, 105, 100, 116, 114, 117, 101, 102, 97, 108, 115, 101, 110, 117, 108, 108, 116, 104, 105, 115, 108, 101, 116, 100, 111, 105, 102, 101, 108, 115, 101, 119, 104, 105, 108, 101, 114, 101, 116, 117, 114, 110, 77, 97, 105, 110, 109, 97, 105, 110, 77, 101, 109, 111, 114, 121, 97, 108, 108, 111, 99, 83, 116, 114, 105, 110, 103, 110, 101, 119, 97, 112, 112, 101, 110, 100, 67, 104, 97, 114, 77, 97, 116, 104, 109, 117, 108, 116, 105, 112, 108, 121, 100, 105, 118, 105, 100, 101, 95, 105, 110, 105, 116, 83, 99, 114, 101, 101, 110, 83, 121, 115, 104, 97, 108, 116, 115, 116, 97, 114, 116, 115, 115, 105, 122, 101, 115, 109, 97, 110, 121, 112, 101, 101, 107, 97, 95, 87, 111, 114, 100, 115, 95, 103, 101, 116, 112, 111, 107, 101, 118, 95, 115, 101, 116, 110, 97, 116, 105, 107, 65, 114, 114, 97, 121, 115, 122, 101, 114, 114, 111, 114, 100, 101, 65, 108, 108, 111, 99, 97, 98, 115, 120, 109, 105, 110, 121, 109, 97, 120, 115, 117, 109, 98, 105, 116, 113, 114, 108, 101, 97, 115, 116, 109, 105, 110, 117, 115, 115, 113, 114, 116, 116, 115, 113, 117, 97, 114, 101, 100, 105, 115, 112, 111, 115, 101, 112, 108, 101, 110, 103, 116, 104, 99, 104, 97, 114, 65, 116, 106, 115, 101, 116, 67, 104, 97, 114, 65, 116, 99, 101, 114, 97, 115, 101, 76, 97, 115, 116, 67, 104, 97, 114, 105, 110, 116, 86, 97, 108, 117, 101, 115, 101, 116, 73, 110, 116, 95, 100, 105, 103, 105, 116, 115, 110, 101, 119, 76, 105, 110, 101, 100, 111, 117, 98, 108, 101, 81, 117, 111, 116, 101, 98, 97, 99, 107, 83, 112, 97, 99, 101, 79, 117, 116, 112, 117, 116, 112, 114, 105, 110, 116, 67, 104, 97, 114, 112, 114, 105, 110, 116, 108, 110, 112, 114, 105, 110, 116, 83, 116, 114, 105, 110, 103, 112, 114, 105, 110, 116, 73, 110, 116, 75, 101, 121, 98, 111, 97, 114, 100, 107, 101, 121, 80, 114, 101, 115, 115, 101, 100, 114, 101, 97, 100, 67, 104, 97, 114, 95, 108, 101, 102, 116, 114, 101, 97, 100, 76, 105, 110, 101, 109, 109, 111, 114, 101, 99, 111, 108, 111, 114, 115, 101, 116, 67, 111, 108, 111, 114, 98, 99, 108, 101, 97, 114, 83, 99, 114, 101, 101, 110, 95, 111, 117, 116, 100, 114, 97, 119, 80, 105, 120, 101, 108, 95, 114, 111, 119, 117, 100, 114, 97, 119, 76, 105, 110, 101, 100, 100, 120, 100, 121, 115, 120, 115, 121, 100, 114, 97, 119, 82, 101, 99, 116, 97, 110, 103, 108, 101, 100, 114, 97, 119, 67, 105, 114, 99, 108, 101, 101, 119, 119, 97, 105, 116]
def syR6 : List Int := [0, 5, 16, 24, 30, 35, 41, 44, 47, 51, 58, 62, 66, 71, 75, 79, 82, 84, 86, 90, 95, 101, 105, 109, 115, 120, 126, 129, 139, 143, 151, 157, 162, 168, 171, 175, 181, 186, 190, 194, 195, 201, 205, 209, 210, 214, 215, 217, 218, 219, 224, 225, 226, 231, 238, 241, 242, 245, 246, 249, 252, 255, 256, 257, 262, 267, 271, 272, 278, 285, 286, 292, 298, 299, 308, 309, 322, 330, 336, 343, 350, 361, 370, 376, 385, 392, 403, 411, 419, 429, 437, 442, 450, 451, 455, 460, 468, 469, 480, 484, 493, 497, 498, 506, 507, 509, 511, 513, 515, 528, 538, 539, 540]
def tz (T : Tr) (c k : Nat) : Int := match tix c with
  | some p => (T.1.getD p []).getD k 0
  | none => cond (Nat.beq c 6) (syR6.getD k 0) (cond (Nat.beq c 5) (syR5.getD k 0) 0)
abbrev ct_nm (g : am_H) (x : Int) : Prop := (0 ≤ x ∧ x < 113) ∧ ce_nm g x
/-- a heap with these rows -/
def tgx (g0 : am_H) (T : Tr) : am_H := fun c k => match tix c with
  | some p => (T.1.getD p []).getD k 0
  | none => if c = 9 then (T.2.reverse.getD k (0, 0, 0)).1 else if c = 10 then (T.2.reverse.getD k (0, 0, 0)).2.1 else if c = 11 then (T.2.reverse.getD k (0, 0, 0)).2.2 else g0 c k
abbrev ct_S : Type := Tr × Int × Int × Int × Int × Int × List (Int × Int × Int × Int)
def ct_add (op a b : Int) (g : Tr) : Tr := tu (g.1, (op, am_s16 a, am_s16 b) :: g.2) 8 3 (tz g 8 3 + 1)
def ct_vm (w : Bool) (op a b : Int) (g : Tr) : gx_R Tr := if w = true then ce_q (tz g 8 3 < 9000 ∧ 0 ≤ tz g 8 3 ∧ (tz g 8 3).toNat = g.2.length) (.inr (ct_add op a b g)) else .inr g
def ct_tel (op a b : Int) (g : Tr) : Tr := tu (tu (tu (tu g 236 (tz g 235 3).toNat op) 237 (tz g 235 3).toNat (am_s16 a)) 238 (tz g 235 3).toNat (am_s16 b)) 235 3 (tz g 235 3 + 1)
def ct_li (w sy : Bool) (op a b : Int) (g : Tr) : gx_R Tr := if w = true ∧ sy = false then ce_q (tz g 235 3 < 8000) (.inr (ct_tel op a b g)) else .inr g
def ct_tvar (w sy : Bool) (op x : Int) (g : Tr) : gx_R Tr := if w = true ∧ sy = false then ct_li w sy op (ce_lseg (ce_kd (tz g) x)) (ce_no (tz g) x) g else .inr g
def ct_call (w : Bool) (o x many : Int) (g : Tr) : gx_R Tr := if w = true then ct_vm w 15 (ce_sub (tz g) o x) many g else .inr g
def ct_tcall (w sy : Bool) (o x many : Int) (g : Tr) : gx_R Tr := if w = true ∧ sy = false then ce_q (ce_sub (tz g) o x ≠ -1) (ct_li w sy 15 (tz g 222 (ce_sub (tz g) o x).toNat) many g) else .inr g
def ct_both (w sy : Bool) (op told : Int) (g : Tr) : gx_R Tr := gx_b (ct_vm w op 0 0 g) (ct_li w sy told 0 0)
def ct_get (w : Bool) (g : Tr) : gx_R Tr := ce_q (0 ≤ tz g 212 13 ∧ tz g 212 13 < 24) (ct_vm w 17 (ce_ckd (tz g)) 0 g)
def ct_set (w : Bool) (g : Tr) : gx_R Tr := ce_q (0 ≤ tz g 212 13 ∧ tz g 212 13 < 24) (ct_vm w 18 (ce_ckd (tz g)) 0 g)
def ct_load (w sy : Bool) (x wh : Int) (g : Tr) : gx_R Tr :=
  ce_chk w (ce_var (tz g) x) (4, wh) (if w = false then .inr g else ce_chk w (tz g 212 14 ≠ 2 ∨ ce_kd (tz g) x ≠ 4) (6, wh) (gx_b (ct_tvar w sy 0 x g) fun g1 =>
    if ce_kd (tz g1) x = 4 then gx_b (ct_vm w 19 (ce_pl (tz g1) x) 0 g1) (ct_get w) else ct_vm w 0 (ce_seg (ce_kd (tz g1) x)) (ce_pl (tz g1) x) g1))
def ct_store (w : Bool) (x : Int) (g : Tr) : gx_R Tr :=
  if w = false then .inr g else if ce_kd (tz g) x = 4 then gx_b (ct_vm w 1 5 0 g) fun g1 => gx_b (ct_vm w 19 (ce_pl (tz g1) x) 0 g1) (ct_set w) else ct_vm w 1 (ce_seg (ce_kd (tz g) x)) (ce_pl (tz g) x) g
def ct_labq (w : Bool) (g : Tr) : gx_R (Int × Tr) := if w = true then ce_q (tz g 8 4 < 100000) (.inr (tz g 8 4, tu g 8 4 (tz g 8 4 + 1))) else .inr (0, g)
def ct_told (g : Tr) : gx_R (Int × Tr) := ce_q (tz g 235 4 < 99990) (.inr (tz g 235 4, tu g 235 4 (tz g 235 4 + 2)))
def ct_unless (w sy : Bool) (l : Int) (g : Tr) : gx_R Tr := gx_b (ct_li w sy 0 0 0 g) fun g => gx_b (ct_li w sy 8 0 0 g) fun g => ct_li w sy 13 l 0 g
section
variable (w sy : Bool) (K V P : Nat → Int)
def ct_begin (i j : Nat) (g : Tr) : gx_R Tr :=
  ce_q (ct_nm (tz g) (V i) ∧ ct_nm (tz g) (V j) ∧ (0 ≤ tz g 212 20 ∧ tz g 212 20 ≤ tz g 213 3)) (gx_b
    (if i = j then
      ce_chk w (ce_sof sy (tz g) (tz g 212 13) (V i) ≠ -1) (4, P i) (ce_chk w (tz g 220 (if ce_sof sy (tz g) (tz g 212 13) (V i) ≤ 0 then 0 else ce_sof sy (tz g) (tz g 212 13) (V i)).toNat = 3) (5, P i) (gx_b (ct_vm w 0 4 0 g) (ct_li w sy 0 6 0)))
     else ce_chk w (ce_var (tz g) (V i) ∨ ce_cof sy (tz g) (V i) ≠ -1) (4, P i) (if ce_var (tz g) (V i) then ct_load w sy (V i) (P i) g else .inr g)) fun g1 =>
    ce_chk w (ce_cc w sy V (tz g1) i j ≠ -1 ∧ ce_sof sy (tz g1) (ce_cc w sy V (tz g1) i j) (V j) ≠ -1) (4, P j)
      (ce_chk w ((tz g1 220 (ce_cs w sy V (tz g1) i j).toNat = 3) ↔ ce_obj V (tz g1) i j) (5, P j)
        (match gx_count K V (j + 1) 4500 (j + 1) 0 0 false with
         | none => .inl (8, 0)
         | some many => ce_chk w (tz g1 221 (ce_cs w sy V (tz g1) i j).toNat = many) (5, P j) (ce_chk w (i ≠ j ∨ tz g1 212 14 ≠ 2) (6, P i) (.inr g1)))))
def ct_end (i j : Nat) (g : Tr) : gx_R Tr :=
  match gx_count K V (j + 1) 4500 (j + 1) 0 0 false with
  | none => .inl (8, 0)
  | some many => gx_b (ct_vm w 15 (ce_cs w sy V (tz g) i j) (if ce_obj V (tz g) i j then many + 1 else many) g) fun g1 => ct_li w sy 15 (tz g1 222 (ce_cs w sy V (tz g1) i j).toNat) (if ce_obj V (tz g1) i j then many + 1 else many) g1
def ct_op (c : Int) (g : Tr) : gx_R Tr :=
  if c = 43 then ct_both w sy 2 2 g else if c = 45 then ct_both w sy 3 3 g else if c = 38 then ct_both w sy 5 5 g else if c = 124 then ct_both w sy 6 6 g else if c = 60 then ct_both w sy 9 9 g else if c = 62 then ct_both w sy 10 10 g else if c = 61 then ct_both w sy 8 8 g
  else gx_b (ct_call w (ce_cls (tz g) (tz g 212 33)) (if c = 42 then tz g 212 34 else tz g 212 35) 2 g) fun g1 => ct_tcall w sy (ce_cls (tz g1) (tz g1 212 33)) (if c = 42 then tz g1 212 34 else tz g1 212 35) 2 g1
def ct_chars (s : Int) (from_ : Nat) : Nat → Nat → Tr → gx_R Tr
  | 0, _, g => .inr g
  | m + 1, k, g => gx_b (ct_vm w 0 0 (tz g 3 (from_ + k)) g) fun g => gx_b (ct_call w s (tz g 212 32) 2 g) fun g => gx_b (ct_li w sy 0 0 (tz g 3 (from_ + k)) g) fun g => gx_b (ct_tcall w sy s (tz g 212 32) 2 g) fun g => ct_chars s from_ m (k + 1) g
def ct_str (i : Nat) (g : Tr) : gx_R Tr :=
  ce_q (0 ≤ V i ∧ V i ≤ 60 ∧ 0 ≤ P i ∧ P i + 1 + V i ≤ 16000) (gx_b (ct_vm w 0 0 (V i) g) fun g1 => gx_b (ct_call w (ce_cls (tz g) (tz g 212 30)) (tz g1 212 31) 1 g1) fun g1 => gx_b (ct_li w sy 0 0 (V i) g1) fun g1 => gx_b (ct_tcall w sy (ce_cls (tz g) (tz g 212 30)) (tz g1 212 31) 1 g1) fun g1 => ct_chars w sy (ce_cls (tz g) (tz g 212 30)) (P i + 1).toNat (V i).toNat 0 g1)
end
def ct_h (s : ct_S) (r : gx_R Tr) : gx_R ct_S := gx_b r fun g => .inr (g, s.2)
def ct_var1 (k pl ty no x : Int) (g : Tr) : Tr := tu (tu (tu (tu (tu (tu g 224 (tz g 223 5).toNat x) 225 (tz g 223 5).toNat k) 226 (tz g 223 5).toNat pl) 227 (tz g 223 5).toNat ty) 228 (tz g 223 5).toNat no) 223 5 (tz g 223 5 + 1)
def ct_var2 (k pl ty no x : Int) (g : Tr) : Tr := tu (tu (tu (tu (tu (tu g 230 (tz g 229 5).toNat x) 231 (tz g 229 5).toNat k) 232 (tz g 229 5).toNat pl) 233 (tz g 229 5).toNat ty) 234 (tz g 229 5).toNat no) 229 5 (tz g 229 5 + 1)
section
variable (w sy : Bool) (K V P : Nat → Int)
def ct_func (s : ct_S) : gx_R Tr :=
  let g := s.1
  ce_q (0 ≤ tz g 212 16 ∧ tz g 212 16 < 130 ∧ 0 ≤ tz g 212 13 ∧ tz g 212 13 < 24) (gx_b (ct_vm w 14 (tz g 212 16) s.2.2.2.2.2.1 g) fun g => gx_b (ct_li w sy 14 (tz g 222 (tz g 212 16).toNat) s.2.2.2.2.2.1 g) fun g0 =>
    let g := tu g0 235 4 0
    if tz g 212 14 = 3 then gx_b (ct_vm w 0 1 0 g) fun g => gx_b (ct_vm w 1 4 0 g) fun g => gx_b (ct_li w sy 0 1 0 g) fun g => ct_li w sy 1 6 0 g
    else if tz g 212 14 = 1 then gx_b (ct_vm w 0 0 (if tz g 216 (tz g 212 13).toNat ≤ 1 then 1 else tz g 216 (tz g 212 13).toNat) g) fun g => gx_b (ct_call w (ce_cls (tz g) (tz g 212 28)) (tz g 212 29) 1 g) fun g => gx_b (ct_vm w 1 4 0 g) fun g => gx_b (ct_li w sy 0 0 (if tz g 216 (tz g 212 13).toNat ≤ 1 then 1 else tz g 216 (tz g 212 13).toNat) g) fun g => gx_b (ct_tcall w sy (ce_cls (tz g) (tz g 212 28)) (tz g 212 29) 1 g) fun g => ct_li w sy 1 6 0 g
    else .inr g)
def ct (e : gx_V) (s : ct_S) : gx_R ct_S :=
  let g := s.1
  let i := e.2.1.toNat
  match e.1 with
  | 1 => ct_h s (gx_b (ct_vm w 0 0 e.2.1 g) (ct_li w sy 0 0 e.2.1))
  | 2 => ct_h s (gx_b (ct_vm w 0 0 0 g) fun g => gx_b (ct_li w sy 0 0 0 g) (ct_both w sy 7 7))
  | 3 => ct_h s (gx_b (ct_vm w 0 0 0 g) (ct_li w sy 0 0 0))
  | 4 => ct_h s (ce_chk w (tz g 212 14 ≠ 2) (6, P i) (gx_b (ct_vm w 0 4 0 g) (ct_li w sy 0 6 0)))
  | 5 => ct_h s (ct_str w sy V P i g)
  | 6 => ct_h s (ce_q (ct_nm (tz g) (V i)) (ct_load w sy (V i) (P i) g))
  | 7 => ct_h s (gx_b (ct_both w sy 2 2 g) fun g => gx_b (ct_get w g) fun g => gx_b (ct_li w sy 1 6 1 g) (ct_li w sy 0 5 0))
  | 8 => ct_h s (ct_op w sy e.2.1 g)
  | 9 => ct_h s (ct_both w sy 4 4 g)
  | 10 => ct_h s (ct_both w sy 7 7 g)
  | 11 => ct_h s (ct_begin w sy K V P i e.2.2.1.toNat g)
  | 12 => ct_h s (ct_end w sy K V i e.2.2.1.toNat g)
  | 20 => ct_h s (if sy = true then .inr g else ct_vm w 20 (P i) 0 g)
  | 21 => ct_h s (ce_q (ct_nm (tz g) (V i)) (ce_chk w (ce_var (tz g) (V i)) (4, P i) (ce_chk w (tz g 212 14 ≠ 2 ∨ ce_kd (tz g) (V i) ≠ 4) (6, P i) (.inr g))))
  | 22 => ct_h s (gx_b (ct_store w (V i) g) (ct_tvar w sy 1 (V i)))
  | 23 => ct_h s (gx_b (ct_vm w 1 5 0 g) fun g => gx_b (ct_set w g) fun g => gx_b (ct_li w sy 1 7 0 g) fun g => gx_b (ct_li w sy 1 6 1 g) fun g => gx_b (ct_li w sy 0 7 0 g) (ct_li w sy 1 5 0))
  | 24 => gx_b (ct_told g) fun r => .inr (r.2, s.2.1, s.2.2.1, s.2.2.2.1, s.2.2.2.2.1, s.2.2.2.2.2.1, (r.1, 0, 0, 0) :: s.2.2.2.2.2.2)
  | 25 => (match s.2.2.2.2.2.2 with
    | [] => .inl (8, 0)
    | q :: l => gx_b (ct_unless w sy q.1 g) fun g => gx_b (ct_labq w g) fun r => gx_b (ct_labq w r.2) fun r2 => gx_b (ct_vm w 13 r.1 0 r2.2) fun g => gx_b (ct_vm w 12 r2.1 0 g) fun g => gx_b (ct_vm w 11 r.1 0 g) fun g => .inr (g, s.2.1, s.2.2.1, s.2.2.2.1, s.2.2.2.2.1, s.2.2.2.2.2.1, (q.1, r2.1, 0, 0) :: l))
  | 26 => (match s.2.2.2.2.2.2 with
    | [] => .inl (8, 0)
    | q :: l => gx_b (ct_labq w g) fun r => gx_b (ct_vm w 12 r.1 0 r.2) fun g => gx_b (ct_vm w 11 q.2.1 0 g) fun g => gx_b (ct_li w sy 12 (q.1 + 1) 0 g) fun g => gx_b (ct_li w sy 11 q.1 0 g) fun g => .inr (g, s.2.1, s.2.2.1, s.2.2.2.1, s.2.2.2.2.1, s.2.2.2.2.2.1, (q.1, q.2.1, r.1, 0) :: l))
  | 27 => (match s.2.2.2.2.2.2 with
    | [] => .inl (8, 0)
    | q :: l => gx_b (ct_vm w 11 q.2.1 0 g) fun g => gx_b (ct_li w sy 11 q.1 0 g) fun g => .inr (g, s.2.1, s.2.2.1, s.2.2.2.1, s.2.2.2.2.1, s.2.2.2.2.2.1, l))
  | 28 => (match s.2.2.2.2.2.2 with
    | [] => .inl (8, 0)
    | q :: l => gx_b (ct_vm w 11 q.2.2.1 0 g) fun g => gx_b (ct_li w sy 11 (q.1 + 1) 0 g) fun g => .inr (g, s.2.1, s.2.2.1, s.2.2.2.1, s.2.2.2.2.1, s.2.2.2.2.2.1, l))
  | 30 => gx_b (ct_labq w g) fun r => gx_b (ct_labq w r.2) fun r2 => gx_b (ct_told r2.2) fun r3 => gx_b (ct_vm w 11 r.1 0 r3.2) fun g => gx_b (ct_li w sy 11 r3.1 0 g) fun g => gx_b (if sy = true then .inr g else ct_vm w 20 (P i) 0 g) fun g => .inr (g, s.2.1, s.2.2.1, s.2.2.2.1, s.2.2.2.2.1, s.2.2.2.2.2.1, (r3.1, r.1, r2.1, 0) :: s.2.2.2.2.2.2)
  | 31 => (match s.2.2.2.2.2.2 with
    | [] => .inl (8, 0)
    | q :: _ => ct_h s (gx_b (ct_unless w sy (q.1 + 1) g) fun g => gx_b (ct_labq w g) fun r => gx_b (ct_vm w 13 r.1 0 r.2) fun g => gx_b (ct_vm w 12 q.2.2.1 0 g) fun g => ct_vm w 11 r.1 0 g))
  | 32 => (match s.2.2.2.2.2.2 with
    | [] => .inl (8, 0)
    | q :: l => gx_b (ct_vm w 12 q.2.1 0 g) fun g => gx_b (ct_vm w 11 q.2.2.1 0 g) fun g => gx_b (ct_li w sy 12 q.1 0 g) fun g => gx_b (ct_li w sy 11 (q.1 + 1) 0 g) fun g => .inr (g, s.2.1, s.2.2.1, s.2.2.2.1, s.2.2.2.2.1, s.2.2.2.2.2.1, l))
  | 33 => ct_h s (ct_both w sy 16 16 g)
  | 34 => ct_h s (gx_b (ct_vm w 1 5 0 g) (ct_li w sy 1 7 0))
  | 39 => ct_h s (ce_q (tz g 212 17 < 1000) (.inr (tu (tu g 212 13 (tz g 212 17)) 212 17 (tz g 212 17 + 1))))
  | 40 => ct_h s (ce_q (ct_nm (tz g) (V i) ∧ 0 ≤ tz g 212 20 ∧ tz g 212 20 ≤ tz g 213 3 ∧ tz g 212 20 ≤ tz g 212 13 ∧ tz g 212 13 < 24)
      (if w = true then ce_chk w (ce_cls (tz g) (V i) = tz g 212 13 ∨ (sy = false ∧ ce_hid (tz g) (V i) ∧ ce_own (tz g) (V i) = tz g 212 13)) (3, P i) (.inr g)
       else ce_q (tz g 213 3 < 24) (.inr (tu (tu (tu (tu (tu g 214 (tz g 213 3).toNat (V i)) 215 (tz g 213 3).toNat 1) 216 (tz g 213 3).toNat 0) 213 3 (tz g 213 3 + 1)) 215 (tz g 212 13).toNat (if sy = false ∨ V i = tz g 212 30 ∨ ce_hid (tz g) (V i) then 1 else 0)))))
  | 38 => .inr (tu (tu g 223 5 0) 212 18 (tz g 212 16), s.2.1, 0, 0, 0, 0, s.2.2.2.2.2.2)
  | 41 => (if K i = 1 then .inr (g, -1, s.2.2) else ce_q (ct_nm (tz g) (V i) ∧ 0 ≤ tz g 212 20 ∧ tz g 212 20 ≤ tz g 213 3) (ce_chk w (ce_cof sy (tz g) (V i) ≠ -1) (4, P i) (.inr (g, ce_cof sy (tz g) (V i), s.2.2))))
  | 42 => ce_chk w (ce_vc (tz g) (V i) = -1) (3, P i) (ce_q (tz g 223 5 < 50 ∧ tz g 212 15 < 100000) (
      if e.2.2.1 = 1 then .inr (ct_var1 4 s.2.2.1 s.2.1 s.2.2.1 (V i) g, s.2.1, s.2.2.1 + 1, s.2.2.2)
      else .inr (tu (ct_var1 3 (tz g 212 15) s.2.1 s.2.2.2.1 (V i) g) 212 15 (tz g 212 15 + 1), s.2.1, s.2.2.1, s.2.2.2.1 + 1, s.2.2.2.2)))
  | 43 => ct_h s (ce_q (0 ≤ tz g 212 20 ∧ tz g 212 20 ≤ tz g 212 13 ∧ tz g 212 13 < 24) (.inr (tu g 216 (tz g 212 13).toNat s.2.2.1)))
  | 44 => ct_h s (.inr (tu g 212 14 (V i)))
  | 45 => ct_h s (ce_chk w (ce_sub (tz g) (tz g 212 13) (V i) = tz g 212 16) (3, P i) (if w = true then .inr g else ce_q (tz g 217 5 < 130 ∧ 0 ≤ tz g 212 21 ∧ tz g 212 21 ≤ tz g 217 5 ∧ tz g 212 21 ≤ tz g 212 16 ∧ tz g 212 16 < 130)
      (.inr (tu (tu (tu (tu (tu (tu g 218 (tz g 217 5).toNat (tz g 212 13)) 219 (tz g 217 5).toNat (V i)) 220 (tz g 217 5).toNat (tz g 212 14)) 221 (tz g 217 5).toNat 0) 217 5 (tz g 217 5 + 1)) 222 (tz g 212 16).toNat (if sy = true then 0 else am_w (am_w (am_w (100 * am_w (am_w (8 + tz g 212 13) - tz g 212 20)) + tz g 212 16) - tz g 212 18))))))
  | 51 => .inr (tu g 229 5 0, s.2.1, s.2.2.1, s.2.2.2.1, 0, s.2.2.2.2.2)
  | 46 => ce_chk w (ce_vs (tz g) (V i) = -1) (3, P i) (ce_q (tz g 229 5 < 50) (.inr (ct_var2 1 (if tz g 212 14 = 3 then s.2.2.2.2.1 + 1 else s.2.2.2.2.1) s.2.1 (if tz g 212 14 = 3 then s.2.2.2.2.1 + 1 else s.2.2.2.2.1) (V i) g, s.2.1, s.2.2.1, s.2.2.2.1, s.2.2.2.2.1 + 1, s.2.2.2.2.2)))
  | 47 => ce_q (0 ≤ tz g 212 21 ∧ tz g 212 21 ≤ tz g 212 16 ∧ tz g 212 16 < 130) (.inr (tu g 221 (tz g 212 16).toNat s.2.2.2.2.1, s.2.1, s.2.2.1, s.2.2.2.1, s.2.2.2.2.1, 0, s.2.2.2.2.2.2))
  | 50 => ce_chk w (ce_vs (tz g) (V i) = -1) (3, P i) (ce_q (tz g 229 5 < 50) (.inr (ct_var2 2 s.2.2.2.2.2.1 s.2.1 s.2.2.2.2.2.1 (V i) g, s.2.1, s.2.2.1, s.2.2.2.1, s.2.2.2.2.1, s.2.2.2.2.2.1 + 1, s.2.2.2.2.2.2)))
  | 48 => ct_h s (ct_func w sy s)
  | 49 => ct_h s (gx_b (ct_vm w 0 0 0 g) fun g => gx_b (ct_vm w 16 0 0 g) fun g => gx_b (ct_li w sy 0 0 0 g) fun g => gx_b (ct_li w sy 16 0 0 g) fun g => ce_q (tz g 212 16 < 1000) (.inr (tu g 212 16 (tz g 212 16 + 1))))
  | _ => .inl (8, 0)
end
theorem tix_i {a b p : Nat} (h1 : tix a = some p) (h2 : tix b = some p) : a = b := by
  have key : ∀ c q, tix c = some q → (212 ≤ c ∧ c ≤ 238 ∧ q = c - 212) ∨ (c = 8 ∧ q = 27) := by
    intro c q h
    unfold tix at h
    have cd : ∀ (b : Bool) (x y : Option Nat), cond b x y = some q → (b = true ∧ x = some q) ∨ (b = false ∧ y = some q) := fun b x y h => by
      cases b
      · exact Or.inr ⟨rfl, h⟩
      · exact Or.inl ⟨rfl, h⟩
    rcases cd _ _ _ h with ⟨z, h⟩ | ⟨-, h⟩
    · rw [Bool.and_eq_true] at z
      have := Nat.le_of_ble_eq_true z.1
      have := Nat.le_of_ble_eq_true z.2
      injection h with h
      exact Or.inl ⟨by omega, by omega, by omega⟩
    rcases cd _ _ _ h with ⟨z, h⟩ | ⟨-, h⟩
    · have := Nat.eq_of_beq_eq_true z; injection h with h; omega
    · cases h
  have k1 := key a p h1
  have k2 := key b p h2
  omega
section
variable {g0 : am_H} {T : Tr}
theorem tg_up (c : Nat) {k : Nat} {v : Int} (hc : (tix c).isSome = true) : am_up (tgx g0 T) c k v = tgx g0 (tu T c k v) := by
  obtain ⟨p, hp⟩ := Option.isSome_iff_exists.1 hc
  funext b j
  unfold am_up tgx tu
  rw [hp]
  dsimp only
  by_cases e : b = c
  · rw [if_pos e, e, hp]
    dsimp only
    rw [rset_at, if_pos rfl, rset_at]
  · rw [if_neg e]
    cases hb : tix b with
    | none => rfl
    | some q =>
      dsimp only
      rw [rset_at, if_neg (fun (z : q = p) => e (tix_i hb (by rw [z]; exact hp)))]
end
/-- the names, as far as they are -/
def tnB (g : am_H) : Prop := ∀ x : Nat, x < 113 → g 6 x = syR6.getD x 0 ∧ g 5 (syR6.getD x 0).toNat = syR5.getD (syR6.getD x 0).toNat 0
/-- answers alike, where the rows answer -/
def gm (g0 : am_H) (x' : gx_R am_H) (x : gx_R Tr) : Prop := ∀ T, x = .inr T → x' = .inr (tgx g0 T)
def gm2 (g0 : am_H) (x' : gx_R (Int × am_H)) (x : gx_R (Int × Tr)) : Prop := ∀ r, x = .inr r → x' = .inr (r.1, tgx g0 r.2)
def gmS (g0 : am_H) (x' : gx_R ce_S) (x : gx_R ct_S) : Prop := ∀ s, x = .inr s → x' = .inr (tgx g0 s.1, s.2)
section
variable {g0 : am_H} {T : Tr}
theorem gm_b {x' : gx_R am_H} {x : gx_R Tr} {f' : am_H → gx_R am_H} {f : Tr → gx_R Tr} (hx : gm g0 x' x) (hf : ∀ T, gm g0 (f' (tgx g0 T)) (f T)) : gm g0 (gx_b x' f') (gx_b x f) := fun T e => by
  obtain ⟨T1, e1, e2⟩ := gx_b_ok e
  rw [hx T1 e1]; exact hf T1 T e2
theorem gm_b2 {x' : gx_R (Int × am_H)} {x : gx_R (Int × Tr)} {f' : Int × am_H → gx_R am_H} {f : Int × Tr → gx_R Tr} (hx : gm2 g0 x' x) (hf : ∀ i T, gm g0 (f' (i, tgx g0 T)) (f (i, T))) : gm g0 (gx_b x' f') (gx_b x f) := fun T e => by
  obtain ⟨T1, e1, e2⟩ := gx_b_ok e
  rw [hx T1 e1]; exact hf T1.1 T1.2 T e2
theorem gm_s {x' : gx_R am_H} {x : gx_R Tr} {f' : am_H → gx_R ce_S} {f : Tr → gx_R ct_S} (hx : gm g0 x' x) (hf : ∀ T, gmS g0 (f' (tgx g0 T)) (f T)) : gmS g0 (gx_b x' f') (gx_b x f) := fun T e => by
  obtain ⟨T1, e1, e2⟩ := gx_b_ok e
  rw [hx T1 e1]; exact hf T1 T e2
theorem gm_s2 {x' : gx_R (Int × am_H)} {x : gx_R (Int × Tr)} {f' : Int × am_H → gx_R ce_S} {f : Int × Tr → gx_R ct_S} (hx : gm2 g0 x' x) (hf : ∀ i T, gmS g0 (f' (i, tgx g0 T)) (f (i, T))) : gmS g0 (gx_b x' f') (gx_b x f) := fun T e => by
  obtain ⟨T1, e1, e2⟩ := gx_b_ok e
  rw [hx T1 e1]; exact hf T1.1 T1.2 T e2
section
variable {α β : Type} {w : Bool} {e : Int × Int} {x' : gx_R β} {x : gx_R α} {y' : gx_R β} {y : gx_R α} {F : α → β}
def gmF (F : α → β) (x' : gx_R β) (x : gx_R α) : Prop := ∀ a, x = .inr a → x' = .inr (F a)
theorem gf_ite {p p' : Prop} [Decidable p] [Decidable p'] (hp : p ↔ p') (hx : gmF F x' x) (hy : gmF F y' y) : gmF F (if p' then x' else y') (if p then x else y) := by
  by_cases z : p
  · rw [if_pos z, if_pos (hp.1 z)]; exact hx
  · rw [if_neg z, if_neg (fun h => z (hp.2 h))]; exact hy
theorem gf_q {p p' : Prop} [Decidable p] [Decidable p'] (hp : p → p') (hx : gmF F x' x) : gmF F (ce_q p' x') (ce_q p x) := fun a e => by
  unfold ce_q at e ⊢
  by_cases z : p
  · rw [if_pos z] at e; rw [if_pos (hp z)]; exact hx a e
  · rw [if_neg z] at e; cases e
theorem gf_chk {p p' : Prop} [Decidable p] [Decidable p'] (hp : p → p') (hx : gmF F x' x) : gmF F (ce_chk w p' e x') (ce_chk w p e x) := fun a h => by
  unfold ce_chk at h ⊢
  by_cases z : w = true ∧ ¬ p
  · rw [if_pos z] at h; cases h
  · rw [if_neg z] at h; rw [if_neg (fun q => z ⟨q.1, fun h => q.2 (hp h)⟩)]; exact hx a h
theorem gf_r {a : α} {b : β} (h : b = F a) : gmF F (.inr b) (.inr a) := fun c e => by
  injection e with e
  rw [h, e]
theorem gf_0 {e e' : Int × Int} {x' : gx_R β} : gmF F x' (.inl e : gx_R α) := fun a h => by cases h
end
theorem gm_r : gm g0 (.inr (tgx g0 T)) (.inr T) := gf_r (F := tgx g0) rfl
theorem ct_add_g {op a b : Int} (h0 : 0 ≤ tz T 8 3) (hl : (tz T 8 3).toNat = T.2.length) : ce_add op a b (tgx g0 T) = tgx g0 (ct_add op a b T) := by
  obtain ⟨n, hn⟩ : ∃ n, n = T.2.length := ⟨_, rfl⟩
  have e8 : tgx g0 T 8 3 = tz T 8 3 := rfl
  have up : ∀ (j : Nat) (e : Int × Int × Int), (e :: T.2).reverse.getD j (0, 0, 0) = if j = n then e else T.2.reverse.getD j (0, 0, 0) := fun j e => by
    rw [List.reverse_cons, List.getD_eq_getElem?_getD, List.getD_eq_getElem?_getD]
    rcases Nat.lt_trichotomy j n with z | z | z
    · rw [if_neg (by omega), List.getElem?_append_left (by rw [List.length_reverse]; omega)]
    · rw [if_pos z, List.getElem?_append_right (by rw [List.length_reverse]; omega), List.length_reverse, ← hn, z, Nat.sub_self]; rfl
    · rw [if_neg (by omega), List.getElem?_eq_none (by rw [List.length_append, List.length_reverse, List.length_singleton]; omega), List.getElem?_eq_none (by rw [List.length_reverse]; omega)]
  have key : am_up (am_up (am_up (tgx g0 T) 9 n op) 10 n (am_s16 a)) 11 n (am_s16 b) = tgx g0 (T.1, (op, am_s16 a, am_s16 b) :: T.2) := by
    funext c j
    unfold am_up tgx
    by_cases c9 : c = 9
    · subst c9
      show (if j = n then op else (T.2.reverse.getD j (0, 0, 0)).1) = (((op, am_s16 a, am_s16 b) :: T.2).reverse.getD j (0, 0, 0)).1
      rw [up]; split <;> rfl
    · by_cases c10 : c = 10
      · subst c10
        show (if j = n then am_s16 a else (T.2.reverse.getD j (0, 0, 0)).2.1) = (((op, am_s16 a, am_s16 b) :: T.2).reverse.getD j (0, 0, 0)).2.1
        rw [up]; split <;> rfl
      · by_cases c11 : c = 11
        · subst c11
          show (if j = n then am_s16 b else (T.2.reverse.getD j (0, 0, 0)).2.2) = (((op, am_s16 a, am_s16 b) :: T.2).reverse.getD j (0, 0, 0)).2.2
          rw [up]; split <;> rfl
        · rw [if_neg c11, if_neg c10, if_neg c9]
          cases tix c with
          | none => dsimp only; rw [if_neg c9, if_neg c10, if_neg c11, if_neg c9, if_neg c10, if_neg c11]
          | some p => rfl
  unfold ce_add ct_add
  rw [e8, hl, ← hn, key, tg_up 8 rfl]
theorem ct_vm_g {w : Bool} {op a b : Int} : gm g0 (ce_vm w op a b (tgx g0 T)) (ct_vm w op a b T) := by
  unfold ce_vm ct_vm
  refine gf_ite (F := tgx g0) Iff.rfl (fun T1 h1 => ?_) gm_r
  unfold ce_q at h1 ⊢
  by_cases z : tz T 8 3 < 9000 ∧ 0 ≤ tz T 8 3 ∧ (tz T 8 3).toNat = T.2.length
  · rw [if_pos z] at h1
    injection h1 with h1
    rw [if_pos (show tgx g0 T 8 3 < 9000 from z.1), ct_add_g z.2.1 z.2.2, h1]
  · rw [if_neg z] at h1; cases h1
theorem ct_li_g {w sy : Bool} {op a b : Int} : gm g0 (ce_li w sy op a b (tgx g0 T)) (ct_li w sy op a b T) := by
  unfold ce_li ct_li
  refine gf_ite (F := tgx g0) Iff.rfl (gf_q id (gf_r ?_)) gm_r
  unfold ce_tel ct_tel
  rw [tg_up 236 rfl, tg_up 237 rfl, tg_up 238 rfl, tg_up 235 rfl]
  rfl
theorem ct_tvar_g {w sy : Bool} {op x : Int} : gm g0 (ce_tvar w sy op x (tgx g0 T)) (ct_tvar w sy op x T) := gf_ite (F := tgx g0) Iff.rfl ct_li_g gm_r
theorem ct_call_g {w : Bool} {o x many : Int} : gm g0 (ce_call w o x many (tgx g0 T)) (ct_call w o x many T) := gf_ite (F := tgx g0) Iff.rfl ct_vm_g gm_r
theorem ct_tcall_g {w sy : Bool} {o x many : Int} : gm g0 (ce_tcall w sy o x many (tgx g0 T)) (ct_tcall w sy o x many T) := gf_ite (F := tgx g0) Iff.rfl (gf_q id ct_li_g) gm_r
theorem ct_both_g {w sy : Bool} {op told : Int} : gm g0 (ce_both w sy op told (tgx g0 T)) (ct_both w sy op told T) := gm_b ct_vm_g fun _ => ct_li_g
theorem ct_get_g {w : Bool} : gm g0 (ce_get w (tgx g0 T)) (ct_get w T) := gf_q (F := tgx g0) id ct_vm_g
theorem ct_set_g {w : Bool} : gm g0 (ce_set w (tgx g0 T)) (ct_set w T) := gf_q (F := tgx g0) id ct_vm_g
theorem ct_load_g {w sy : Bool} {x wh : Int} : gm g0 (ce_load w sy x wh (tgx g0 T)) (ct_load w sy x wh T) := gf_chk (F := tgx g0) id (gf_ite Iff.rfl gm_r (gf_chk id (gm_b ct_tvar_g fun _ => gf_ite (F := tgx g0) Iff.rfl (gm_b ct_vm_g fun _ => ct_get_g) ct_vm_g)))
theorem ct_store_g {w : Bool} {x : Int} : gm g0 (ce_store w x (tgx g0 T)) (ct_store w x T) := gf_ite (F := tgx g0) Iff.rfl gm_r (gf_ite Iff.rfl (gm_b ct_vm_g fun _ => gm_b ct_vm_g fun _ => ct_set_g) ct_vm_g)
abbrev tg2 (g0 : am_H) : Int × Tr → Int × am_H := fun r => (r.1, tgx g0 r.2)
theorem ct_labq_g {w : Bool} : gm2 g0 (ce_labq w (tgx g0 T)) (ct_labq w T) := by
  unfold ce_labq ct_labq
  refine gf_ite (F := tg2 g0) Iff.rfl (gf_q id (gf_r ?_)) (gf_r rfl)
  rw [tg_up 8 rfl]; rfl
theorem ct_told_g : gm2 g0 (ce_told (tgx g0 T)) (ct_told T) := by
  unfold ce_told ct_told
  refine gf_q (F := tg2 g0) id (gf_r ?_)
  rw [tg_up 235 rfl]; rfl
theorem ct_unless_g {w sy : Bool} {l : Int} : gm g0 (ce_unless w sy l (tgx g0 T)) (ct_unless w sy l T) := gm_b ct_li_g fun _ => gm_b ct_li_g fun _ => ct_li_g
theorem cof_g {x : Int} : ce_cof true (tgx g0 T) x = ce_cof true (tz T) x := by
  unfold ce_cof
  rw [if_pos (Or.inl rfl), if_pos (Or.inl rfl)]
  rfl
theorem sof_g {o x : Int} : ce_sof true (tgx g0 T) o x = ce_sof true (tz T) o x := by
  unfold ce_sof
  rw [if_neg (fun h => Bool.noConfusion h.1), if_neg (fun h => Bool.noConfusion h.1)]
  rfl
section
variable {w : Bool} {K V P : Nat → Int}
theorem cc_g {i j : Nat} : ce_cc w true V (tgx g0 T) i j = ce_cc w true V (tz T) i j := by
  unfold ce_cc
  rw [cof_g]
  rfl
theorem cs_g {i j : Nat} : ce_cs w true V (tgx g0 T) i j = ce_cs w true V (tz T) i j := by
  unfold ce_cs
  rw [sof_g, cc_g]
theorem nm_g (N : tnB g0) {x : Int} (h : ct_nm (tz T) x) : ce_nm (tgx g0 T) x := by
  obtain ⟨⟨h1, h2⟩, h3, h4, h5, h6⟩ := h
  have e := (N x.toNat (by omega)).1
  have e1 : tgx g0 T 6 x.toNat = tz T 6 x.toNat := e
  exact ⟨h3, h4, by rw [e1]; exact h5, by rw [e1]; exact h6⟩
theorem hid_g (N : tnB g0) {x : Int} (h : ct_nm (tz T) x) : ce_hid (tgx g0 T) x ↔ ce_hid (tz T) x := by
  obtain ⟨⟨h1, h2⟩, -⟩ := h
  obtain ⟨e1, e2⟩ := N x.toNat (by omega)
  show g0 5 (g0 6 x.toNat).toNat = 95 ↔ syR5.getD (syR6.getD x.toNat 0).toNat 0 = 95
  rw [e1, e2]
theorem ct_begin_g (N : tnB g0) {i j : Nat} : gm g0 (ce_begin w true K V P i j (tgx g0 T)) (ct_begin w true K V P i j T) := by
  unfold ce_begin ct_begin
  refine gf_q (F := tgx g0) (fun h => ⟨nm_g N h.1, nm_g N h.2.1, h.2.2⟩) (gm_b ?_ fun T1 => ?_)
  · rw [sof_g, cof_g]
    exact gf_ite (F := tgx g0) Iff.rfl (gf_chk id (gf_chk id (gm_b ct_vm_g fun _ => ct_li_g))) (gf_chk id (gf_ite Iff.rfl ct_load_g gm_r))
  · rw [cc_g, sof_g, cs_g]
    refine gf_chk (F := tgx g0) id (gf_chk id ?_)
    generalize gx_count K V (j + 1) 4500 (j + 1) 0 0 false = q
    cases q with
    | none => exact fun _ h => by cases h
    | some many => exact gf_chk (F := tgx g0) id (gf_chk id gm_r)
theorem ct_end_g {i j : Nat} : gm g0 (ce_end w true K V i j (tgx g0 T)) (ct_end w true K V i j T) := by
  unfold ce_end ct_end
  generalize gx_count K V (j + 1) 4500 (j + 1) 0 0 false = q
  cases q with
  | none => exact fun _ h => by cases h
  | some many =>
    refine gm_b ?_ fun T1 => ?_
    · rw [cs_g]; exact ct_vm_g
    · rw [cs_g]; exact ct_li_g
theorem ct_op_g {sy : Bool} {c : Int} : gm g0 (ce_op w sy c (tgx g0 T)) (ct_op w sy c T) := gf_ite (F := tgx g0) Iff.rfl ct_both_g (gf_ite Iff.rfl ct_both_g (gf_ite Iff.rfl ct_both_g (gf_ite Iff.rfl ct_both_g (gf_ite Iff.rfl ct_both_g (gf_ite Iff.rfl ct_both_g (gf_ite Iff.rfl ct_both_g (gm_b ct_call_g fun _ => ct_tcall_g)))))))
abbrev tgS (g0 : am_H) : ct_S → ce_S := fun s => (tgx g0 s.1, s.2)
theorem ct_h_g {s : ct_S} {x' : gx_R am_H} {x : gx_R Tr} (hx : gm g0 x' x) : gmS g0 (ce_h (tgx g0 s.1, s.2) x') (ct_h s x) := gm_s hx fun _ => gf_r (F := tgS g0) rfl
theorem ct_var1_g {k pl ty no x : Int} : ce_var1 k pl ty no x (tgx g0 T) = tgx g0 (ct_var1 k pl ty no x T) := by
  unfold ce_var1 ct_var1
  rw [tg_up 224 rfl, tg_up 225 rfl, tg_up 226 rfl, tg_up 227 rfl, tg_up 228 rfl, tg_up 223 rfl]
  rfl
theorem ct_var2_g {k pl ty no x : Int} : ce_var2 k pl ty no x (tgx g0 T) = tgx g0 (ct_var2 k pl ty no x T) := by
  unfold ce_var2 ct_var2
  rw [tg_up 230 rfl, tg_up 231 rfl, tg_up 232 rfl, tg_up 233 rfl, tg_up 234 rfl, tg_up 229 rfl]
  rfl
theorem ct_func_g {sy : Bool} {s : ct_S} : gm g0 (ce_func w sy (tgx g0 s.1, s.2)) (ct_func w sy s) := by
  unfold ce_func ct_func
  dsimp only
  refine gf_q (F := tgx g0) id (gm_b ct_vm_g fun _ => gm_b ct_li_g fun T1 => ?_)
  rw [tg_up 235 rfl]
  exact gf_ite (F := tgx g0) Iff.rfl (gm_b ct_vm_g fun _ => gm_b ct_vm_g fun _ => gm_b ct_li_g fun _ => ct_li_g) (gf_ite Iff.rfl (gm_b ct_vm_g fun _ => gm_b ct_call_g fun _ => gm_b ct_vm_g fun _ => gm_b ct_li_g fun _ => gm_b ct_tcall_g fun _ => ct_li_g) gm_r)
/-- an event, but a string -/
theorem ct_g (N : tnB g0) {e : gx_V} {s : ct_S} (h5 : e.1 ≠ 5) : gmS g0 (ce w true K V P e (tgx g0 s.1, s.2)) (ct w true K V P e s) := by
  obtain ⟨n, a, b, c⟩ := e
  unfold ce ct
  dsimp only at h5 ⊢
  split
  · exact ct_h_g (gm_b ct_vm_g fun _ => ct_li_g)
  · exact ct_h_g (gm_b ct_vm_g fun _ => gm_b ct_li_g fun _ => ct_both_g)
  · exact ct_h_g (gm_b ct_vm_g fun _ => ct_li_g)
  · exact ct_h_g (gf_chk (F := tgx g0) id (gm_b ct_vm_g fun _ => ct_li_g))
  · exact absurd rfl h5
  · exact ct_h_g (gf_q (F := tgx g0) (nm_g N) ct_load_g)
  · exact ct_h_g (gm_b ct_both_g fun _ => gm_b ct_get_g fun _ => gm_b ct_li_g fun _ => ct_li_g)
  · exact ct_h_g ct_op_g
  · exact ct_h_g ct_both_g
  · exact ct_h_g ct_both_g
  · exact ct_h_g (ct_begin_g N)
  · exact ct_h_g ct_end_g
  · exact ct_h_g (gf_ite (F := tgx g0) Iff.rfl gm_r ct_vm_g)
  · exact ct_h_g (gf_q (F := tgx g0) (nm_g N) (gf_chk id (gf_chk id gm_r)))
  · exact ct_h_g (gm_b ct_store_g fun _ => ct_tvar_g)
  · exact ct_h_g (gm_b ct_vm_g fun _ => gm_b ct_set_g fun _ => gm_b ct_li_g fun _ => gm_b ct_li_g fun _ => gm_b ct_li_g fun _ => ct_li_g)
  · exact gm_s2 ct_told_g fun _ _ => gf_r (F := tgS g0) rfl
  · cases s.2.2.2.2.2.2 with
    | nil => exact fun _ h => by cases h
    | cons q l => exact gm_s ct_unless_g fun _ => gm_s2 ct_labq_g fun _ _ => gm_s2 ct_labq_g fun _ _ => gm_s ct_vm_g fun _ => gm_s ct_vm_g fun _ => gm_s ct_vm_g fun _ => gf_r (F := tgS g0) rfl
  · cases s.2.2.2.2.2.2 with
    | nil => exact fun _ h => by cases h
    | cons q l => exact gm_s2 ct_labq_g fun _ _ => gm_s ct_vm_g fun _ => gm_s ct_vm_g fun _ => gm_s ct_li_g fun _ => gm_s ct_li_g fun _ => gf_r (F := tgS g0) rfl
  · cases s.2.2.2.2.2.2 with
    | nil => exact fun _ h => by cases h
    | cons q l => exact gm_s ct_vm_g fun _ => gm_s ct_li_g fun _ => gf_r (F := tgS g0) rfl
  · cases s.2.2.2.2.2.2 with
    | nil => exact fun _ h => by cases h
    | cons q l => exact gm_s ct_vm_g fun _ => gm_s ct_li_g fun _ => gf_r (F := tgS g0) rfl
  · exact gm_s2 ct_labq_g fun _ _ => gm_s2 ct_labq_g fun _ _ => gm_s2 ct_told_g fun _ _ => gm_s ct_vm_g fun _ => gm_s ct_li_g fun _ => gm_s (gf_ite (F := tgx g0) Iff.rfl gm_r ct_vm_g) fun _ => gf_r (F := tgS g0) rfl
  · cases hq : s.2.2.2.2.2.2 with
    | nil => exact fun _ h => by cases h
    | cons q l => exact ct_h_g (gm_b ct_unless_g fun _ => gm_b2 ct_labq_g fun _ _ => gm_b ct_vm_g fun _ => gm_b ct_vm_g fun _ => ct_vm_g)
  · cases s.2.2.2.2.2.2 with
    | nil => exact fun _ h => by cases h
    | cons q l => exact gm_s ct_vm_g fun _ => gm_s ct_vm_g fun _ => gm_s ct_li_g fun _ => gm_s ct_li_g fun _ => gf_r (F := tgS g0) rfl
  · exact ct_h_g ct_both_g
  · exact ct_h_g (gm_b ct_vm_g fun _ => ct_li_g)
  · refine ct_h_g (gf_q (F := tgx g0) id (gf_r ?_))
    rw [tg_up 212 rfl, tg_up 212 rfl]; rfl
  · refine ct_h_g (fun T1 h1 => ?_)
    have hn : ct_nm (tz s.1) (V a.toNat) := by
      refine Classical.byContradiction fun z => ?_
      unfold ce_q at h1
      rw [if_neg (fun h => z h.1)] at h1
      cases h1
    refine gf_q (F := tgx g0) (fun h => ⟨nm_g N h.1, h.2⟩) (gf_ite Iff.rfl (gf_chk (fun h => Or.inl (h.resolve_right fun q => Bool.noConfusion q.1)) gm_r) (gf_q id (gf_r ?_))) T1 h1
    rw [tg_up 214 rfl, tg_up 215 rfl, tg_up 216 rfl, tg_up 213 rfl, tg_up 215 rfl]
    have hh : (if true = false ∨ V a.toNat = tgx g0 s.1 212 30 ∨ ce_hid (tgx g0 s.1) (V a.toNat) then (1 : Int) else 0) = if true = false ∨ V a.toNat = tz s.1 212 30 ∨ ce_hid (tz s.1) (V a.toNat) then 1 else 0 := by
      by_cases z : true = false ∨ V a.toNat = tz s.1 212 30 ∨ ce_hid (tz s.1) (V a.toNat)
      · rw [if_pos z, if_pos (show true = false ∨ V a.toNat = tgx g0 s.1 212 30 ∨ ce_hid (tgx g0 s.1) (V a.toNat) from z.imp id (Or.imp id (hid_g N hn).2))]
      · rw [if_neg z, if_neg (show ¬ (true = false ∨ V a.toNat = tgx g0 s.1 212 30 ∨ ce_hid (tgx g0 s.1) (V a.toNat)) from fun q => z (q.imp id (Or.imp id (hid_g N hn).1)))]
    rw [hh]
    rfl
  · refine gf_r (F := tgS g0) ?_
    rw [tg_up 223 rfl, tg_up 212 rfl]; rfl
  · rw [cof_g]
    exact gf_ite (F := tgS g0) Iff.rfl (gf_r rfl) (gf_q (fun h => ⟨nm_g N h.1, h.2⟩) (gf_chk id (gf_r rfl)))
  · refine gf_chk (F := tgS g0) id (gf_q id (gf_ite Iff.rfl (gf_r ?_) (gf_r ?_)))
    · rw [ct_var1_g]
    · rw [ct_var1_g, tg_up 212 rfl]; rfl
  · refine ct_h_g (gf_q (F := tgx g0) id (gf_r ?_))
    rw [tg_up 216 rfl]; rfl
  · refine ct_h_g (gf_r (F := tgx g0) ?_)
    rw [tg_up 212 rfl]
  · refine ct_h_g (gf_chk (F := tgx g0) id (gf_ite Iff.rfl gm_r (gf_q id (gf_r ?_))))
    rw [tg_up 218 rfl, tg_up 219 rfl, tg_up 220 rfl, tg_up 221 rfl, tg_up 217 rfl, tg_up 222 rfl]; rfl
  · refine gf_r (F := tgS g0) ?_
    rw [tg_up 229 rfl]
  · refine gf_chk (F := tgS g0) id (gf_q id (gf_r ?_))
    rw [ct_var2_g]; rfl
  · refine gf_q (F := tgS g0) id (gf_r ?_)
    rw [tg_up 221 rfl]; rfl
  · refine gf_chk (F := tgS g0) id (gf_q id (gf_r ?_))
    rw [ct_var2_g]
  · exact ct_h_g ct_func_g
  · refine ct_h_g (gm_b ct_vm_g fun _ => gm_b ct_vm_g fun _ => gm_b ct_li_g fun _ => gm_b ct_li_g fun _ => gf_q (F := tgx g0) id (gf_r ?_))
    rw [tg_up 212 rfl]; rfl
  · split
    all_goals first
      | (exfalso; simp_all; done)
      | exact fun _ h => by cases h
/-- a list of events, none of them a string -/
theorem ct_fold (N : tnB g0) : ∀ (es : List gx_V) {s : ct_S}, (∀ e ∈ es, e.1 ≠ 5) → gmS g0 (gx_fold (ce w true K V P) es (tgx g0 s.1, s.2)) (gx_fold (ct w true K V P) es s)
  | [], s, _ => gf_r (F := tgS g0) rfl
  | e :: es, s, h => fun s' h' => by
    obtain ⟨s1, e1, e2⟩ := gx_b_ok h'
    show gx_b (ce w true K V P e (tgx g0 s.1, s.2)) _ = _
    rw [ct_g N (h e (List.mem_cons_self ..)) s1 e1]
    exact ct_fold N es (fun e he => h e (List.mem_cons_of_mem _ he)) s' e2
end
end
