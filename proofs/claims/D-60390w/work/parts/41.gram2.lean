/-! PURE LAYER, 11: the grammar: statements, subs, classes. Events: 20 a statement begins (token), 21 what let sets is looked at (token), 22 it is set (token), 23 an element is set, 24 an if begins, 25 its condition is through, 26 else, 27 it ends without else, 28 else ends, 30 a while begins (token), 31 its condition is through, 32 it ends, 33 return, 34 what a call gives is dropped;
39 a class begins, 40 its name (token), 38 behind its {, 41 a type (token), 42 a static or a field (token of the name, 1 for a field), 43 a class's fields are through, 44 a sub's kind (token), 45 its name (token), 51 behind it, 46 a parameter (token), 47 they are through, 50 a var (token), 48 they are through, 49 a sub ends -/
section
variable (sy : Bool) (K V P : Nat → Int) {σ : Type} (C : gx_V → σ → gx_R σ)
abbrev gx_stm (i : Nat) : Prop := K i = 1 ∧ (V i = 15 ∨ V i = 17 ∨ V i = 19 ∨ V i = 16 ∨ V i = 20)
/-- ( e ) -/
def ge_c (f deep st i : Nat) (s : σ) : gx_R (Nat × Nat × σ) := gx_b (gx_opens sy K V P 40 deep i) fun j => gx_b (ge_e sy K V P C f (deep + 1) st j s) fun r => gx_b (gx_sign sy K V P 41 r.1) fun j2 => .inr (j2, r.2.1, r.2.2.1)
/-- name [ e ] or name, behind let -/
def ge_let (f deep st i : Nat) (s : σ) : gx_R (Nat × Nat × σ) :=
  gx_b (gx_name sy K P i) fun j =>
    if gx_sg K V 91 j then gx_b (C (6, (i : Int), 0, 0) s) fun s1 => gx_b (gx_open sy K P deep j) fun j1 => gx_b (ge_e sy K V P C f (deep + 1) st j1 s1) fun r => gx_b (gx_sign sy K V P 93 r.1) fun j2 => gx_b (C (8, 43, 0, 0) r.2.2.1) fun s2 => gx_b (gx_sign sy K V P 61 j2) fun j3 => gx_b (ge_e sy K V P C f deep r.2.1 j3 s2) fun r2 => gx_b (gx_sign sy K V P 59 r2.1) fun j4 => gx_b (C (23, 0, 0, 0) r2.2.2.1) fun s3 => .inr (j4, r2.2.1, s3)
    else gx_b (C (21, (i : Int), 0, 0) s) fun s1 => gx_b (gx_sign sy K V P 61 j) fun j3 => gx_b (ge_e sy K V P C f deep st j3 s1) fun r2 => gx_b (gx_sign sy K V P 59 r2.1) fun j4 => gx_b (C (22, (i : Int), 0, 0) r2.2.2.1) fun s3 => .inr (j4, r2.2.1, s3)
/-- a call behind do -/
def ge_do (f deep st i : Nat) (s : σ) : gx_R (Nat × Nat × σ) :=
  gx_b (gx_name sy K P i) fun j =>
    if gx_sg K V 46 j then gx_b (gx_next sy K P j) fun j1 => gx_b (gx_name sy K P j1) fun j2 => gx_b (C (11, (i : Int), (j1 : Int), 1) s) fun s1 => gx_b (gx_opens sy K V P 40 deep j2) fun j3 => gx_b (ge sy K V P C f 2 (deep + 1) st j3 s1) fun r => gx_b (C (12, (i : Int), (j1 : Int), (r.2.2.2 : Int)) r.2.2.1) fun s2 => gx_b (C (34, 0, 0, 0) s2) fun s3 => gx_b (gx_sign sy K V P 59 r.1) fun j4 => .inr (j4, r.2.1, s3)
    else if gx_sg K V 40 j then gx_b (C (11, (i : Int), (i : Int), 0) s) fun s1 => gx_b (gx_open sy K P deep j) fun j3 => gx_b (ge sy K V P C f 2 (deep + 1) st j3 s1) fun r => gx_b (C (12, (i : Int), (i : Int), (r.2.2.2 : Int)) r.2.2.1) fun s2 => gx_b (C (34, 0, 0, 0) s2) fun s3 => gx_b (gx_sign sy K V P 59 r.1) fun j4 => .inr (j4, r.2.1, s3)
    else .inl (1, P j)
def ge_ret (f deep st i : Nat) (s : σ) : gx_R (Nat × Nat × σ) :=
  if gx_sg K V 59 i then gx_b (C (1, 0, 0, 0) s) fun s1 => gx_b (gx_sign sy K V P 59 i) fun j => gx_b (C (33, 0, 0, 0) s1) fun s2 => .inr (j, st, s2)
  else gx_b (ge_e sy K V P C f deep st i s) fun r => gx_b (gx_sign sy K V P 59 r.1) fun j => gx_b (C (33, 0, 0, 0) r.2.2.1) fun s2 => .inr (j, r.2.1, s2)
/-- statements: mode 0 as many as there are, 1 one -/
def gs (g : Nat) : Nat → Nat → Nat → Nat → Nat → σ → gx_R (Nat × Nat × σ)
  | 0, _, _, _, _, _ => .inl (9, 0)
  | f + 1, 0, deep, st, i, s => if gx_stm K V i then gx_b (gs g f 1 deep st i s) fun r => gs g f 0 deep r.2.1 r.1 r.2.2 else .inr (i, st, s)
  | f + 1, _, deep, st, i, s =>
    gx_b (C (20, (i : Int), 0, 0) s) fun s1 => gx_b (gx_next sy K P i) fun j =>
      if V i = 15 then ge_let sy K V P C g deep st j s1
      else if V i = 17 then gx_b (C (24, 0, 0, 0) s1) fun s2 => gx_b (ge_c sy K V P C g deep st j s2) fun r => gx_b (C (25, 0, 0, 0) r.2.2) fun s3 => gx_b (gx_opens sy K V P 123 deep r.1) fun j1 => gx_b (gs g f 0 (deep + 1) r.2.1 j1 s3) fun r2 => gx_b (gx_sign sy K V P 125 r2.1) fun j2 =>
        if gx_wd K V 18 j2 then gx_b (C (26, 0, 0, 0) r2.2.2) fun s4 => gx_b (gx_next sy K P j2) fun j3 => gx_b (gx_opens sy K V P 123 deep j3) fun j4 => gx_b (gs g f 0 (deep + 1) r2.2.1 j4 s4) fun r3 => gx_b (gx_sign sy K V P 125 r3.1) fun j5 => gx_b (C (28, 0, 0, 0) r3.2.2) fun s5 => .inr (j5, r3.2.1, s5)
        else gx_b (C (27, 0, 0, 0) r2.2.2) fun s4 => .inr (j2, r2.2.1, s4)
      else if V i = 19 then gx_b (C (30, (i : Int), 0, 0) s1) fun s2 => gx_b (ge_c sy K V P C g deep st j s2) fun r => gx_b (C (31, 0, 0, 0) r.2.2) fun s3 => gx_b (gx_opens sy K V P 123 deep r.1) fun j1 => gx_b (gs g f 0 (deep + 1) r.2.1 j1 s3) fun r2 => gx_b (gx_sign sy K V P 125 r2.1) fun j2 => gx_b (C (32, 0, 0, 0) r2.2.2) fun s4 => .inr (j2, r2.2.1, s4)
      else if V i = 16 then ge_do sy K V P C g deep st j s1
      else ge_ret sy K V P C g deep st j s1
/-- a type -/
def gx_type (i : Nat) (s : σ) : gx_R (Nat × σ) := gx_if (gx_wd K V 7 i ∨ gx_wd K V 8 i ∨ gx_wd K V 9 i ∨ K i = 2) (1, P i) (gx_b (C (41, (i : Int), 0, 0) s) fun s1 => gx_b (gx_next sy K P i) fun j => .inr (j, s1))
/-- names of statics or fields behind a type, up to the ;. fd: 1 fields. n: how many there are already. Answer: behind the ;, how many -/
def gp_decl (fd : Bool) : Nat → Nat → Nat → σ → gx_R (Nat × Nat × σ)
  | 0, _, _, _ => .inl (9, 0)
  | f + 1, i, n, s =>
    gx_if (K i = 2) (1, P i) (gx_if (sy = true ∨ n < 12) (2, P i) (gx_b (C (42, (i : Int), if fd = true then 1 else 0, 0) s) fun s1 => gx_b (gx_next sy K P i) fun j =>
      if gx_sg K V 44 j then gx_b (gx_next sy K P j) fun j2 => gp_decl fd f j2 (n + 1) s1
      else gx_b (gx_sign sy K V P 59 j) fun j2 => .inr (j2, n + 1, s1)))
/-- statics and fields of a class: sn statics of the text, fn fields of the class -/
def gp_vars (g : Nat) : Nat → Nat → Nat → Nat → σ → gx_R (Nat × Nat × Nat × σ)
  | 0, _, _, _, _ => .inl (9, 0)
  | f + 1, i, sn, fn, s =>
    if gx_wd K V 5 i then gx_b (gx_next sy K P i) fun j => gx_b (gx_type sy K V P C j s) fun r => gx_b (gp_decl sy K V P C false g r.1 sn r.2) fun r2 => gp_vars g f r2.1 r2.2.1 fn r2.2.2
    else if gx_wd K V 4 i then gx_b (gx_next sy K P i) fun j => gx_b (gx_type sy K V P C j s) fun r => gx_b (gp_decl sy K V P C true g r.1 fn r.2) fun r2 => gp_vars g f r2.1 sn r2.2.1 r2.2.2
    else .inr (i, sn, fn, s)
/-- parameters, behind the (: n there are -/
def gp_pars : Nat → Nat → Nat → σ → gx_R (Nat × σ)
  | 0, _, _, _ => .inl (9, 0)
  | f + 1, i, n, s =>
    if gx_sg K V 41 i then gx_b (gx_next sy K P i) fun j => .inr (j, s)
    else gx_b (if n = 0 then .inr i else gx_sign sy K V P 44 i) fun j => gx_b (gx_type sy K V P C j s) fun r => gx_if (K r.1 = 2) (1, P r.1) (gx_if (sy = true ∨ n < 12) (2, P r.1) (gx_b (C (46, (r.1 : Int), 0, 0) r.2) fun s1 => gx_b (gx_next sy K P r.1) fun j2 => gp_pars f j2 (n + 1) s1))
/-- names of vars behind a type, up to the ; -/
def gp_varn : Nat → Nat → Nat → σ → gx_R (Nat × Nat × σ)
  | 0, _, _, _ => .inl (9, 0)
  | f + 1, i, n, s =>
    gx_if (K i = 2) (1, P i) (gx_if (sy = true ∨ n < 12) (2, P i) (gx_b (C (50, (i : Int), 0, 0) s) fun s1 => gx_b (gx_next sy K P i) fun j =>
      if gx_sg K V 44 j then gx_b (gx_next sy K P j) fun j2 => gp_varn f j2 (n + 1) s1
      else gx_b (gx_sign sy K V P 59 j) fun j2 => .inr (j2, n + 1, s1)))
def gp_locs (g : Nat) : Nat → Nat → Nat → σ → gx_R (Nat × σ)
  | 0, _, _, _ => .inl (9, 0)
  | f + 1, i, n, s =>
    if gx_wd K V 6 i then gx_b (gx_next sy K P i) fun j => gx_b (gx_type sy K V P C j s) fun r => gx_b (gp_varn sy K V P C g r.1 n r.2) fun r2 => gp_locs g f r2.1 r2.2.1 r2.2.2
    else .inr (i, s)
/-- a sub: its kind stands at i; sn subs of the text are there -/
def gp_sub (g st i sn : Nat) (s : σ) : gx_R (Nat × Nat × σ) :=
  gx_b (C (44, (i : Int), 0, 0) s) fun s0 => gx_b (gx_next sy K P i) fun j => gx_b (if gx_wd K V 10 j then gx_b (gx_next sy K P j) fun j1 => .inr (j1, s0) else gx_type sy K V P C j s0) fun r => gx_if (K r.1 = 2) (1, P r.1) (gx_if (sy = true ∨ sn < 60) (2, P r.1) (
    gx_b (C (45, (r.1 : Int), 0, 0) r.2) fun s1 => gx_b (gx_next sy K P r.1) fun j2 => gx_b (C (51, 0, 0, 0) s1) fun s1 => gx_b (gx_sign sy K V P 40 j2) fun j3 => gx_b (gp_pars sy K V P C g j3 0 s1) fun r2 => gx_b (C (47, 0, 0, 0) r2.2) fun s2 =>
    gx_b (gx_opens sy K V P 123 1 r2.1) fun j4 => gx_b (gp_locs sy K V P C g g j4 0 s2) fun r3 => gx_b (C (48, 0, 0, 0) r3.2) fun s3 => gx_b (gs sy K V P C g g 0 2 st r3.1 s3) fun r4 => gx_b (gx_sign sy K V P 125 r4.1) fun j5 => gx_b (C (49, 0, 0, 0) r4.2.2) fun s4 => .inr (j5, r4.2.1, s4)))
def gp_subs (g : Nat) : Nat → Nat → Nat → Nat → σ → gx_R (Nat × Nat × Nat × σ)
  | 0, _, _, _, _ => .inl (9, 0)
  | f + 1, st, i, sn, s =>
    if gx_wd K V 1 i ∨ gx_wd K V 2 i ∨ gx_wd K V 3 i then gx_b (gp_sub sy K V P C g st i sn s) fun r => gp_subs g f r.2.1 r.1 (sn + 1) r.2.2
    else .inr (i, st, sn, s)
/-- a class: cn classes of the text are there, vn statics, sn subs. Answer: behind it, letters, statics, subs -/
def gp_class (g st i cn vn sn : Nat) (s : σ) : gx_R (Nat × Nat × Nat × Nat × σ) :=
  gx_b (C (39, 0, 0, 0) s) fun s0 => gx_b (gx_word sy K V P 0 i) fun j => gx_if (K j = 2) (1, P j) (gx_if (sy = true ∨ cn < 12) (2, P j) (gx_b (C (40, (j : Int), 0, 0) s0) fun s1 => gx_b (gx_next sy K P j) fun j1 => gx_b (gx_sign sy K V P 123 j1) fun j2 => gx_b (C (38, 0, 0, 0) s1) fun s1 =>
    gx_b (gp_vars sy K V P C g g j2 vn 0 s1) fun r => gx_b (C (43, 0, 0, 0) r.2.2.2) fun s2 => gx_b (gp_subs sy K V P C g g st r.1 sn s2) fun r2 => gx_b (gx_sign sy K V P 125 r2.1) fun j3 => .inr (j3, r2.2.1, r.2.1, r2.2.2.1, r2.2.2.2)))
def gp_classes (g : Nat) : Nat → Nat → Nat → Nat → Nat → Nat → σ → gx_R σ
  | 0, _, _, _, _, _, _ => .inl (9, 0)
  | f + 1, st, i, cn, vn, sn, s =>
    if K i = 0 then .inr s
    else gx_b (gp_class sy K V P C g st i cn vn sn s) fun r => gp_classes g f r.2.1 r.1 (cn + 1) r.2.2.1 r.2.2.2.1 r.2.2.2.2
/-- the whole text -/
def gp (g : Nat) (s : σ) : gx_R σ := gx_if (K 0 ≠ 6) (1, P 0) (gp_classes sy K V P C g g 0 0 0 0 0 s)
end
