/-! PURE LAYER, 35: the grammar once more, as the model goes through it: a token too many has kind 7, and is a fault only where it is met; printed out of 40 and 41 by a program -/
section
variable (K V P : Nat → Int)
/-- a token that can't stand there; one token on -/
def hx_sx (i : Nat) : Int × Int := (if K i = 7 then 2 else 1, P i)
def hx_next (i : Nat) : gx_R Nat := .inr (i + 1)
/-- a sign must stand there -/
def hx_sign (c : Int) (i : Nat) : gx_R Nat := gx_if (gx_sg K V c i) (hx_sx K P i) (hx_next i)
def hx_word (w : Int) (i : Nat) : gx_R Nat := gx_if (gx_wd K V w i) (hx_sx K P i) (hx_next i)
/-- a name must stand there -/
def hx_name (i : Nat) : gx_R Nat := gx_if (K i = 2) (hx_sx K P i) (hx_next i)
/-- something is opened -/
def hx_open (deep i : Nat) : gx_R Nat := gx_if (deep < 25) (2, P i) (hx_next i)
def hx_opens (c : Int) (deep i : Nat) : gx_R Nat := gx_if (gx_sg K V c i) (hx_sx K P i) (hx_open P deep i)
section
variable {σ : Type} (C : gx_V → σ → gx_R σ)
/-- e and its parts. Modes: 0 a term, 1 behind a term, 2 behind the ( of a call, 3 behind an e of a call. deep: how many are open; st: letters of strings so far; s: what events have made so far.
Answer: the token behind, letters, what events have made, how many e. Events: 1 a number (value), 2 true, 3 false or null, 4 this (token), 5 a string (token), 6 a variable (token), 7 an element read, 8 a sign (which), 9 -, 10 ~, 11 a call begins (its first name's token, its last, 1 if they are two; the token behind the names is (j)), 12 a call (tokens as in 11; how many e) -/
def he : Nat → Nat → Nat → Nat → Nat → σ → gx_R (Nat × Nat × σ × Nat)
  | 0, _, _, _, _, _ => .inl (9, 0)
  | f + 1, 0, deep, st, i, s =>
    if K i = 3 then gx_b (C (1, V i, 0, 0) s) fun s1 => gx_b (hx_next i) fun j => .inr (j, st, s1, 0)
    else if K i = 4 then gx_if ((st : Int) + V i ≤ 300) (2, P i) (gx_b (C (5, (i : Int), 0, 0) s) fun s1 => gx_b (hx_next i) fun j => .inr (j, st + (V i).toNat, s1, 0))
    else if K i = 1 then gx_if (V i = 11 ∨ V i = 12 ∨ V i = 13 ∨ V i = 14) (hx_sx K P i) (gx_b (C (if V i = 14 then (4, (i : Int), 0, 0) else if V i = 11 then (2, 0, 0, 0) else (3, 0, 0, 0)) s) fun s1 => gx_b (hx_next i) fun j => .inr (j, st, s1, 0))
    else if K i = 2 then gx_b (hx_next i) fun j =>
      if gx_sg K V 91 j then gx_b (C (6, (i : Int), 0, 0) s) fun s1 => gx_b (hx_open P deep j) fun j1 => gx_b (he f 0 (deep + 1) st j1 s1) fun r1 => gx_b (he f 1 (deep + 1) r1.2.1 r1.1 r1.2.2.1) fun r2 => gx_b (hx_sign K V P 93 r2.1) fun j2 => gx_b (C (7, 0, 0, 0) r2.2.2.1) fun s2 => .inr (j2, r2.2.1, s2, 0)
      else if gx_sg K V 46 j then gx_b (hx_next j) fun j1 => gx_b (hx_name K P j1) fun j2 => gx_b (C (11, (i : Int), (j1 : Int), 1) s) fun s1 => gx_b (hx_opens K V P 40 deep j2) fun j3 => gx_b (he f 2 (deep + 1) st j3 s1) fun r => gx_b (C (12, (i : Int), (j1 : Int), (r.2.2.2 : Int)) r.2.2.1) fun s2 => .inr (r.1, r.2.1, s2, 0)
      else if gx_sg K V 40 j then gx_b (C (11, (i : Int), (i : Int), 0) s) fun s1 => gx_b (hx_open P deep j) fun j3 => gx_b (he f 2 (deep + 1) st j3 s1) fun r => gx_b (C (12, (i : Int), (i : Int), (r.2.2.2 : Int)) r.2.2.1) fun s2 => .inr (r.1, r.2.1, s2, 0)
      else gx_b (C (6, (i : Int), 0, 0) s) fun s1 => .inr (j, st, s1, 0)
    else if gx_sg K V 40 i then gx_b (hx_open P deep i) fun j1 => gx_b (he f 0 (deep + 1) st j1 s) fun r1 => gx_b (he f 1 (deep + 1) r1.2.1 r1.1 r1.2.2.1) fun r2 => gx_b (hx_sign K V P 41 r2.1) fun j2 => .inr (j2, r2.2.1, r2.2.2.1, 0)
    else gx_if (gx_sg K V 45 i ∨ gx_sg K V 126 i) (hx_sx K P i) (gx_b (hx_open P deep i) fun j1 => gx_b (he f 0 (deep + 1) st j1 s) fun r1 => gx_b (C (if V i = 45 then 9 else 10, 0, 0, 0) r1.2.2.1) fun s2 => .inr (r1.1, r1.2.1, s2, 0))
  | f + 1, 1, deep, st, i, s =>
    if gx_op K V i then gx_b (hx_next i) fun j => gx_b (he f 0 deep st j s) fun r1 => gx_b (C (8, V i, 0, 0) r1.2.2.1) fun s1 => he f 1 deep r1.2.1 r1.1 s1
    else .inr (i, st, s, 0)
  | f + 1, 2, deep, st, i, s =>
    if gx_sg K V 41 i then gx_b (hx_next i) fun j => .inr (j, st, s, 0)
    else gx_b (he f 0 deep st i s) fun r1 => gx_b (he f 1 deep r1.2.1 r1.1 r1.2.2.1) fun r2 => gx_b (he f 3 deep r2.2.1 r2.1 r2.2.2.1) fun r3 => .inr (r3.1, r3.2.1, r3.2.2.1, r3.2.2.2 + 1)
  | f + 1, _, deep, st, i, s =>
    if gx_sg K V 41 i then gx_b (hx_next i) fun j => .inr (j, st, s, 0)
    else gx_b (hx_sign K V P 44 i) fun j => gx_b (he f 0 deep st j s) fun r1 => gx_b (he f 1 deep r1.2.1 r1.1 r1.2.2.1) fun r2 => gx_b (he f 3 deep r2.2.1 r2.1 r2.2.2.1) fun r3 => .inr (r3.1, r3.2.1, r3.2.2.1, r3.2.2.2 + 1)
/-- a whole e -/
def he_e (f deep st i : Nat) (s : σ) : gx_R (Nat × Nat × σ × Nat) := gx_b (he K V P C f 0 deep st i s) fun r1 => he K V P C f 1 deep r1.2.1 r1.1 r1.2.2.1
end
end
section
variable (K V P : Nat → Int) {σ : Type} (C : gx_V → σ → gx_R σ)
/-- ( e ) -/
def he_c (f deep st i : Nat) (s : σ) : gx_R (Nat × Nat × σ) := gx_b (hx_opens K V P 40 deep i) fun j => gx_b (he_e K V P C f (deep + 1) st j s) fun r => gx_b (hx_sign K V P 41 r.1) fun j2 => .inr (j2, r.2.1, r.2.2.1)
/-- name [ e ] or name, behind let -/
def he_let (f deep st i : Nat) (s : σ) : gx_R (Nat × Nat × σ) :=
  gx_b (hx_name K P i) fun j =>
    if gx_sg K V 91 j then gx_b (C (6, (i : Int), 0, 0) s) fun s1 => gx_b (hx_open P deep j) fun j1 => gx_b (he_e K V P C f (deep + 1) st j1 s1) fun r => gx_b (hx_sign K V P 93 r.1) fun j2 => gx_b (C (8, 43, 0, 0) r.2.2.1) fun s2 => gx_b (hx_sign K V P 61 j2) fun j3 => gx_b (he_e K V P C f deep r.2.1 j3 s2) fun r2 => gx_b (hx_sign K V P 59 r2.1) fun j4 => gx_b (C (23, 0, 0, 0) r2.2.2.1) fun s3 => .inr (j4, r2.2.1, s3)
    else gx_b (C (21, (i : Int), 0, 0) s) fun s1 => gx_b (hx_sign K V P 61 j) fun j3 => gx_b (he_e K V P C f deep st j3 s1) fun r2 => gx_b (hx_sign K V P 59 r2.1) fun j4 => gx_b (C (22, (i : Int), 0, 0) r2.2.2.1) fun s3 => .inr (j4, r2.2.1, s3)
/-- a call behind do -/
def he_do (f deep st i : Nat) (s : σ) : gx_R (Nat × Nat × σ) :=
  gx_b (hx_name K P i) fun j =>
    if gx_sg K V 46 j then gx_b (hx_next j) fun j1 => gx_b (hx_name K P j1) fun j2 => gx_b (C (11, (i : Int), (j1 : Int), 1) s) fun s1 => gx_b (hx_opens K V P 40 deep j2) fun j3 => gx_b (he K V P C f 2 (deep + 1) st j3 s1) fun r => gx_b (C (12, (i : Int), (j1 : Int), (r.2.2.2 : Int)) r.2.2.1) fun s2 => gx_b (C (34, 0, 0, 0) s2) fun s3 => gx_b (hx_sign K V P 59 r.1) fun j4 => .inr (j4, r.2.1, s3)
    else if gx_sg K V 40 j then gx_b (C (11, (i : Int), (i : Int), 0) s) fun s1 => gx_b (hx_open P deep j) fun j3 => gx_b (he K V P C f 2 (deep + 1) st j3 s1) fun r => gx_b (C (12, (i : Int), (i : Int), (r.2.2.2 : Int)) r.2.2.1) fun s2 => gx_b (C (34, 0, 0, 0) s2) fun s3 => gx_b (hx_sign K V P 59 r.1) fun j4 => .inr (j4, r.2.1, s3)
    else .inl (hx_sx K P j)
def he_ret (f deep st i : Nat) (s : σ) : gx_R (Nat × Nat × σ) :=
  if gx_sg K V 59 i then gx_b (C (1, 0, 0, 0) s) fun s1 => gx_b (hx_sign K V P 59 i) fun j => gx_b (C (33, 0, 0, 0) s1) fun s2 => .inr (j, st, s2)
  else gx_b (he_e K V P C f deep st i s) fun r => gx_b (hx_sign K V P 59 r.1) fun j => gx_b (C (33, 0, 0, 0) r.2.2.1) fun s2 => .inr (j, r.2.1, s2)
/-- statements: mode 0 as many as there are, 1 one -/
def hs (g : Nat) : Nat → Nat → Nat → Nat → Nat → σ → gx_R (Nat × Nat × σ)
  | 0, _, _, _, _, _ => .inl (9, 0)
  | f + 1, 0, deep, st, i, s => if gx_stm K V i then gx_b (hs g f 1 deep st i s) fun r => hs g f 0 deep r.2.1 r.1 r.2.2 else .inr (i, st, s)
  | f + 1, _, deep, st, i, s =>
    gx_b (C (20, (i : Int), 0, 0) s) fun s1 => gx_b (hx_next i) fun j =>
      if V i = 15 then he_let K V P C g deep st j s1
      else if V i = 17 then gx_b (C (24, 0, 0, 0) s1) fun s2 => gx_b (he_c K V P C g deep st j s2) fun r => gx_b (C (25, 0, 0, 0) r.2.2) fun s3 => gx_b (hx_opens K V P 123 deep r.1) fun j1 => gx_b (hs g f 0 (deep + 1) r.2.1 j1 s3) fun r2 => gx_b (hx_sign K V P 125 r2.1) fun j2 =>
        if gx_wd K V 18 j2 then gx_b (C (26, 0, 0, 0) r2.2.2) fun s4 => gx_b (hx_next j2) fun j3 => gx_b (hx_opens K V P 123 deep j3) fun j4 => gx_b (hs g f 0 (deep + 1) r2.2.1 j4 s4) fun r3 => gx_b (hx_sign K V P 125 r3.1) fun j5 => gx_b (C (28, 0, 0, 0) r3.2.2) fun s5 => .inr (j5, r3.2.1, s5)
        else gx_b (C (27, 0, 0, 0) r2.2.2) fun s4 => .inr (j2, r2.2.1, s4)
      else if V i = 19 then gx_b (C (30, (i : Int), 0, 0) s1) fun s2 => gx_b (he_c K V P C g deep st j s2) fun r => gx_b (C (31, 0, 0, 0) r.2.2) fun s3 => gx_b (hx_opens K V P 123 deep r.1) fun j1 => gx_b (hs g f 0 (deep + 1) r.2.1 j1 s3) fun r2 => gx_b (hx_sign K V P 125 r2.1) fun j2 => gx_b (C (32, 0, 0, 0) r2.2.2) fun s4 => .inr (j2, r2.2.1, s4)
      else if V i = 16 then he_do K V P C g deep st j s1
      else he_ret K V P C g deep st j s1
/-- a type -/
def hx_type (i : Nat) (s : σ) : gx_R (Nat × σ) := gx_if (gx_wd K V 7 i ∨ gx_wd K V 8 i ∨ gx_wd K V 9 i ∨ K i = 2) (hx_sx K P i) (gx_b (C (41, (i : Int), 0, 0) s) fun s1 => gx_b (hx_next i) fun j => .inr (j, s1))
/-- names of statics or fields behind a type, up to the ;. fd: 1 fields. n: how many there are already. Answer: behind the ;, how many -/
def hp_decl (fd : Bool) : Nat → Nat → Nat → σ → gx_R (Nat × Nat × σ)
  | 0, _, _, _ => .inl (9, 0)
  | f + 1, i, n, s =>
    gx_if (K i = 2) (hx_sx K P i) (gx_if (n < 12) (2, P i) (gx_b (C (42, (i : Int), if fd = true then 1 else 0, 0) s) fun s1 => gx_b (hx_next i) fun j =>
      if gx_sg K V 44 j then gx_b (hx_next j) fun j2 => hp_decl fd f j2 (n + 1) s1
      else gx_b (hx_sign K V P 59 j) fun j2 => .inr (j2, n + 1, s1)))
/-- statics and fields of a class: sn statics of the text, fn fields of the class -/
def hp_vars (g : Nat) : Nat → Nat → Nat → Nat → σ → gx_R (Nat × Nat × Nat × σ)
  | 0, _, _, _, _ => .inl (9, 0)
  | f + 1, i, sn, fn, s =>
    if gx_wd K V 5 i then gx_b (hx_next i) fun j => gx_b (hx_type K V P C j s) fun r => gx_b (hp_decl K V P C false g r.1 sn r.2) fun r2 => hp_vars g f r2.1 r2.2.1 fn r2.2.2
    else if gx_wd K V 4 i then gx_b (hx_next i) fun j => gx_b (hx_type K V P C j s) fun r => gx_b (hp_decl K V P C true g r.1 fn r.2) fun r2 => hp_vars g f r2.1 sn r2.2.1 r2.2.2
    else .inr (i, sn, fn, s)
/-- parameters, behind the (: n there are -/
def hp_pars : Nat → Nat → Nat → σ → gx_R (Nat × σ)
  | 0, _, _, _ => .inl (9, 0)
  | f + 1, i, n, s =>
    if gx_sg K V 41 i then gx_b (hx_next i) fun j => .inr (j, s)
    else gx_b (if n = 0 then .inr i else hx_sign K V P 44 i) fun j => gx_b (hx_type K V P C j s) fun r => gx_if (K r.1 = 2) (hx_sx K P r.1) (gx_if (n < 12) (2, P r.1) (gx_b (C (46, (r.1 : Int), 0, 0) r.2) fun s1 => gx_b (hx_next r.1) fun j2 => hp_pars f j2 (n + 1) s1))
/-- names of vars behind a type, up to the ; -/
def hp_varn : Nat → Nat → Nat → σ → gx_R (Nat × Nat × σ)
  | 0, _, _, _ => .inl (9, 0)
  | f + 1, i, n, s =>
    gx_if (K i = 2) (hx_sx K P i) (gx_if (n < 12) (2, P i) (gx_b (C (50, (i : Int), 0, 0) s) fun s1 => gx_b (hx_next i) fun j =>
      if gx_sg K V 44 j then gx_b (hx_next j) fun j2 => hp_varn f j2 (n + 1) s1
      else gx_b (hx_sign K V P 59 j) fun j2 => .inr (j2, n + 1, s1)))
def hp_locs (g : Nat) : Nat → Nat → Nat → σ → gx_R (Nat × σ)
  | 0, _, _, _ => .inl (9, 0)
  | f + 1, i, n, s =>
    if gx_wd K V 6 i then gx_b (hx_next i) fun j => gx_b (hx_type K V P C j s) fun r => gx_b (hp_varn K V P C g r.1 n r.2) fun r2 => hp_locs g f r2.1 r2.2.1 r2.2.2
    else .inr (i, s)
/-- a sub: its kind stands at i; sn subs of the text are there -/
def hp_sub (g st i sn : Nat) (s : σ) : gx_R (Nat × Nat × σ) :=
  gx_b (C (44, (i : Int), 0, 0) s) fun s0 => gx_b (hx_next i) fun j => gx_b (if gx_wd K V 10 j then gx_b (hx_next j) fun j1 => .inr (j1, s0) else hx_type K V P C j s0) fun r => gx_if (K r.1 = 2) (hx_sx K P r.1) (gx_if (sn < 60) (2, P r.1) (
    gx_b (C (45, (r.1 : Int), 0, 0) r.2) fun s1 => gx_b (hx_next r.1) fun j2 => gx_b (C (51, 0, 0, 0) s1) fun s1 => gx_b (hx_sign K V P 40 j2) fun j3 => gx_b (hp_pars K V P C g j3 0 s1) fun r2 => gx_b (C (47, 0, 0, 0) r2.2) fun s2 =>
    gx_b (hx_opens K V P 123 1 r2.1) fun j4 => gx_b (hp_locs K V P C g g j4 0 s2) fun r3 => gx_b (C (48, 0, 0, 0) r3.2) fun s3 => gx_b (hs K V P C g g 0 2 st r3.1 s3) fun r4 => gx_b (hx_sign K V P 125 r4.1) fun j5 => gx_b (C (49, 0, 0, 0) r4.2.2) fun s4 => .inr (j5, r4.2.1, s4)))
def hp_subs (g : Nat) : Nat → Nat → Nat → Nat → σ → gx_R (Nat × Nat × Nat × σ)
  | 0, _, _, _, _ => .inl (9, 0)
  | f + 1, st, i, sn, s =>
    if gx_wd K V 1 i ∨ gx_wd K V 2 i ∨ gx_wd K V 3 i then gx_b (hp_sub K V P C g st i sn s) fun r => hp_subs g f r.2.1 r.1 (sn + 1) r.2.2
    else .inr (i, st, sn, s)
/-- a class: cn classes of the text are there, vn statics, sn subs. Answer: behind it, letters, statics, subs -/
def hp_class (g st i cn vn sn : Nat) (s : σ) : gx_R (Nat × Nat × Nat × Nat × σ) :=
  gx_b (C (39, 0, 0, 0) s) fun s0 => gx_b (hx_word K V P 0 i) fun j => gx_if (K j = 2) (hx_sx K P j) (gx_if (cn < 12) (2, P j) (gx_b (C (40, (j : Int), 0, 0) s0) fun s1 => gx_b (hx_next j) fun j1 => gx_b (hx_sign K V P 123 j1) fun j2 => gx_b (C (38, 0, 0, 0) s1) fun s1 =>
    gx_b (hp_vars K V P C g g j2 vn 0 s1) fun r => gx_b (C (43, 0, 0, 0) r.2.2.2) fun s2 => gx_b (hp_subs K V P C g g st r.1 sn s2) fun r2 => gx_b (hx_sign K V P 125 r2.1) fun j3 => .inr (j3, r2.2.1, r.2.1, r2.2.2.1, r2.2.2.2)))
def hp_classes (g : Nat) : Nat → Nat → Nat → Nat → Nat → Nat → σ → gx_R σ
  | 0, _, _, _, _, _, _ => .inl (9, 0)
  | f + 1, st, i, cn, vn, sn, s =>
    if K i = 0 then .inr s
    else gx_b (hp_class K V P C g st i cn vn sn s) fun r => hp_classes g f r.2.1 r.1 (cn + 1) r.2.2.1 r.2.2.2.1 r.2.2.2.2
/-- the whole text -/
def hp (g : Nat) (s : σ) : gx_R σ := gx_if (K 0 ≠ 6) (hx_sx K P 0) (hp_classes K V P C g g 0 0 0 0 0 s)
end
