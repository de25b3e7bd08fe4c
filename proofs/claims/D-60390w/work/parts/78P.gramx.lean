/-! PURE LAYER, 70: the grammar for any step nx and any fault sx (printed by gen/gramx.py out of 65); both grammars are of this form -/
section
variable (nx : Nat → gx_R Nat) (sx : Nat → Int × Int) (K V P : Nat → Int)
def xx_sign (c : Int) (i : Nat) : gx_R Nat := gx_if (gx_sg K V c i) (sx i) (nx i)
def xx_word (w : Int) (i : Nat) : gx_R Nat := gx_if (gx_wd K V w i) (sx i) (nx i)
def xx_name (i : Nat) : gx_R Nat := gx_if (K i = 2) (sx i) (nx i)
def xx_open (deep i : Nat) : gx_R Nat := gx_if (deep < 25) (2, P i) (nx i)
def xx_opens (c : Int) (deep i : Nat) : gx_R Nat := gx_if (gx_sg K V c i) (sx i) (xx_open nx P deep i)
section
variable {σ : Type} (C : gx_V → σ → gx_R σ)
def xe : Nat → Nat → Nat → Nat → Nat → σ → gx_R (Nat × Nat × σ × Nat)
  | 0, _, _, _, _, _ => .inl (9, 0)
  | f + 1, 0, deep, st, i, s =>
    if K i = 3 then gx_b (C (1, V i, 0, 0) s) fun s1 => gx_b (nx i) fun j => .inr (j, st, s1, 0)
    else if K i = 4 then gx_if ((st : Int) + V i ≤ 300) (2, P i) (gx_b (C (5, (i : Int), 0, 0) s) fun s1 => gx_b (nx i) fun j => .inr (j, st + (V i).toNat, s1, 0))
    else if K i = 1 then gx_if (V i = 11 ∨ V i = 12 ∨ V i = 13 ∨ V i = 14) (sx i) (gx_b (C (if V i = 14 then (4, (i : Int), 0, 0) else if V i = 11 then (2, 0, 0, 0) else (3, 0, 0, 0)) s) fun s1 => gx_b (nx i) fun j => .inr (j, st, s1, 0))
    else if K i = 2 then gx_b (nx i) fun j =>
      if gx_sg K V 91 j then gx_b (C (6, (i : Int), 0, 0) s) fun s1 => gx_b (xx_open nx P deep j) fun j1 => gx_b (xe f 0 (deep + 1) st j1 s1) fun r1 => gx_b (xe f 1 (deep + 1) r1.2.1 r1.1 r1.2.2.1) fun r2 => gx_b (xx_sign nx sx K V 93 r2.1) fun j2 => gx_b (C (7, 0, 0, 0) r2.2.2.1) fun s2 => .inr (j2, r2.2.1, s2, 0)
      else if gx_sg K V 46 j then gx_b (nx j) fun j1 => gx_b (xx_name nx sx K j1) fun j2 => gx_b (C (11, (i : Int), (j1 : Int), 1) s) fun s1 => gx_b (xx_opens nx sx K V P 40 deep j2) fun j3 => gx_b (xe f 2 (deep + 1) st j3 s1) fun r => gx_b (C (12, (i : Int), (j1 : Int), (r.2.2.2 : Int)) r.2.2.1) fun s2 => .inr (r.1, r.2.1, s2, 0)
      else if gx_sg K V 40 j then gx_b (C (11, (i : Int), (i : Int), 0) s) fun s1 => gx_b (xx_open nx P deep j) fun j3 => gx_b (xe f 2 (deep + 1) st j3 s1) fun r => gx_b (C (12, (i : Int), (i : Int), (r.2.2.2 : Int)) r.2.2.1) fun s2 => .inr (r.1, r.2.1, s2, 0)
      else gx_b (C (6, (i : Int), 0, 0) s) fun s1 => .inr (j, st, s1, 0)
    else if gx_sg K V 40 i then gx_b (xx_open nx P deep i) fun j1 => gx_b (xe f 0 (deep + 1) st j1 s) fun r1 => gx_b (xe f 1 (deep + 1) r1.2.1 r1.1 r1.2.2.1) fun r2 => gx_b (xx_sign nx sx K V 41 r2.1) fun j2 => .inr (j2, r2.2.1, r2.2.2.1, 0)
    else gx_if (gx_sg K V 45 i ∨ gx_sg K V 126 i) (sx i) (gx_b (xx_open nx P deep i) fun j1 => gx_b (xe f 0 (deep + 1) st j1 s) fun r1 => gx_b (C (if V i = 45 then 9 else 10, 0, 0, 0) r1.2.2.1) fun s2 => .inr (r1.1, r1.2.1, s2, 0))
  | f + 1, 1, deep, st, i, s =>
    if gx_op K V i then gx_b (nx i) fun j => gx_b (xe f 0 deep st j s) fun r1 => gx_b (C (8, V i, 0, 0) r1.2.2.1) fun s1 => xe f 1 deep r1.2.1 r1.1 s1
    else .inr (i, st, s, 0)
  | f + 1, 2, deep, st, i, s =>
    if gx_sg K V 41 i then gx_b (nx i) fun j => .inr (j, st, s, 0)
    else gx_b (xe f 0 deep st i s) fun r1 => gx_b (xe f 1 deep r1.2.1 r1.1 r1.2.2.1) fun r2 => gx_b (xe f 3 deep r2.2.1 r2.1 r2.2.2.1) fun r3 => .inr (r3.1, r3.2.1, r3.2.2.1, r3.2.2.2 + 1)
  | f + 1, _, deep, st, i, s =>
    if gx_sg K V 41 i then gx_b (nx i) fun j => .inr (j, st, s, 0)
    else gx_b (xx_sign nx sx K V 44 i) fun j => gx_b (xe f 0 deep st j s) fun r1 => gx_b (xe f 1 deep r1.2.1 r1.1 r1.2.2.1) fun r2 => gx_b (xe f 3 deep r2.2.1 r2.1 r2.2.2.1) fun r3 => .inr (r3.1, r3.2.1, r3.2.2.1, r3.2.2.2 + 1)
def xe_e (f deep st i : Nat) (s : σ) : gx_R (Nat × Nat × σ × Nat) := gx_b (xe nx sx K V P C f 0 deep st i s) fun r1 => xe nx sx K V P C f 1 deep r1.2.1 r1.1 r1.2.2.1
end
end
section
variable (nx : Nat → gx_R Nat) (sx : Nat → Int × Int) (K V P : Nat → Int) {σ : Type} (C : gx_V → σ → gx_R σ)
def xe_c (f deep st i : Nat) (s : σ) : gx_R (Nat × Nat × σ) := gx_b (xx_opens nx sx K V P 40 deep i) fun j => gx_b (xe_e nx sx K V P C f (deep + 1) st j s) fun r => gx_b (xx_sign nx sx K V 41 r.1) fun j2 => .inr (j2, r.2.1, r.2.2.1)
def xe_let (f deep st i : Nat) (s : σ) : gx_R (Nat × Nat × σ) :=
  gx_b (xx_name nx sx K i) fun j =>
    if gx_sg K V 91 j then gx_b (C (6, (i : Int), 0, 0) s) fun s1 => gx_b (xx_open nx P deep j) fun j1 => gx_b (xe_e nx sx K V P C f (deep + 1) st j1 s1) fun r => gx_b (xx_sign nx sx K V 93 r.1) fun j2 => gx_b (C (8, 43, 0, 0) r.2.2.1) fun s2 => gx_b (xx_sign nx sx K V 61 j2) fun j3 => gx_b (xe_e nx sx K V P C f deep r.2.1 j3 s2) fun r2 => gx_b (xx_sign nx sx K V 59 r2.1) fun j4 => gx_b (C (23, 0, 0, 0) r2.2.2.1) fun s3 => .inr (j4, r2.2.1, s3)
    else gx_b (C (21, (i : Int), 0, 0) s) fun s1 => gx_b (xx_sign nx sx K V 61 j) fun j3 => gx_b (xe_e nx sx K V P C f deep st j3 s1) fun r2 => gx_b (xx_sign nx sx K V 59 r2.1) fun j4 => gx_b (C (22, (i : Int), 0, 0) r2.2.2.1) fun s3 => .inr (j4, r2.2.1, s3)
def xe_do (f deep st i : Nat) (s : σ) : gx_R (Nat × Nat × σ) :=
  gx_b (xx_name nx sx K i) fun j =>
    if gx_sg K V 46 j then gx_b (nx j) fun j1 => gx_b (xx_name nx sx K j1) fun j2 => gx_b (C (11, (i : Int), (j1 : Int), 1) s) fun s1 => gx_b (xx_opens nx sx K V P 40 deep j2) fun j3 => gx_b (xe nx sx K V P C f 2 (deep + 1) st j3 s1) fun r => gx_b (C (12, (i : Int), (j1 : Int), (r.2.2.2 : Int)) r.2.2.1) fun s2 => gx_b (C (34, 0, 0, 0) s2) fun s3 => gx_b (xx_sign nx sx K V 59 r.1) fun j4 => .inr (j4, r.2.1, s3)
    else if gx_sg K V 40 j then gx_b (C (11, (i : Int), (i : Int), 0) s) fun s1 => gx_b (xx_open nx P deep j) fun j3 => gx_b (xe nx sx K V P C f 2 (deep + 1) st j3 s1) fun r => gx_b (C (12, (i : Int), (i : Int), (r.2.2.2 : Int)) r.2.2.1) fun s2 => gx_b (C (34, 0, 0, 0) s2) fun s3 => gx_b (xx_sign nx sx K V 59 r.1) fun j4 => .inr (j4, r.2.1, s3)
    else .inl (sx j)
def xe_ret (f deep st i : Nat) (s : σ) : gx_R (Nat × Nat × σ) :=
  if gx_sg K V 59 i then gx_b (C (1, 0, 0, 0) s) fun s1 => gx_b (xx_sign nx sx K V 59 i) fun j => gx_b (C (33, 0, 0, 0) s1) fun s2 => .inr (j, st, s2)
  else gx_b (xe_e nx sx K V P C f deep st i s) fun r => gx_b (xx_sign nx sx K V 59 r.1) fun j => gx_b (C (33, 0, 0, 0) r.2.2.1) fun s2 => .inr (j, r.2.1, s2)
def xs (g : Nat) : Nat → Nat → Nat → Nat → Nat → σ → gx_R (Nat × Nat × σ)
  | 0, _, _, _, _, _ => .inl (9, 0)
  | f + 1, 0, deep, st, i, s => if gx_stm K V i then gx_b (xs g f 1 deep st i s) fun r => xs g f 0 deep r.2.1 r.1 r.2.2 else .inr (i, st, s)
  | f + 1, _, deep, st, i, s =>
    gx_b (C (20, (i : Int), 0, 0) s) fun s1 => gx_b (nx i) fun j =>
      if V i = 15 then xe_let nx sx K V P C g deep st j s1
      else if V i = 17 then gx_b (C (24, 0, 0, 0) s1) fun s2 => gx_b (xe_c nx sx K V P C g deep st j s2) fun r => gx_b (C (25, 0, 0, 0) r.2.2) fun s3 => gx_b (xx_opens nx sx K V P 123 deep r.1) fun j1 => gx_b (xs g f 0 (deep + 1) r.2.1 j1 s3) fun r2 => gx_b (xx_sign nx sx K V 125 r2.1) fun j2 =>
        if gx_wd K V 18 j2 then gx_b (C (26, 0, 0, 0) r2.2.2) fun s4 => gx_b (nx j2) fun j3 => gx_b (xx_opens nx sx K V P 123 deep j3) fun j4 => gx_b (xs g f 0 (deep + 1) r2.2.1 j4 s4) fun r3 => gx_b (xx_sign nx sx K V 125 r3.1) fun j5 => gx_b (C (28, 0, 0, 0) r3.2.2) fun s5 => .inr (j5, r3.2.1, s5)
        else gx_b (C (27, 0, 0, 0) r2.2.2) fun s4 => .inr (j2, r2.2.1, s4)
      else if V i = 19 then gx_b (C (30, (i : Int), 0, 0) s1) fun s2 => gx_b (xe_c nx sx K V P C g deep st j s2) fun r => gx_b (C (31, 0, 0, 0) r.2.2) fun s3 => gx_b (xx_opens nx sx K V P 123 deep r.1) fun j1 => gx_b (xs g f 0 (deep + 1) r.2.1 j1 s3) fun r2 => gx_b (xx_sign nx sx K V 125 r2.1) fun j2 => gx_b (C (32, 0, 0, 0) r2.2.2) fun s4 => .inr (j2, r2.2.1, s4)
      else if V i = 16 then xe_do nx sx K V P C g deep st j s1
      else xe_ret nx sx K V P C g deep st j s1
def xx_type (i : Nat) (s : σ) : gx_R (Nat × σ) := gx_if (gx_wd K V 7 i ∨ gx_wd K V 8 i ∨ gx_wd K V 9 i ∨ K i = 2) (sx i) (gx_b (C (41, (i : Int), 0, 0) s) fun s1 => gx_b (nx i) fun j => .inr (j, s1))
def xp_decl (fd : Bool) : Nat → Nat → Nat → σ → gx_R (Nat × Nat × σ)
  | 0, _, _, _ => .inl (9, 0)
  | f + 1, i, n, s =>
    gx_if (K i = 2) (sx i) (gx_if (n < 12) (2, P i) (gx_b (C (42, (i : Int), if fd = true then 1 else 0, 0) s) fun s1 => gx_b (nx i) fun j =>
      if gx_sg K V 44 j then gx_b (nx j) fun j2 => xp_decl fd f j2 (n + 1) s1
      else gx_b (xx_sign nx sx K V 59 j) fun j2 => .inr (j2, n + 1, s1)))
def xp_vars (g : Nat) : Nat → Nat → Nat → Nat → σ → gx_R (Nat × Nat × Nat × σ)
  | 0, _, _, _, _ => .inl (9, 0)
  | f + 1, i, sn, fn, s =>
    if gx_wd K V 5 i then gx_b (nx i) fun j => gx_b (xx_type nx sx K V C j s) fun r => gx_b (xp_decl nx sx K V P C false g r.1 sn r.2) fun r2 => xp_vars g f r2.1 r2.2.1 fn r2.2.2
    else if gx_wd K V 4 i then gx_b (nx i) fun j => gx_b (xx_type nx sx K V C j s) fun r => gx_b (xp_decl nx sx K V P C true g r.1 fn r.2) fun r2 => xp_vars g f r2.1 sn r2.2.1 r2.2.2
    else .inr (i, sn, fn, s)
def xp_pars : Nat → Nat → Nat → σ → gx_R (Nat × σ)
  | 0, _, _, _ => .inl (9, 0)
  | f + 1, i, n, s =>
    if gx_sg K V 41 i then gx_b (nx i) fun j => .inr (j, s)
    else gx_b (if n = 0 then .inr i else xx_sign nx sx K V 44 i) fun j => gx_b (xx_type nx sx K V C j s) fun r => gx_if (K r.1 = 2) (sx r.1) (gx_if (n < 12) (2, P r.1) (gx_b (C (46, (r.1 : Int), 0, 0) r.2) fun s1 => gx_b (nx r.1) fun j2 => xp_pars f j2 (n + 1) s1))
def xp_varn : Nat → Nat → Nat → σ → gx_R (Nat × Nat × σ)
  | 0, _, _, _ => .inl (9, 0)
  | f + 1, i, n, s =>
    gx_if (K i = 2) (sx i) (gx_if (n < 12) (2, P i) (gx_b (C (50, (i : Int), 0, 0) s) fun s1 => gx_b (nx i) fun j =>
      if gx_sg K V 44 j then gx_b (nx j) fun j2 => xp_varn f j2 (n + 1) s1
      else gx_b (xx_sign nx sx K V 59 j) fun j2 => .inr (j2, n + 1, s1)))
def xp_locs (g : Nat) : Nat → Nat → Nat → σ → gx_R (Nat × σ)
  | 0, _, _, _ => .inl (9, 0)
  | f + 1, i, n, s =>
    if gx_wd K V 6 i then gx_b (nx i) fun j => gx_b (xx_type nx sx K V C j s) fun r => gx_b (xp_varn nx sx K V P C g r.1 n r.2) fun r2 => xp_locs g f r2.1 r2.2.1 r2.2.2
    else .inr (i, s)
def xp_sub (g st i sn : Nat) (s : σ) : gx_R (Nat × Nat × σ) :=
  gx_b (C (44, (i : Int), 0, 0) s) fun s0 => gx_b (nx i) fun j => gx_b (if gx_wd K V 10 j then gx_b (nx j) fun j1 => .inr (j1, s0) else xx_type nx sx K V C j s0) fun r => gx_if (K r.1 = 2) (sx r.1) (gx_if (sn < 60) (2, P r.1) (
    gx_b (C (45, (r.1 : Int), 0, 0) r.2) fun s1 => gx_b (nx r.1) fun j2 => gx_b (C (51, 0, 0, 0) s1) fun s1 => gx_b (xx_sign nx sx K V 40 j2) fun j3 => gx_b (xp_pars nx sx K V P C g j3 0 s1) fun r2 => gx_b (C (47, 0, 0, 0) r2.2) fun s2 =>
    gx_b (xx_opens nx sx K V P 123 1 r2.1) fun j4 => gx_b (xp_locs nx sx K V P C g g j4 0 s2) fun r3 => gx_b (C (48, 0, 0, 0) r3.2) fun s3 => gx_b (xs nx sx K V P C g g 0 2 st r3.1 s3) fun r4 => gx_b (xx_sign nx sx K V 125 r4.1) fun j5 => gx_b (C (49, 0, 0, 0) r4.2.2) fun s4 => .inr (j5, r4.2.1, s4)))
def xp_subs (g : Nat) : Nat → Nat → Nat → Nat → σ → gx_R (Nat × Nat × Nat × σ)
  | 0, _, _, _, _ => .inl (9, 0)
  | f + 1, st, i, sn, s =>
    if gx_wd K V 1 i ∨ gx_wd K V 2 i ∨ gx_wd K V 3 i then gx_b (xp_sub nx sx K V P C g st i sn s) fun r => xp_subs g f r.2.1 r.1 (sn + 1) r.2.2
    else .inr (i, st, sn, s)
def xp_class (g st i cn vn sn : Nat) (s : σ) : gx_R (Nat × Nat × Nat × Nat × σ) :=
  gx_b (C (39, 0, 0, 0) s) fun s0 => gx_b (xx_word nx sx K V 0 i) fun j => gx_if (K j = 2) (sx j) (gx_if (cn < 12) (2, P j) (gx_b (C (40, (j : Int), 0, 0) s0) fun s1 => gx_b (nx j) fun j1 => gx_b (xx_sign nx sx K V 123 j1) fun j2 => gx_b (C (38, 0, 0, 0) s1) fun s1 =>
    gx_b (xp_vars nx sx K V P C g g j2 vn 0 s1) fun r => gx_b (C (43, 0, 0, 0) r.2.2.2) fun s2 => gx_b (xp_subs nx sx K V P C g g st r.1 sn s2) fun r2 => gx_b (xx_sign nx sx K V 125 r2.1) fun j3 => .inr (j3, r2.2.1, r.2.1, r2.2.2.1, r2.2.2.2)))
def xp_classes (g : Nat) : Nat → Nat → Nat → Nat → Nat → Nat → σ → gx_R σ
  | 0, _, _, _, _, _, _ => .inl (9, 0)
  | f + 1, st, i, cn, vn, sn, s =>
    if K i = 0 then .inr s
    else gx_b (xp_class nx sx K V P C g st i cn vn sn s) fun r => xp_classes g f r.2.1 r.1 (cn + 1) r.2.2.1 r.2.2.2.1 r.2.2.2.2
def xp (g : Nat) (s : σ) : gx_R σ := gx_if (K 0 ≠ 6) (sx 0) (xp_classes nx sx K V P C g g 0 0 0 0 0 s)
end

theorem gx_if_or {α : Type} {p : Prop} [Decidable p] {e : Int × Int} {x : gx_R α} : gx_if (false = true ∨ p) e x = gx_if p e x := by unfold gx_if; simp
section
variable {K V P : Nat → Int} {σ : Type} {C : gx_V → σ → gx_R σ}
theorem he_x : ∀ (f m deep st i : Nat) (s : σ), he K V P C f m deep st i s = xe hx_next (hx_sx K P) K V P C f m deep st i s
  | 0, _, _, _, _, _ => rfl
  | f + 1, 0, deep, st, i, s => by rw [he, xe]; simp only [he_x f] <;> rfl
  | f + 1, 1, deep, st, i, s => by rw [he, xe]; simp only [he_x f] <;> rfl
  | f + 1, 2, deep, st, i, s => by rw [he, xe]; simp only [he_x f] <;> rfl
  | f + 1, m + 3, deep, st, i, s => by
    rw [he, xe]
    · simp only [he_x f] <;> rfl
    all_goals (intro z; omega)
theorem he_e_x (f deep st i : Nat) (s : σ) : he_e K V P C f deep st i s = xe_e hx_next (hx_sx K P) K V P C f deep st i s := by unfold he_e xe_e; simp only [he_x]
theorem he_c_x (f deep st i : Nat) (s : σ) : he_c K V P C f deep st i s = xe_c hx_next (hx_sx K P) K V P C f deep st i s := by unfold he_c xe_c; simp only [he_e_x] <;> rfl
theorem he_let_x (f deep st i : Nat) (s : σ) : he_let K V P C f deep st i s = xe_let hx_next (hx_sx K P) K V P C f deep st i s := by unfold he_let xe_let; simp only [he_e_x] <;> rfl
theorem he_do_x (f deep st i : Nat) (s : σ) : he_do K V P C f deep st i s = xe_do hx_next (hx_sx K P) K V P C f deep st i s := by unfold he_do xe_do; simp only [he_x] <;> rfl
theorem he_ret_x (f deep st i : Nat) (s : σ) : he_ret K V P C f deep st i s = xe_ret hx_next (hx_sx K P) K V P C f deep st i s := by unfold he_ret xe_ret; simp only [he_e_x] <;> rfl
theorem hs_x (g : Nat) : ∀ (f m deep st i : Nat) (s : σ), hs K V P C g f m deep st i s = xs hx_next (hx_sx K P) K V P C g f m deep st i s
  | 0, _, _, _, _, _ => rfl
  | f + 1, 0, deep, st, i, s => by rw [hs, xs]; simp only [hs_x g f]
  | f + 1, m + 1, deep, st, i, s => by
    rw [hs, xs]
    · simp only [hs_x g f, he_let_x, he_c_x, he_do_x, he_ret_x] <;> rfl
    all_goals (intro z; omega)
theorem hp_decl_x (fd : Bool) : ∀ (f i n : Nat) (s : σ), hp_decl K V P C fd f i n s = xp_decl hx_next (hx_sx K P) K V P C fd f i n s
  | 0, _, _, _ => rfl
  | f + 1, i, n, s => by unfold hp_decl xp_decl; simp only [hp_decl_x fd f] <;> rfl
theorem hp_vars_x (g : Nat) : ∀ (f i sn fn : Nat) (s : σ), hp_vars K V P C g f i sn fn s = xp_vars hx_next (hx_sx K P) K V P C g f i sn fn s
  | 0, _, _, _, _ => rfl
  | f + 1, i, sn, fn, s => by unfold hp_vars xp_vars; simp only [hp_vars_x g f, hp_decl_x] <;> rfl
theorem hp_pars_x : ∀ (f i n : Nat) (s : σ), hp_pars K V P C f i n s = xp_pars hx_next (hx_sx K P) K V P C f i n s
  | 0, _, _, _ => rfl
  | f + 1, i, n, s => by unfold hp_pars xp_pars; simp only [hp_pars_x f] <;> rfl
theorem hp_varn_x : ∀ (f i n : Nat) (s : σ), hp_varn K V P C f i n s = xp_varn hx_next (hx_sx K P) K V P C f i n s
  | 0, _, _, _ => rfl
  | f + 1, i, n, s => by unfold hp_varn xp_varn; simp only [hp_varn_x f] <;> rfl
theorem hp_locs_x (g : Nat) : ∀ (f i n : Nat) (s : σ), hp_locs K V P C g f i n s = xp_locs hx_next (hx_sx K P) K V P C g f i n s
  | 0, _, _, _ => rfl
  | f + 1, i, n, s => by unfold hp_locs xp_locs; simp only [hp_locs_x g f, hp_varn_x] <;> rfl
theorem hp_sub_x (g st i sn : Nat) (s : σ) : hp_sub K V P C g st i sn s = xp_sub hx_next (hx_sx K P) K V P C g st i sn s := by unfold hp_sub xp_sub; simp only [hp_pars_x, hp_locs_x, hs_x] <;> rfl
theorem hp_subs_x (g : Nat) : ∀ (f st i sn : Nat) (s : σ), hp_subs K V P C g f st i sn s = xp_subs hx_next (hx_sx K P) K V P C g f st i sn s
  | 0, _, _, _, _ => rfl
  | f + 1, st, i, sn, s => by unfold hp_subs xp_subs; simp only [hp_subs_x g f, hp_sub_x]
theorem hp_class_x (g st i cn vn sn : Nat) (s : σ) : hp_class K V P C g st i cn vn sn s = xp_class hx_next (hx_sx K P) K V P C g st i cn vn sn s := by unfold hp_class xp_class; simp only [hp_vars_x, hp_subs_x] <;> rfl
theorem hp_classes_x (g : Nat) : ∀ (f st i cn vn sn : Nat) (s : σ), hp_classes K V P C g f st i cn vn sn s = xp_classes hx_next (hx_sx K P) K V P C g f st i cn vn sn s
  | 0, _, _, _, _, _, _ => rfl
  | f + 1, st, i, cn, vn, sn, s => by unfold hp_classes xp_classes; simp only [hp_classes_x g f, hp_class_x]
theorem hp_x (g : Nat) (s : σ) : hp K V P C g s = xp hx_next (hx_sx K P) K V P C g s := by unfold hp xp; simp only [hp_classes_x]
end
section
variable {K V P : Nat → Int} {σ : Type} {C : gx_V → σ → gx_R σ}
theorem ge_x : ∀ (f m deep st i : Nat) (s : σ), ge false K V P C f m deep st i s = xe (gx_next false K P) (fun i => (1, P i)) K V P C f m deep st i s
  | 0, _, _, _, _, _ => rfl
  | f + 1, 0, deep, st, i, s => by rw [ge, xe]; simp only [gx_if_or, ge_x f] <;> rfl
  | f + 1, 1, deep, st, i, s => by rw [ge, xe]; simp only [gx_if_or, ge_x f] <;> rfl
  | f + 1, 2, deep, st, i, s => by rw [ge, xe]; simp only [gx_if_or, ge_x f] <;> rfl
  | f + 1, m + 3, deep, st, i, s => by
    rw [ge, xe]
    · simp only [gx_if_or, ge_x f] <;> rfl
    all_goals (intro z; omega)
theorem ge_e_x (f deep st i : Nat) (s : σ) : ge_e false K V P C f deep st i s = xe_e (gx_next false K P) (fun i => (1, P i)) K V P C f deep st i s := by unfold ge_e xe_e; simp only [gx_if_or, ge_x]
theorem ge_c_x (f deep st i : Nat) (s : σ) : ge_c false K V P C f deep st i s = xe_c (gx_next false K P) (fun i => (1, P i)) K V P C f deep st i s := by unfold ge_c xe_c; simp only [gx_if_or, ge_e_x] <;> rfl
theorem ge_let_x (f deep st i : Nat) (s : σ) : ge_let false K V P C f deep st i s = xe_let (gx_next false K P) (fun i => (1, P i)) K V P C f deep st i s := by unfold ge_let xe_let; simp only [gx_if_or, ge_e_x] <;> rfl
theorem ge_do_x (f deep st i : Nat) (s : σ) : ge_do false K V P C f deep st i s = xe_do (gx_next false K P) (fun i => (1, P i)) K V P C f deep st i s := by unfold ge_do xe_do; simp only [gx_if_or, ge_x] <;> rfl
theorem ge_ret_x (f deep st i : Nat) (s : σ) : ge_ret false K V P C f deep st i s = xe_ret (gx_next false K P) (fun i => (1, P i)) K V P C f deep st i s := by unfold ge_ret xe_ret; simp only [gx_if_or, ge_e_x] <;> rfl
theorem gs_x (g : Nat) : ∀ (f m deep st i : Nat) (s : σ), gs false K V P C g f m deep st i s = xs (gx_next false K P) (fun i => (1, P i)) K V P C g f m deep st i s
  | 0, _, _, _, _, _ => rfl
  | f + 1, 0, deep, st, i, s => by rw [gs, xs]; simp only [gx_if_or, gs_x g f]
  | f + 1, m + 1, deep, st, i, s => by
    rw [gs, xs]
    · simp only [gx_if_or, gs_x g f, ge_let_x, ge_c_x, ge_do_x, ge_ret_x] <;> rfl
    all_goals (intro z; omega)
theorem gp_decl_x (fd : Bool) : ∀ (f i n : Nat) (s : σ), gp_decl false K V P C fd f i n s = xp_decl (gx_next false K P) (fun i => (1, P i)) K V P C fd f i n s
  | 0, _, _, _ => rfl
  | f + 1, i, n, s => by unfold gp_decl xp_decl; simp only [gx_if_or, gp_decl_x fd f] <;> rfl
theorem gp_vars_x (g : Nat) : ∀ (f i sn fn : Nat) (s : σ), gp_vars false K V P C g f i sn fn s = xp_vars (gx_next false K P) (fun i => (1, P i)) K V P C g f i sn fn s
  | 0, _, _, _, _ => rfl
  | f + 1, i, sn, fn, s => by unfold gp_vars xp_vars; simp only [gx_if_or, gp_vars_x g f, gp_decl_x] <;> rfl
theorem gp_pars_x : ∀ (f i n : Nat) (s : σ), gp_pars false K V P C f i n s = xp_pars (gx_next false K P) (fun i => (1, P i)) K V P C f i n s
  | 0, _, _, _ => rfl
  | f + 1, i, n, s => by unfold gp_pars xp_pars; simp only [gx_if_or, gp_pars_x f] <;> rfl
theorem gp_varn_x : ∀ (f i n : Nat) (s : σ), gp_varn false K V P C f i n s = xp_varn (gx_next false K P) (fun i => (1, P i)) K V P C f i n s
  | 0, _, _, _ => rfl
  | f + 1, i, n, s => by unfold gp_varn xp_varn; simp only [gx_if_or, gp_varn_x f] <;> rfl
theorem gp_locs_x (g : Nat) : ∀ (f i n : Nat) (s : σ), gp_locs false K V P C g f i n s = xp_locs (gx_next false K P) (fun i => (1, P i)) K V P C g f i n s
  | 0, _, _, _ => rfl
  | f + 1, i, n, s => by unfold gp_locs xp_locs; simp only [gx_if_or, gp_locs_x g f, gp_varn_x] <;> rfl
theorem gp_sub_x (g st i sn : Nat) (s : σ) : gp_sub false K V P C g st i sn s = xp_sub (gx_next false K P) (fun i => (1, P i)) K V P C g st i sn s := by unfold gp_sub xp_sub; simp only [gx_if_or, gp_pars_x, gp_locs_x, gs_x] <;> rfl
theorem gp_subs_x (g : Nat) : ∀ (f st i sn : Nat) (s : σ), gp_subs false K V P C g f st i sn s = xp_subs (gx_next false K P) (fun i => (1, P i)) K V P C g f st i sn s
  | 0, _, _, _, _ => rfl
  | f + 1, st, i, sn, s => by unfold gp_subs xp_subs; simp only [gx_if_or, gp_subs_x g f, gp_sub_x]
theorem gp_class_x (g st i cn vn sn : Nat) (s : σ) : gp_class false K V P C g st i cn vn sn s = xp_class (gx_next false K P) (fun i => (1, P i)) K V P C g st i cn vn sn s := by unfold gp_class xp_class; simp only [gx_if_or, gp_vars_x, gp_subs_x] <;> rfl
theorem gp_classes_x (g : Nat) : ∀ (f st i cn vn sn : Nat) (s : σ), gp_classes false K V P C g f st i cn vn sn s = xp_classes (gx_next false K P) (fun i => (1, P i)) K V P C g f st i cn vn sn s
  | 0, _, _, _, _, _, _ => rfl
  | f + 1, st, i, cn, vn, sn, s => by unfold gp_classes xp_classes; simp only [gx_if_or, gp_classes_x g f, gp_class_x]
theorem gp_x (g : Nat) (s : σ) : gp false K V P C g s = xp (gx_next false K P) (fun i => (1, P i)) K V P C g s := by unfold gp xp; simp only [gx_if_or, gp_classes_x]
end
