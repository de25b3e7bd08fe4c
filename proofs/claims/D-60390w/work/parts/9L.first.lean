/-! CONSTRUCTORS, 4: code that makes cells, run over lists: T the cells behind cell 0, w the changes of the heap, the last one first -/
abbrev koO : Type := Nat × Nat × Nat × Int
def koH : List koO → am_H → am_H
  | [], h => h
  | (0, a, _, _) :: r, h => am_zr (koH r h) a
  | (1, a, k, v) :: r, h => am_up (koH r h) a k v
  | (_ + 2, a, d, _) :: r, h => fun b => if a ≤ b ∧ b ≤ a + d then (fun _ => 0) else koH r h b
def koR : List koO → Nat → Nat → Option Int
  | [], _, _ => none
  | (0, a, _, _) :: r, c, k => if c = a then some 0 else koR r c k
  | (1, a, j, v) :: r, c, k => if c = a ∧ k = j then some v else koR r c k
  | (_ + 2, a, d, _) :: r, c, k => if a ≤ c ∧ c ≤ a + d then some 0 else koR r c k
theorem koR_h {h : am_H} : ∀ {w : List koO} {c k : Nat} {v : Int}, koR w c k = some v → koH w h c k = v
  | [], _, _, _, e => by cases e
  | (0, a, _, _) :: r, c, k, v, e => by
    unfold koR at e
    show am_zr (koH r h) a c k = v
    unfold am_zr
    by_cases z : c = a
    · rw [if_pos z] at e ⊢; injection e
    · rw [if_neg z] at e ⊢; exact koR_h e
  | (1, a, j, u) :: r, c, k, v, e => by
    unfold koR at e
    show am_up (koH r h) a j u c k = v
    by_cases z : c = a ∧ k = j
    · rw [if_pos z] at e
      injection e with e
      rw [z.1, z.2, p_up_s, e]
    · rw [if_neg z] at e
      rw [p_up_n _ _ _ _ _ _ (by omega)]
      exact koR_h e
  | (_ + 2, a, d, _) :: r, c, k, v, e => by
    unfold koR at e
    show (if a ≤ c ∧ c ≤ a + d then (fun _ => (0 : Int)) else koH r h c) k = v
    by_cases z : a ≤ c ∧ c ≤ a + d
    · rw [if_pos z] at e ⊢; injection e
    · rw [if_neg z] at e ⊢; exact koR_h e
abbrev koC : Type := (Nat ⊕ List am_A) × List (Option am_V) × List am_V × List am_C × List koO
def koL (T : List am_C) (X : am_R) : Option (Nat × am_C) := match X with
  | .inl (some (a + 1)) => (match T[a]? with
    | some q => some (a, q)
    | none => none)
  | _ => none
def koZ (L : Nat) (T : List am_C) : List am_C := (1, L, []) :: T
/-- one instruction that is no call and no end -/
def koI (i : Instr) (o : List Nat) (r : List am_A) (ls : List (Option am_V)) (st : List am_V) (T : List am_C) (w : List koO) : Option koC := match i with
  | .nop => some (.inl (o.getD 0 0), ls, st, T, w)
  | .goto _ => some (.inl (o.getD 0 0), ls, st, T, w)
  | .iconst n => cond (decide (-128 ≤ n) && decide (n ≤ 127)) (some (.inr r, ls, am_i n :: st, T, w)) none
  | .bipush n => cond (decide (-128 ≤ n) && decide (n ≤ 127)) (some (.inr r, ls, am_i n :: st, T, w)) none
  | .sipush n => cond (decide (-32768 ≤ n) && decide (n ≤ 32767)) (some (.inr r, ls, am_i n :: st, T, w)) none
  | .ldc _ => (match o with
    | [0, v] => some (.inr r, ls, am_i v :: st, T, w)
    | [1, j] => some (.inr r, ls, am_r (am_k j) :: st, T, w)
    | _ => none)
  | .ldc_w _ => (match o with
    | [0, v] => some (.inr r, ls, am_i v :: st, T, w)
    | [1, j] => some (.inr r, ls, am_r (am_k j) :: st, T, w)
    | _ => none)
  | .getstatic _ => some (.inr r, ls, am_r (am_k (o.getD 0 0)) :: st, T, w)
  | .iload n => (match ls[n]? with
    | some (some (.inl x)) => some (.inr r, ls, am_i x :: st, T, w)
    | _ => none)
  | .iload_n n => (match ls[(n : Nat)]? with
    | some (some (.inl x)) => some (.inr r, ls, am_i x :: st, T, w)
    | _ => none)
  | .aload n => (match ls[n]? with
    | some (some (.inr (.inr X))) => some (.inr r, ls, am_r X :: st, T, w)
    | _ => none)
  | .aload_n n => (match ls[(n : Nat)]? with
    | some (some (.inr (.inr X))) => some (.inr r, ls, am_r X :: st, T, w)
    | _ => none)
  | .istore n => (match o, st with
    | [], .inl x :: st => cond (Nat.blt n ls.length) (some (.inr r, ls.set n (some (am_i x)), st, T, w)) none
    | _, _ => none)
  | .istore_n n => (match o, st with
    | [], .inl x :: st => cond (Nat.blt n ls.length) (some (.inr r, ls.set n (some (am_i x)), st, T, w)) none
    | _, _ => none)
  | .astore n => (match o, st with
    | [], .inr (.inr X) :: st => cond (Nat.blt n ls.length) (some (.inr r, ls.set n (some (am_r X)), st, T, w)) none
    | _, _ => none)
  | .astore_n n => (match o, st with
    | [], .inr (.inr X) :: st => cond (Nat.blt n ls.length) (some (.inr r, ls.set n (some (am_r X)), st, T, w)) none
    | _, _ => none)
  | .iinc n d => (match ls[n]? with
    | some (some (.inl x)) => cond (decide (-32768 ≤ d) && decide (d ≤ 32767)) (some (.inr r, ls.set n (some (am_i (am_w (x + d)))), st, T, w)) none
    | _ => none)
  | .dup => (match st with
    | .inl x :: st => some (.inr r, ls, am_i x :: am_i x :: st, T, w)
    | .inr (.inr X) :: st => some (.inr r, ls, am_r X :: am_r X :: st, T, w)
    | _ => none)
  | .pop => (match st with
    | .inl _ :: st => some (.inr r, ls, st, T, w)
    | .inr (.inr _) :: st => some (.inr r, ls, st, T, w)
    | _ => none)
  | .iadd => (match st with
    | .inl y :: .inl x :: st => some (.inr r, ls, am_i (am_w (x + y)) :: st, T, w)
    | _ => none)
  | .isub => (match st with
    | .inl y :: .inl x :: st => some (.inr r, ls, am_i (am_w (x - y)) :: st, T, w)
    | _ => none)
  | .imul => (match st with
    | .inl y :: .inl x :: st => some (.inr r, ls, am_i (am_w (x * y)) :: st, T, w)
    | _ => none)
  | .if_icmp c _ => (match st with
    | .inl y :: .inl x :: st => (match c with
      | .eq => if x = y then some (.inl (o.getD 0 0), ls, st, T, w) else some (.inr r, ls, st, T, w)
      | .ne => if x = y then some (.inr r, ls, st, T, w) else some (.inl (o.getD 0 0), ls, st, T, w)
      | .lt => if x < y then some (.inl (o.getD 0 0), ls, st, T, w) else some (.inr r, ls, st, T, w)
      | .ge => if x < y then some (.inr r, ls, st, T, w) else some (.inl (o.getD 0 0), ls, st, T, w)
      | .gt => if y < x then some (.inl (o.getD 0 0), ls, st, T, w) else some (.inr r, ls, st, T, w)
      | .le => if y < x then some (.inr r, ls, st, T, w) else some (.inl (o.getD 0 0), ls, st, T, w))
    | _ => none)
  | .ifCond c _ => (match st with
    | .inl x :: st => (match c with
      | .eq => if x = 0 then some (.inl (o.getD 0 0), ls, st, T, w) else some (.inr r, ls, st, T, w)
      | .ne => if x = 0 then some (.inr r, ls, st, T, w) else some (.inl (o.getD 0 0), ls, st, T, w)
      | .lt => if x < 0 then some (.inl (o.getD 0 0), ls, st, T, w) else some (.inr r, ls, st, T, w)
      | .ge => if x < 0 then some (.inr r, ls, st, T, w) else some (.inl (o.getD 0 0), ls, st, T, w)
      | .gt => if 0 < x then some (.inl (o.getD 0 0), ls, st, T, w) else some (.inr r, ls, st, T, w)
      | .le => if 0 < x then some (.inr r, ls, st, T, w) else some (.inl (o.getD 0 0), ls, st, T, w))
    | _ => none)
  | .i2s => (match st with
    | .inl x :: st => some (.inr r, ls, am_i (am_s16 x) :: st, T, w)
    | _ => none)
  | .ior => (match st with
    | .inl y :: .inl x :: st => some (.inr r, ls, am_i (am_or x y) :: st, T, w)
    | _ => none)
  | .ishl => (match st with
    | .inl y :: .inl x :: st => some (.inr r, ls, am_i (am_shl x y) :: st, T, w)
    | _ => none)
  | .sastore => (match st with
    | .inl v :: .inl x :: .inr (.inr X) :: st => (match koL T X with
      | some (a, q) => cond (Nat.beq q.1 3 && decide (0 ≤ x) && decide (x < (q.2.1 : Int))) (some (.inr r, ls, st, T, (1, a + 1, x.toNat, am_s16 v) :: w)) none
      | none => none)
    | _ => none)
  | .i2b => (match st with
    | .inl x :: st => some (.inr r, ls, am_i (am_s8 x) :: st, T, w)
    | _ => none)
  | .baload => (match st with
    | .inl x :: .inr (.inr X) :: st => (match koL T X with
      | some (a, q) => (match koR w (a + 1) x.toNat with
        | some v => cond (Nat.beq q.1 (o.getD 0 0) && decide (0 ≤ x) && decide (x < (q.2.1 : Int))) (some (.inr r, ls, am_i v :: st, T, w)) none
        | none => none)
      | none => none)
    | _ => none)
  | .getfield _ => (match o, st with
    | [c, k, 1], .inr (.inr X) :: st => (match koL T X with
      | some (_, q) => cond (Nat.beq q.1 0 && Nat.beq q.2.1 c) (some (.inr r, ls, am_r (q.2.2.getD k am_n) :: st, T, w)) none
      | none => none)
    | [c, k, 0], .inr (.inr X) :: st => (match koL T X with
      | some (a, q) => (match koR w (a + 1) k with
        | some v => cond (Nat.beq q.1 0 && Nat.beq q.2.1 c) (some (.inr r, ls, am_i v :: st, T, w)) none
        | none => none)
      | none => none)
    | _, _ => none)
  | .putfield _ => (match o, st with
    | [c, k, 0], .inl v :: .inr (.inr X) :: st => (match koL T X with
      | some (a, q) => cond (Nat.beq q.1 0 && Nat.beq q.2.1 c) (some (.inr r, ls, st, T, (1, a + 1, k, v) :: w)) none
      | none => none)
    | [c, k, 1], .inr (.inr Y) :: .inr (.inr X) :: st => (match koL T X with
      | some (a, q) => cond (Nat.beq q.1 0 && Nat.beq q.2.1 c) (some (.inr r, ls, st, T.set a (0, c, q.2.2.set k Y), w)) none
      | none => none)
    | _, _ => none)
  | .arraylength => (match o, st with
    | [0, t], .inr (.inr X) :: st => (match koL T X with
      | some (_, q) => cond (Nat.beq q.1 t) (some (.inr r, ls, am_i q.2.1 :: st, T, w)) none
      | none => none)
    | [1], .inr (.inr (.inr j)) :: st => cond (Nat.ble am_ns j && Nat.blt j am_nc) (some (.inr r, ls, am_i (am_cl j) :: st, T, w)) none
    | _, _ => none)
  | .iaload => (match st with
    | .inl x :: .inr (.inr X) :: st => (match koL T X with
      | some (a, q) => (match koR w (a + 1) x.toNat with
        | some v => cond (Nat.beq q.1 1 && decide (0 ≤ x) && decide (x < (q.2.1 : Int))) (some (.inr r, ls, am_i v :: st, T, w)) none
        | none => none)
      | none => none)
    | _ => none)
  | .caload => (match st with
    | .inl x :: .inr (.inr (.inr j)) :: st => cond (Nat.ble am_ns j && Nat.blt j am_nc && decide (0 ≤ x) && decide (x < (am_cl j : Int))) (some (.inr r, ls, am_i (am_cc j x.toNat) :: st, T, w)) none
    | _ => none)
  | .aaload => (match st with
    | .inl x :: .inr (.inr X) :: st => (match koL T X with
      | some (_, q) => cond (Nat.beq q.1 (o.getD 0 0) && decide (0 ≤ x) && decide (x < (q.2.1 : Int))) (some (.inr r, ls, am_r (q.2.2.getD x.toNat am_n) :: st, T, w)) none
      | none => none)
    | _ => none)
  | .iastore => (match st with
    | .inl v :: .inl x :: .inr (.inr X) :: st => (match koL T X with
      | some (a, q) => cond (Nat.beq q.1 1 && decide (0 ≤ x) && decide (x < (q.2.1 : Int))) (some (.inr r, ls, st, T, (1, a + 1, x.toNat, v) :: w)) none
      | none => none)
    | _ => none)
  | .bastore => (match o, st with
    | [2], .inl v :: .inl x :: .inr (.inr X) :: st => (match koL T X with
      | some (a, q) => cond (Nat.beq q.1 2 && decide (0 ≤ x) && decide (x < (q.2.1 : Int))) (some (.inr r, ls, st, T, (1, a + 1, x.toNat, am_s8 v) :: w)) none
      | none => none)
    | [4], .inl v :: .inl x :: .inr (.inr X) :: st => (match koL T X with
      | some (a, q) => cond ((decide (v = 0) || decide (v = 1)) && Nat.beq q.1 4 && decide (0 ≤ x) && decide (x < (q.2.1 : Int))) (some (.inr r, ls, st, T, (1, a + 1, x.toNat, v) :: w)) none
      | none => none)
    | _, _ => none)
  | .aastore => (match o, st with
    | [10], .inr (.inr (.inr j)) :: .inl x :: .inr (.inr X) :: st => (match koL T X with
      | some (a, q) => cond (Nat.beq q.1 10 && decide (0 ≤ x) && decide (x < (q.2.1 : Int)) && Nat.blt j am_ns) (some (.inr r, ls, st, T.set a (10, q.2.1, q.2.2.set x.toNat (am_k j)), w)) none
      | none => none)
    | [11], .inr (.inr Y) :: .inl x :: .inr (.inr X) :: st => (match koL T X, koL T Y with
      | some (a, q), some (_, q') => cond (Nat.beq q.1 11 && decide (0 ≤ x) && decide (x < (q.2.1 : Int)) && Nat.beq q'.1 10) (some (.inr r, ls, st, T.set a (11, q.2.1, q.2.2.set x.toNat Y), w)) none
      | _, _ => none)
    | [12], .inr (.inr Y) :: .inl x :: .inr (.inr X) :: st => (match koL T X, koL T Y with
      | some (a, q), some (_, q') => cond (Nat.beq q.1 12 && decide (0 ≤ x) && decide (x < (q.2.1 : Int)) && Nat.beq q'.1 0 && Nat.beq q'.2.1 3) (some (.inr r, ls, st, T.set a (12, q.2.1, q.2.2.set x.toNat Y), w)) none
      | _, _ => none)
    | _, _ => none)
  | .new _ => cond (Nat.blt (T.length + 1) am_max) (some (.inr r, ls, am_r (am_a (T.length + 1)) :: st, T ++ [(0, o.getD 0 0, List.replicate (am_nf (o.getD 0 0)) am_n)], (0, T.length + 1, 0, 0) :: w)) none
  | .newarray _ => (match st with
    | .inl n :: st => cond (decide (0 ≤ n) && decide (n ≤ 100000) && Nat.blt (T.length + 1) am_max) (some (.inr r, ls, am_r (am_a (T.length + 1)) :: st, T ++ [(o.getD 0 0, n.toNat, [])], (0, T.length + 1, 0, 0) :: w)) none
    | _ => none)
  | .anewarray _ => (match st with
    | .inl n :: st => cond (decide (0 ≤ n) && decide (n ≤ 100000) && Nat.blt (T.length + 1) am_max) (some (.inr r, ls, am_r (am_a (T.length + 1)) :: st, T ++ [(o.getD 0 0, n.toNat, List.replicate n.toNat am_n)], (0, T.length + 1, 0, 0) :: w)) none
    | _ => none)
  | .multianewarray _ _ => (match st with
    | .inl y :: .inl x :: st => cond (decide (0 ≤ x) && decide (x ≤ 1000) && decide (0 ≤ y) && decide (y ≤ 1000) && Nat.blt (T.length + 1 + x.toNat) am_max) (some (.inr r, ls, am_r (am_a (T.length + 1)) :: st, T ++ (o.getD 0 0, x.toNat, (List.range x.toNat).map fun k => am_a (T.length + 1 + 1 + k)) :: List.replicate x.toNat (o.getD 1 0, y.toNat, []), (2, T.length + 1, x.toNat, 0) :: w)) none
    | _ => none)
  | _ => none
section
variable {Γ : am_G} {F : am_F} {i : Instr} {o : List Nat} {r : List am_A} {ls ls' : List (Option am_V)} {st st' : List am_V} {T T' : List am_C} {w w' : List koO} {p' : Nat ⊕ List am_A} {L : Nat} {h : am_H}
theorem koL_i {X : am_R} {a : Nat} {q : am_C} (e : koL T X = some (a, q)) : X = am_a (a + 1) ∧ (koZ L T)[a + 1]? = some q ∧ T[a]? = some q := by
  unfold koL at e
  split at e
  · split at e
    · rename_i b q' hq
      injection e with e
      injection e with e1 e2
      subst e1 e2
      exact ⟨rfl, hq, hq⟩
    · cases e
  · cases e
theorem ko_cd {c : Bool} {α : Type} {x y : α} (e : cond c (some x) none = some y) : c = true ∧ x = y := by
  cases c
  · cases e
  · exact ⟨rfl, Option.some.inj e⟩
theorem ko_inj {p p' : Nat ⊕ List am_A} {ls ls' : List (Option am_V)} {st st' : List am_V} {T T' : List am_C} {w w' : List koO} (e : (some (p, ls, st, T, w) : Option koC) = some (p', ls', st', T', w')) : p = p' ∧ ls = ls' ∧ st = st' ∧ T = T' ∧ w = w' := by
  injection e with e
  injection e with e1 e
  injection e with e2 e
  injection e with e3 e
  injection e with e4 e5
  exact ⟨e1, e2, e3, e4, e5⟩
/-- an object's cell, an array's cell -/
theorem ko_obj {X : am_R} {a c : Nat} {q : am_C} {k : Nat → List am_R → Option am_O} {g : am_H} (e : koL T X = some (a, q)) (hq : (Nat.beq q.1 0 && Nat.beq q.2.1 c) = true) : am_obj (koZ L T, g) X c k = k (a + 1) q.2.2 := by
  obtain ⟨e1, e2, -⟩ := koL_i (L := L) e
  subst e1
  show am_ob (koZ L T)[a + 1]? _ = _
  rw [e2]
  show cond (Nat.beq q.1 0 && Nat.beq q.2.1 c) _ none = _
  rw [hq]; rfl
theorem ko_arr {X : am_R} {a t : Nat} {q : am_C} {k : Nat → Nat → List am_R → Option am_O} {g : am_H} (e : koL T X = some (a, q)) (hq : Nat.beq q.1 t = true) : am_arr (koZ L T, g) X t k = k (a + 1) q.2.1 q.2.2 := by
  obtain ⟨e1, e2, -⟩ := koL_i (L := L) e
  subst e1
  show am_ob (koZ L T)[a + 1]? _ = _
  rw [e2]
  show cond (Nat.beq q.1 t) _ none = _
  rw [hq]; rfl
theorem ko_idx {x : Int} {n : Nat} {k : Nat → Option am_O} (h1 : 0 ≤ x) (h2 : x < (n : Int)) : am_idx x n k = k x.toNat := by
  unfold am_idx
  rw [if_pos ⟨h1, h2⟩]
theorem koI_ok (e : koI i o r ls st T w = some (p', ls', st', T', w')) : am_ins Γ F i o r ls st (koZ L T, koH w h) = F p' ls' st' (koZ L T', koH w' h) := by
  cases i
  case nop => obtain ⟨rfl, rfl, rfl, rfl, rfl⟩ := ko_inj e; rfl
  case goto => obtain ⟨rfl, rfl, rfl, rfl, rfl⟩ := ko_inj e; rfl
  case getstatic => obtain ⟨rfl, rfl, rfl, rfl, rfl⟩ := ko_inj e; rfl
  case iconst n =>
    obtain ⟨c, e⟩ := ko_cd e
    obtain ⟨rfl, rfl, rfl, rfl, rfl⟩ := ko_inj (congrArg some e)
    show cond _ _ none = _
    rw [c]; rfl
  case bipush n =>
    obtain ⟨c, e⟩ := ko_cd e
    obtain ⟨rfl, rfl, rfl, rfl, rfl⟩ := ko_inj (congrArg some e)
    show cond _ _ none = _
    rw [c]; rfl
  case sipush n =>
    obtain ⟨c, e⟩ := ko_cd e
    obtain ⟨rfl, rfl, rfl, rfl, rfl⟩ := ko_inj (congrArg some e)
    show cond _ _ none = _
    rw [c]; rfl
  case ldc =>
    unfold koI at e; dsimp only at e; split at e
    · obtain ⟨rfl, rfl, rfl, rfl, rfl⟩ := ko_inj e; rfl
    · obtain ⟨rfl, rfl, rfl, rfl, rfl⟩ := ko_inj e; rfl
    · cases e
  case ldc_w =>
    unfold koI at e; dsimp only at e; split at e
    · obtain ⟨rfl, rfl, rfl, rfl, rfl⟩ := ko_inj e; rfl
    · obtain ⟨rfl, rfl, rfl, rfl, rfl⟩ := ko_inj e; rfl
    · cases e
  case iload n =>
    unfold koI at e; dsimp only at e; split at e
    · rename_i x hx
      obtain ⟨rfl, rfl, rfl, rfl, rfl⟩ := ko_inj e
      show am_ldi ls n _ = _
      unfold am_ldi; rw [hx]
    · cases e
  case iload_n n =>
    unfold koI at e; dsimp only at e; split at e
    · rename_i x hx
      obtain ⟨rfl, rfl, rfl, rfl, rfl⟩ := ko_inj e
      show am_ldi ls n _ = _
      unfold am_ldi; rw [hx]
    · cases e
  case aload n =>
    unfold koI at e; dsimp only at e; split at e
    · rename_i x hx
      obtain ⟨rfl, rfl, rfl, rfl, rfl⟩ := ko_inj e
      show am_ldr ls n _ = _
      unfold am_ldr; rw [hx]
    · cases e
  case aload_n n =>
    unfold koI at e; dsimp only at e; split at e
    · rename_i x hx
      obtain ⟨rfl, rfl, rfl, rfl, rfl⟩ := ko_inj e
      show am_ldr ls n _ = _
      unfold am_ldr; rw [hx]
    · cases e
  case istore n =>
    unfold koI at e; dsimp only at e; split at e
    · rename_i x st
      obtain ⟨c, e⟩ := ko_cd e
      obtain ⟨rfl, rfl, rfl, rfl, rfl⟩ := ko_inj (congrArg some e)
      show cond _ _ none = _
      rw [c]; rfl
    · cases e
  case istore_n n =>
    unfold koI at e; dsimp only at e; split at e
    · rename_i x st
      obtain ⟨c, e⟩ := ko_cd e
      obtain ⟨rfl, rfl, rfl, rfl, rfl⟩ := ko_inj (congrArg some e)
      show cond _ _ none = _
      rw [c]; rfl
    · cases e
  case astore n =>
    unfold koI at e; dsimp only at e; split at e
    · rename_i x st
      obtain ⟨c, e⟩ := ko_cd e
      obtain ⟨rfl, rfl, rfl, rfl, rfl⟩ := ko_inj (congrArg some e)
      show cond _ _ none = _
      rw [c]; rfl
    · cases e
  case astore_n n =>
    unfold koI at e; dsimp only at e; split at e
    · rename_i x st
      obtain ⟨c, e⟩ := ko_cd e
      obtain ⟨rfl, rfl, rfl, rfl, rfl⟩ := ko_inj (congrArg some e)
      show cond _ _ none = _
      rw [c]; rfl
    · cases e
  case iinc n d =>
    unfold koI at e; dsimp only at e; split at e
    · rename_i x hx
      obtain ⟨c, e⟩ := ko_cd e
      obtain ⟨rfl, rfl, rfl, rfl, rfl⟩ := ko_inj (congrArg some e)
      show am_ldi ls n _ = _
      unfold am_ldi; rw [hx]
      show cond _ _ none = _
      rw [c]; rfl
    · cases e
  case dup =>
    unfold koI at e; dsimp only at e; split at e
    · obtain ⟨rfl, rfl, rfl, rfl, rfl⟩ := ko_inj e; rfl
    · obtain ⟨rfl, rfl, rfl, rfl, rfl⟩ := ko_inj e; rfl
    · cases e
  case pop =>
    unfold koI at e; dsimp only at e; split at e
    · obtain ⟨rfl, rfl, rfl, rfl, rfl⟩ := ko_inj e; rfl
    · obtain ⟨rfl, rfl, rfl, rfl, rfl⟩ := ko_inj e; rfl
    · cases e
  case iadd =>
    unfold koI at e; dsimp only at e; split at e
    · obtain ⟨rfl, rfl, rfl, rfl, rfl⟩ := ko_inj e; rfl
    · cases e
  case isub =>
    unfold koI at e; dsimp only at e; split at e
    · obtain ⟨rfl, rfl, rfl, rfl, rfl⟩ := ko_inj e; rfl
    · cases e
  case imul =>
    unfold koI at e; dsimp only at e; split at e
    · obtain ⟨rfl, rfl, rfl, rfl, rfl⟩ := ko_inj e; rfl
    · cases e
  case if_icmp c n =>
    unfold koI at e; dsimp only at e; split at e
    · rename_i y x st
      show am_cmp c x y (F (.inl (o.getD 0 0)) ls st (koZ L T, koH w h)) (F (.inr r) ls st (koZ L T, koH w h)) = _
      unfold am_cmp
      cases c
      all_goals
        dsimp only at e ⊢
        split at e
        · rename_i z; rw [if_pos z]; obtain ⟨rfl, rfl, rfl, rfl, rfl⟩ := ko_inj e; rfl
        · rename_i z; rw [if_neg z]; obtain ⟨rfl, rfl, rfl, rfl, rfl⟩ := ko_inj e; rfl
    · cases e
  case getfield n =>
    unfold koI at e; dsimp only at e; split at e
    · rename_i c k X st
      split at e
      · rename_i a q hq
        obtain ⟨z, e⟩ := ko_cd e
        obtain ⟨rfl, rfl, rfl, rfl, rfl⟩ := ko_inj (congrArg some e)
        show am_obj (koZ L T, koH w h) X c (fun _ rs => F (.inr r) ls (am_r (rs.getD k am_n) :: st) (koZ L T, koH w h)) = _
        rw [ko_obj hq z]
      · cases e
    · rename_i c k X st
      split at e
      · rename_i a q hq
        split at e
        · rename_i v hv
          obtain ⟨z, e⟩ := ko_cd e
          obtain ⟨rfl, rfl, rfl, rfl, rfl⟩ := ko_inj (congrArg some e)
          show am_obj (koZ L T, koH w h) X c (fun a _ => F (.inr r) ls (am_i (koH w h a k) :: st) (koZ L T, koH w h)) = _
          rw [ko_obj hq z]
          rw [koR_h hv]
        · cases e
      · cases e
    · cases e
  case putfield n =>
    unfold koI at e; dsimp only at e; split at e
    · rename_i c k v X st
      split at e
      · rename_i a q hq
        obtain ⟨z, e⟩ := ko_cd e
        obtain ⟨rfl, rfl, rfl, rfl, rfl⟩ := ko_inj (congrArg some e)
        show am_obj (koZ L T, koH w h) X c (fun a _ => F (.inr r) ls st (koZ L T, am_up (koH w h) a k v)) = _
        rw [ko_obj hq z]
        rfl
      · cases e
    · rename_i c k Y X st
      split at e
      · rename_i a q hq
        obtain ⟨z, e⟩ := ko_cd e
        obtain ⟨rfl, rfl, rfl, rfl, rfl⟩ := ko_inj (congrArg some e)
        show am_obj (koZ L T, koH w h) X c (fun a rs => F (.inr r) ls st ((koZ L T).set a (0, c, rs.set k Y), koH w h)) = _
        rw [ko_obj hq z]
        rfl
      · cases e
    · cases e
  case arraylength =>
    unfold koI at e; dsimp only at e; split at e
    · rename_i t X st
      split at e
      · rename_i a q hq
        obtain ⟨z, e⟩ := ko_cd e
        obtain ⟨rfl, rfl, rfl, rfl, rfl⟩ := ko_inj (congrArg some e)
        show am_arr (koZ L T, koH w h) X t (fun _ n _ => F (.inr r) ls (am_i n :: st) (koZ L T, koH w h)) = _
        rw [ko_arr hq z]
      · cases e
    · rename_i j st
      obtain ⟨z, e⟩ := ko_cd e
      obtain ⟨rfl, rfl, rfl, rfl, rfl⟩ := ko_inj (congrArg some e)
      show cond _ _ none = _
      rw [z]; rfl
    · cases e
  case iaload =>
    unfold koI at e; dsimp only at e; split at e
    · rename_i x X st
      split at e
      · rename_i a q hq
        split at e
        · rename_i v hv
          obtain ⟨z, e⟩ := ko_cd e
          obtain ⟨rfl, rfl, rfl, rfl, rfl⟩ := ko_inj (congrArg some e)
          simp only [Bool.and_eq_true, decide_eq_true_eq] at z
          show am_arr (koZ L T, koH w h) X 1 (fun a n _ => am_idx x n fun k => F (.inr r) ls (am_i (koH w h a k) :: st) (koZ L T, koH w h)) = _
          rw [ko_arr hq z.1.1, ko_idx z.1.2 z.2]
          rw [koR_h hv]
        · cases e
      · cases e
    · cases e
  case ifCond c n =>
    unfold koI at e; dsimp only at e; split at e
    · rename_i x st
      show am_cmp c x 0 (F (.inl (o.getD 0 0)) ls st (koZ L T, koH w h)) (F (.inr r) ls st (koZ L T, koH w h)) = _
      unfold am_cmp
      cases c
      all_goals
        dsimp only at e ⊢
        split at e
        · rename_i z; rw [if_pos z]; obtain ⟨rfl, rfl, rfl, rfl, rfl⟩ := ko_inj e; rfl
        · rename_i z; rw [if_neg z]; obtain ⟨rfl, rfl, rfl, rfl, rfl⟩ := ko_inj e; rfl
    · cases e
  case i2s =>
    unfold koI at e; dsimp only at e; split at e
    · obtain ⟨rfl, rfl, rfl, rfl, rfl⟩ := ko_inj e; rfl
    · cases e
  case ior =>
    unfold koI at e; dsimp only at e; split at e
    · obtain ⟨rfl, rfl, rfl, rfl, rfl⟩ := ko_inj e; rfl
    · cases e
  case ishl =>
    unfold koI at e; dsimp only at e; split at e
    · obtain ⟨rfl, rfl, rfl, rfl, rfl⟩ := ko_inj e; rfl
    · cases e
  case sastore =>
    unfold koI at e; dsimp only at e; split at e
    · rename_i v x X st
      split at e
      · rename_i a q hq
        obtain ⟨z, e⟩ := ko_cd e
        obtain ⟨rfl, rfl, rfl, rfl, rfl⟩ := ko_inj (congrArg some e)
        simp only [Bool.and_eq_true, decide_eq_true_eq] at z
        show am_arr (koZ L T, koH w h) X 3 (fun a n _ => am_idx x n fun k => cond (Nat.beq a 0) none (F (.inr r) ls st (koZ L T, am_up (koH w h) a k (am_s16 v)))) = _
        rw [ko_arr hq z.1.1, ko_idx z.1.2 z.2]
        rfl
      · cases e
    · cases e
  case i2b =>
    unfold koI at e; dsimp only at e; split at e
    · obtain ⟨rfl, rfl, rfl, rfl, rfl⟩ := ko_inj e; rfl
    · cases e
  case baload =>
    unfold koI at e; dsimp only at e; split at e
    · rename_i x X st
      split at e
      · rename_i a q hq
        split at e
        · rename_i v hv
          obtain ⟨z, e⟩ := ko_cd e
          obtain ⟨rfl, rfl, rfl, rfl, rfl⟩ := ko_inj (congrArg some e)
          simp only [Bool.and_eq_true, decide_eq_true_eq] at z
          show am_arr (koZ L T, koH w h) X (o.getD 0 0) (fun a n _ => am_idx x n fun k => F (.inr r) ls (am_i (koH w h a k) :: st) (koZ L T, koH w h)) = _
          rw [ko_arr hq z.1.1, ko_idx z.1.2 z.2]
          rw [koR_h hv]
        · cases e
      · cases e
    · cases e
  case caload =>
    unfold koI at e; dsimp only at e; split at e
    · rename_i x j st
      obtain ⟨z, e⟩ := ko_cd e
      obtain ⟨rfl, rfl, rfl, rfl, rfl⟩ := ko_inj (congrArg some e)
      rw [Bool.and_eq_true, Bool.and_eq_true, decide_eq_true_eq, decide_eq_true_eq] at z
      show cond _ _ none = _
      rw [z.1.1, cond_true, ko_idx z.1.2 z.2]
    · cases e
  case aaload =>
    unfold koI at e; dsimp only at e; split at e
    · rename_i x X st
      split at e
      · rename_i a q hq
        obtain ⟨z, e⟩ := ko_cd e
        obtain ⟨rfl, rfl, rfl, rfl, rfl⟩ := ko_inj (congrArg some e)
        simp only [Bool.and_eq_true, decide_eq_true_eq] at z
        show am_arr (koZ L T, koH w h) X (o.getD 0 0) (fun _ n rs => am_idx x n fun k => F (.inr r) ls (am_r (rs.getD k am_n) :: st) (koZ L T, koH w h)) = _
        rw [ko_arr hq z.1.1, ko_idx z.1.2 z.2]
      · cases e
    · cases e
  case iastore =>
    unfold koI at e; dsimp only at e; split at e
    · rename_i v x X st
      split at e
      · rename_i a q hq
        obtain ⟨z, e⟩ := ko_cd e
        obtain ⟨rfl, rfl, rfl, rfl, rfl⟩ := ko_inj (congrArg some e)
        simp only [Bool.and_eq_true, decide_eq_true_eq] at z
        show am_arr (koZ L T, koH w h) X 1 (fun a n _ => am_idx x n fun k => cond (Nat.beq a 0) none (F (.inr r) ls st (koZ L T, am_up (koH w h) a k (id v)))) = _
        rw [ko_arr hq z.1.1, ko_idx z.1.2 z.2]
        rfl
      · cases e
    · cases e
  case bastore =>
    unfold koI at e; dsimp only at e; split at e
    · rename_i v x X st
      split at e
      · rename_i a q hq
        obtain ⟨z, e⟩ := ko_cd e
        obtain ⟨rfl, rfl, rfl, rfl, rfl⟩ := ko_inj (congrArg some e)
        simp only [Bool.and_eq_true, decide_eq_true_eq] at z
        show am_arr (koZ L T, koH w h) X 2 (fun a n _ => am_idx x n fun k => cond (Nat.beq a 0) none (F (.inr r) ls st (koZ L T, am_up (koH w h) a k (am_s8 v)))) = _
        rw [ko_arr hq z.1.1, ko_idx z.1.2 z.2]
        rfl
      · cases e
    · rename_i v x X st
      split at e
      · rename_i a q hq
        obtain ⟨z, e⟩ := ko_cd e
        obtain ⟨rfl, rfl, rfl, rfl, rfl⟩ := ko_inj (congrArg some e)
        simp only [Bool.and_eq_true, Bool.or_eq_true, decide_eq_true_eq] at z
        show am_bit v (am_arr (koZ L T, koH w h) X 4 (fun a n _ => am_idx x n fun k => cond (Nat.beq a 0) none (F (.inr r) ls st (koZ L T, am_up (koH w h) a k (id v))))) = _
        unfold am_bit
        rw [if_pos z.1.1.1, ko_arr hq z.1.1.2, ko_idx z.1.2 z.2]
        rfl
      · cases e
    · cases e
  case aastore =>
    unfold koI at e; dsimp only at e; split at e
    · rename_i j x X st
      split at e
      · rename_i a q hq
        obtain ⟨z, e⟩ := ko_cd e
        obtain ⟨rfl, rfl, rfl, rfl, rfl⟩ := ko_inj (congrArg some e)
        simp only [Bool.and_eq_true, decide_eq_true_eq] at z
        show am_arr (koZ L T, koH w h) X 10 (fun a n rs => am_idx x n fun k => am_fit (koZ L T, koH w h) 10 (am_k j) (F (.inr r) ls st ((koZ L T).set a (10, n, rs.set k (am_k j)), koH w h))) = _
        rw [ko_arr hq z.1.1.1, ko_idx z.1.1.2 z.1.2]
        show cond (Nat.blt j am_ns) _ none = _
        rw [z.2]; rfl
      · cases e
    · rename_i Y x X st
      split at e
      · rename_i a q a' q' hq hq'
        obtain ⟨z, e⟩ := ko_cd e
        obtain ⟨rfl, rfl, rfl, rfl, rfl⟩ := ko_inj (congrArg some e)
        simp only [Bool.and_eq_true, decide_eq_true_eq] at z
        show am_arr (koZ L T, koH w h) X 11 (fun a n rs => am_idx x n fun k => am_fit (koZ L T, koH w h) 11 Y (F (.inr r) ls st ((koZ L T).set a (11, n, rs.set k Y), koH w h))) = _
        rw [ko_arr hq z.1.1.1, ko_idx z.1.1.2 z.1.2]
        show am_arr (koZ L T, koH w h) Y 10 (fun _ _ _ => F (.inr r) ls st ((koZ L T).set (a + 1) (11, q.2.1, q.2.2.set x.toNat Y), koH w h)) = _
        rw [ko_arr hq' z.2]; rfl
      · cases e
    · rename_i Y x X st
      split at e
      · rename_i a q a' q' hq hq'
        obtain ⟨z, e⟩ := ko_cd e
        obtain ⟨rfl, rfl, rfl, rfl, rfl⟩ := ko_inj (congrArg some e)
        simp only [Bool.and_eq_true, decide_eq_true_eq] at z
        show am_arr (koZ L T, koH w h) X 12 (fun a n rs => am_idx x n fun k => am_fit (koZ L T, koH w h) 12 Y (F (.inr r) ls st ((koZ L T).set a (12, n, rs.set k Y), koH w h))) = _
        rw [ko_arr hq z.1.1.1.1, ko_idx z.1.1.1.2 z.1.1.2]
        show am_obj (koZ L T, koH w h) Y 3 (fun _ _ => F (.inr r) ls st ((koZ L T).set (a + 1) (12, q.2.1, q.2.2.set x.toNat Y), koH w h)) = _
        rw [ko_obj hq' (by rw [z.1.2, z.2]; rfl)]; rfl
      · cases e
    · cases e
  case new n =>
    unfold koI at e; dsimp only at e
    obtain ⟨z, e⟩ := ko_cd e
    obtain ⟨rfl, rfl, rfl, rfl, rfl⟩ := ko_inj (congrArg some e)
    show cond (Nat.blt (koZ L T).length am_max) _ none = _
    rw [show (koZ L T).length = T.length + 1 from rfl, z]; rfl
  case newarray n =>
    unfold koI at e; dsimp only at e; split at e
    · rename_i n st
      obtain ⟨z, e⟩ := ko_cd e
      obtain ⟨rfl, rfl, rfl, rfl, rfl⟩ := ko_inj (congrArg some e)
      rw [Bool.and_eq_true] at z
      show cond _ (cond (Nat.blt (koZ L T).length am_max) _ none) none = _
      rw [z.1, cond_true, show (koZ L T).length = T.length + 1 from rfl, z.2]; rfl
    · cases e
  case anewarray n =>
    unfold koI at e; dsimp only at e; split at e
    · rename_i n st
      obtain ⟨z, e⟩ := ko_cd e
      obtain ⟨rfl, rfl, rfl, rfl, rfl⟩ := ko_inj (congrArg some e)
      rw [Bool.and_eq_true] at z
      show cond _ (cond (Nat.blt (koZ L T).length am_max) _ none) none = _
      rw [z.1, cond_true, show (koZ L T).length = T.length + 1 from rfl, z.2]; rfl
    · cases e
  case multianewarray n m =>
    unfold koI at e; dsimp only at e; split at e
    · rename_i y x st
      obtain ⟨z, e⟩ := ko_cd e
      obtain ⟨rfl, rfl, rfl, rfl, rfl⟩ := ko_inj (congrArg some e)
      rw [Bool.and_eq_true] at z
      show cond _ (cond (Nat.blt ((koZ L T).length + x.toNat) am_max) _ none) none = _
      rw [z.1, cond_true, show (koZ L T).length = T.length + 1 from rfl, z.2]; rfl
    · cases e
  all_goals cases e
end
