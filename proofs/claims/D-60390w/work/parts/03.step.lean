/-! THE ABSTRACT MACHINE: one instruction. Operands: a jump [block]; getfield, putfield [class, field, kind] (kind 0 int, 1 reference, 2 reference kept as a number, 3 boolean); arrays [type];
calls [kind, class, method, arguments with the receiver, answer (0 none, 1 int, 2 long, 3 reference), handler's block + 1, 1 if no shape may change]; stores [] in a method without longs -/
def am_ise : Nat := 20
def am_call (Γ : am_G) (σ : am_S) (c i rty x : Nat) (as : List am_V) (f : Nat → am_S → Option am_O) (g : Nat → am_H → Option am_O) (k : List am_V → am_S → Option am_O) : Option am_O := match x with
  | 0 => (match rty with
    | 0 => am_cV (Γ c i as σ) f (fun σ' => k [] σ')
    | 1 => am_cI (Γ c i as σ) f (fun n σ' => k [am_i n] σ')
    | 2 => am_cL (Γ c i as σ) f (fun n σ' => k [am_l n] σ')
    | _ => am_cR (Γ c i as σ) f (fun X σ' => k [am_r X] σ'))
  | _ => (match rty with
    | 0 => am_xV σ.1 (Γ c i as σ) g (fun h => k [] (σ.1, h))
    | 1 => am_xI σ.1 (Γ c i as σ) g (fun n h => k [am_i n] (σ.1, h))
    | 2 => am_xL σ.1 (Γ c i as σ) g (fun n h => k [am_l n] (σ.1, h))
    | _ => am_xR σ.1 (Γ c i as σ) g (fun X h => k [am_r X] (σ.1, h)))
def am_hnd (F : am_F) (ls : List (Option am_V)) (h : Nat) : Nat → am_S → Option am_O := match h with
  | 0 => am_up0
  | h + 1 => fun a σ => am_obj σ (am_a a) am_ise fun _ _ => F (.inl h) ls [am_r (am_a a)] σ
def am_hnx (F : am_F) (S : List am_C) (ls : List (Option am_V)) (h : Nat) : Nat → am_H → Option am_O := match h with
  | 0 => am_up1 S
  | h + 1 => fun a g => am_obj (S, g) (am_a a) am_ise fun _ _ => F (.inl h) ls [am_r (am_a a)] (S, g)
def am_recv (σ : am_S) (c : Nat) (as : List am_V) (k : Option am_O) : Option am_O := match as with
  | .inr (.inr X) :: _ => am_obj σ X c fun _ _ => k
  | _ => none
def am_rcv2 (as : List am_V) (k : Option am_O) : Option am_O := match as with
  | .inr (.inr X) :: _ => am_hp X fun _ => k
  | _ => none
def am_inv (Γ : am_G) (F : am_F) (o : List Nat) (r : List am_A) (ls : List (Option am_V)) (st : List am_V) (σ : am_S) : Option am_O := match o with
  | [kind, c, i, n, rty, h, x] =>
    cond (Nat.ble n st.length && Nat.ble (am_wt (st.drop n)) 8)
      (match kind with
      | 0 => am_call Γ σ c i rty x (st.take n).reverse (am_hnd F ls h) (am_hnx F σ.1 ls h) fun vs σ' => F (.inr r) ls (vs ++ st.drop n) σ'
      | 1 => am_recv σ c (st.take n).reverse (am_call Γ σ c i rty x (st.take n).reverse (am_hnd F ls h) (am_hnx F σ.1 ls h) fun vs σ' => F (.inr r) ls (vs ++ st.drop n) σ')
      | 2 => am_rcv2 (st.take n).reverse (am_call Γ σ c i rty x (st.take n).reverse (am_hnd F ls h) (am_hnx F σ.1 ls h) fun vs σ' => F (.inr r) ls (vs ++ st.drop n) σ')
      | 3 => am_pr st fun X st => am_hp X fun _ => F (.inr r) ls st σ
      | 4 => am_p2 st fun x y st => F (.inr r) ls (am_i (if x ≤ y then x else y) :: st) σ
      | 5 => am_p2 st fun x y st => F (.inr r) ls (am_i (if y ≤ x then x else y) :: st) σ
      | 6 => am_pr st fun X st => am_ct X fun j => cond (Nat.blt j am_ns) (F (.inr r) ls (am_i (am_sl j) :: st) σ) none
      | 7 => am_p1 st fun x st => am_pr st fun X st => am_ct X fun j => cond (Nat.blt j am_ns) (am_idx x (am_sl j) (fun k => F (.inr r) ls (am_i (am_sc j k) :: st) σ)) none
      | _ => am_rr st fun X Y st => am_obj σ X am_ise fun _ _ => am_ct Y fun j => cond (Nat.blt j am_ns) (F (.inr r) ls st σ) none)
      none
  | _ => none
def am_getf (F : am_F) (o : List Nat) (r : List am_A) (ls : List (Option am_V)) (st : List am_V) (σ : am_S) : Option am_O := match o with
  | [c, k, 1] => am_pr st fun X st => am_obj σ X c fun _ rs => F (.inr r) ls (am_r (rs.getD k am_n) :: st) σ
  | [c, k, 2] => am_pr st fun X st => am_obj σ X c fun a _ => F (.inr r) ls (am_r (am_dec (σ.2 a k)) :: st) σ
  | [c, k, _] => am_pr st fun X st => am_obj σ X c fun a _ => F (.inr r) ls (am_i (σ.2 a k) :: st) σ
  | _ => none
def am_putf (F : am_F) (o : List Nat) (r : List am_A) (ls : List (Option am_V)) (st : List am_V) (σ : am_S) : Option am_O := match o with
  | [c, k, 0] => am_p1 st fun v st => am_pr st fun X st => am_obj σ X c fun a _ => F (.inr r) ls st (σ.1, am_up σ.2 a k v)
  | [c, k, 1] => am_rr st fun X Y st => am_obj σ X c fun a rs => F (.inr r) ls st (σ.1.set a (0, c, rs.set k Y), σ.2)
  | [c, k, 2] => am_rr st fun X Y st => am_obj σ X c fun a _ => am_ob (am_enc Y) fun v => F (.inr r) ls st (σ.1, am_up σ.2 a k v)
  | [c, k, _] => am_p1 st fun v st => am_pr st fun X st => am_obj σ X c fun a _ => am_bit v (F (.inr r) ls st (σ.1, am_up σ.2 a k v))
  | _ => none
/-- an element of an array of numbers; t 5: a static array of chars -/
def am_ald (F : am_F) (t : Nat) (r : List am_A) (ls : List (Option am_V)) (st : List am_V) (σ : am_S) : Option am_O :=
  am_p1 st fun x st => am_pr st fun X st => am_arr σ X t fun a n _ => am_idx x n fun k => F (.inr r) ls (am_i (σ.2 a k) :: st) σ
def am_ast (F : am_F) (t : Nat) (w : Int → Int) (r : List am_A) (ls : List (Option am_V)) (st : List am_V) (σ : am_S) : Option am_O :=
  am_p1 st fun v st => am_p1 st fun x st => am_pr st fun X st => am_arr σ X t fun a n _ => am_idx x n fun k => cond (Nat.beq a 0) none (F (.inr r) ls st (σ.1, am_up σ.2 a k (w v)))
def am_max : Nat := 5000
def am_new (σ : am_S) (q : am_C) (k : am_S → Option am_O) : Option am_O :=
  cond (Nat.blt σ.1.length am_max) (k (σ.1 ++ [q], am_zr σ.2 σ.1.length)) none
def am_cmp (c : Jvm.ClassFile.Cond) (x y : Int) (a b : Option am_O) : Option am_O := match c with
  | .eq => if x = y then a else b
  | .ne => if x = y then b else a
  | .lt => if x < y then a else b
  | .ge => if x < y then b else a
  | .gt => if y < x then a else b
  | .le => if y < x then b else a
def am_acmp (c : ACond) (X Y : am_R) (a b : Option am_O) : Option am_O := match X, Y with
  | .inl x, .inl y => (match c with
    | .eq => if x = y then a else b
    | .ne => if x = y then b else a)
  | _, _ => none
def am_nul (X : am_R) (a b : Option am_O) : Option am_O := match X with
  | .inl none => a
  | _ => b
def am_many (σ : am_S) (q : am_C) (c : am_C) (d : Nat) (k : am_S → Option am_O) : Option am_O :=
  cond (Nat.blt (σ.1.length + d) am_max) (k (σ.1 ++ q :: List.replicate d c, fun b => if σ.1.length ≤ b ∧ b ≤ σ.1.length + d then (fun _ => 0) else σ.2 b)) none
def am_ins (Γ : am_G) (F : am_F) (i : Instr) (o : List Nat) (r : List am_A) (ls : List (Option am_V)) (st : List am_V) (σ : am_S) : Option am_O := match i with
  | .nop => F (.inl (o.getD 0 0)) ls st σ
  | .iconst n => cond (decide (-128 ≤ n) && decide (n ≤ 127)) (F (.inr r) ls (am_i n :: st) σ) none
  | .bipush n => cond (decide (-128 ≤ n) && decide (n ≤ 127)) (F (.inr r) ls (am_i n :: st) σ) none
  | .sipush n => cond (decide (-32768 ≤ n) && decide (n ≤ 32767)) (F (.inr r) ls (am_i n :: st) σ) none
  | .lconst n => F (.inr r) ls (am_l (n : Nat) :: st) σ
  | .aconst_null => F (.inr r) ls (am_r am_n :: st) σ
  | .ldc _ => (match o with
    | [0, v] => F (.inr r) ls (am_i v :: st) σ
    | [_, j] => F (.inr r) ls (am_r (am_k j) :: st) σ
    | _ => none)
  | .ldc_w _ => (match o with
    | [0, v] => F (.inr r) ls (am_i v :: st) σ
    | [_, j] => F (.inr r) ls (am_r (am_k j) :: st) σ
    | _ => none)
  | .ldc2_w _ => F (.inr r) ls (am_l (o.getD 0 0) :: st) σ
  | .iload n => am_ldi ls n fun x => F (.inr r) ls (am_i x :: st) σ
  | .iload_n n => am_ldi ls n fun x => F (.inr r) ls (am_i x :: st) σ
  | .lload n => am_ldl ls n fun x => F (.inr r) ls (am_l x :: st) σ
  | .lload_n n => am_ldl ls n fun x => F (.inr r) ls (am_l x :: st) σ
  | .aload n => am_ldr ls n fun X => F (.inr r) ls (am_r X :: st) σ
  | .aload_n n => am_ldr ls n fun X => F (.inr r) ls (am_r X :: st) σ
  | .istore n => am_p1 st fun x st => cond (Nat.blt n ls.length) (F (.inr r) (am_st1 o ls n (am_i x)) st σ) none
  | .istore_n n => am_p1 st fun x st => cond (Nat.blt n ls.length) (F (.inr r) (am_st1 o ls n (am_i x)) st σ) none
  | .lstore n => am_l1 st fun x st => cond (Nat.beq (o.getD 0 0) 1 && Nat.blt (n + 1) ls.length) (F (.inr r) (am_st2 ls n (am_l x)) st σ) none
  | .lstore_n n => am_l1 st fun x st => cond (Nat.beq (o.getD 0 0) 1 && Nat.blt (n + 1) ls.length) (F (.inr r) (am_st2 ls n (am_l x)) st σ) none
  | .astore n => am_pr st fun X st => cond (Nat.blt n ls.length) (F (.inr r) (am_st1 o ls n (am_r X)) st σ) none
  | .astore_n n => am_pr st fun X st => cond (Nat.blt n ls.length) (F (.inr r) (am_st1 o ls n (am_r X)) st σ) none
  | .iinc n d => am_ldi ls n fun x => cond (decide (-32768 ≤ d) && decide (d ≤ 32767)) (F (.inr r) (ls.set n (some (am_i (am_w (x + d))))) st σ) none
  | .dup => (match st with
    | .inl x :: st => F (.inr r) ls (am_i x :: am_i x :: st) σ
    | .inr (.inr X) :: st => F (.inr r) ls (am_r X :: am_r X :: st) σ
    | _ => none)
  | .dup2 => (match st with
    | .inl x :: .inr (.inr Y) :: st => F (.inr r) ls (am_i x :: am_r Y :: am_i x :: am_r Y :: st) σ
    | _ => none)
  | .pop => (match st with
    | .inl _ :: st => F (.inr r) ls st σ
    | .inr (.inr _) :: st => F (.inr r) ls st σ
    | _ => none)
  | .iadd => am_p2 st fun x y st => F (.inr r) ls (am_i (am_w (x + y)) :: st) σ
  | .isub => am_p2 st fun x y st => F (.inr r) ls (am_i (am_w (x - y)) :: st) σ
  | .imul => am_p2 st fun x y st => F (.inr r) ls (am_i (am_w (x * y)) :: st) σ
  | .idiv => am_p2 st fun x y st => if y = 0 then none else F (.inr r) ls (am_i (am_w (x.tdiv y)) :: st) σ
  | .irem => am_p2 st fun x y st => if y = 0 then none else F (.inr r) ls (am_i (x.tmod y) :: st) σ
  | .ineg => am_p1 st fun x st => F (.inr r) ls (am_i (am_w (-x)) :: st) σ
  | .iand => am_p2 st fun x y st => F (.inr r) ls (am_i (am_and x y) :: st) σ
  | .ior => am_p2 st fun x y st => F (.inr r) ls (am_i (am_or x y) :: st) σ
  | .ixor => am_p2 st fun x y st => F (.inr r) ls (am_i (am_xor x y) :: st) σ
  | .ishl => am_p2 st fun x y st => F (.inr r) ls (am_i (am_shl x y) :: st) σ
  | .ishr => am_p2 st fun x y st => F (.inr r) ls (am_i (am_shr x y) :: st) σ
  | .ladd => am_l2 st fun x y st => F (.inr r) ls (am_l (am_W (x + y)) :: st) σ
  | .land => am_l2 st fun x y st => F (.inr r) ls (am_l (am_Land x y) :: st) σ
  | .lor => am_l2 st fun x y st => F (.inr r) ls (am_l (am_Lor x y) :: st) σ
  | .lshl => am_p1 st fun y st => am_l1 st fun x st => F (.inr r) ls (am_l (am_Lshl x y) :: st) σ
  | .lcmp => am_l2 st fun x y st => F (.inr r) ls (am_i (am_lcmp x y) :: st) σ
  | .i2l => am_p1 st fun x st => F (.inr r) ls (am_l x :: st) σ
  | .i2s => am_p1 st fun x st => F (.inr r) ls (am_i (am_s16 x) :: st) σ
  | .i2b => am_p1 st fun x st => F (.inr r) ls (am_i (am_s8 x) :: st) σ
  | .ifCond c _ => am_p1 st fun x st => am_cmp c x 0 (F (.inl (o.getD 0 0)) ls st σ) (F (.inr r) ls st σ)
  | .if_icmp c _ => am_p2 st fun x y st => am_cmp c x y (F (.inl (o.getD 0 0)) ls st σ) (F (.inr r) ls st σ)
  | .if_acmp c _ => am_rr st fun X Y st => am_acmp c X Y (F (.inl (o.getD 0 0)) ls st σ) (F (.inr r) ls st σ)
  | .ifnull _ => am_pr st fun X st => am_nul X (F (.inl (o.getD 0 0)) ls st σ) (F (.inr r) ls st σ)
  | .ifnonnull _ => am_pr st fun X st => am_nul X (F (.inr r) ls st σ) (F (.inl (o.getD 0 0)) ls st σ)
  | .goto _ => F (.inl (o.getD 0 0)) ls st σ
  | .tableswitch _ lo _ _ => am_p1 st fun x st => am_sw (fun b => F (.inl b) ls st σ) x lo (o.drop 1) (o.getD 0 0)
  | .lookupswitch _ ps => am_p1 st fun x st => am_lk (fun b => F (.inl b) ls st σ) x ps.toList (o.drop 1) (o.getD 0 0)
  | .ireturn => am_p1 st fun x st => cond st.isEmpty (cond o.isEmpty (some (.inl (some (am_i x)), σ)) (am_bit x (some (.inl (some (am_i x)), σ)))) none
  | .lreturn => am_l1 st fun x st => cond st.isEmpty (some (.inl (some (am_l x)), σ)) none
  | .areturn => am_pr st fun X st => cond st.isEmpty (some (.inl (some (am_r X)), σ)) none
  | .return_ => cond st.isEmpty (some (.inl none, σ)) none
  | .athrow => am_pr st fun X _ => am_hp X fun a => some (.inr a, σ)
  | .getfield _ => am_getf F o r ls st σ
  | .putfield _ => am_putf F o r ls st σ
  | .getstatic _ => F (.inr r) ls (am_r (am_k (o.getD 0 0)) :: st) σ
  | .invokevirtual _ => am_inv Γ F o r ls st σ
  | .invokespecial _ => am_inv Γ F o r ls st σ
  | .invokestatic _ => am_inv Γ F o r ls st σ
  | .arraylength => (match o with
    | [0, t] => am_pr st fun X st => am_arr σ X t fun _ n _ => F (.inr r) ls (am_i n :: st) σ
    | _ => am_pr st fun X st => am_ct X fun j => cond (Nat.ble am_ns j && Nat.blt j am_nc) (F (.inr r) ls (am_i (am_cl j) :: st) σ) none)
  | .iaload => am_ald F 1 r ls st σ
  | .baload => am_ald F (o.getD 0 0) r ls st σ
  | .saload => am_ald F 3 r ls st σ
  | .caload => am_p1 st fun x st => am_pr st fun X st => am_ct X fun j => cond (Nat.ble am_ns j && Nat.blt j am_nc) (am_idx x (am_cl j) (fun k => F (.inr r) ls (am_i (am_cc j k) :: st) σ)) none
  | .laload => am_p1 st fun x st => am_pr st fun X st => am_arr σ X 6 fun a n _ => am_idx x n fun k => F (.inr r) ls (am_l (σ.2 a k) :: st) σ
  | .aaload => am_p1 st fun x st => am_pr st fun X st => am_arr σ X (o.getD 0 0) fun _ n rs => am_idx x n fun k => F (.inr r) ls (am_r (rs.getD k am_n) :: st) σ
  | .iastore => am_ast F 1 id r ls st σ
  | .bastore => (match o with
    | [2] => am_ast F 2 am_s8 r ls st σ
    | _ => (match st with
      | .inl v :: _ => am_bit v (am_ast F 4 id r ls st σ)
      | _ => none))
  | .sastore => am_ast F 3 am_s16 r ls st σ
  | .lastore => am_l1 st fun v st => am_p1 st fun x st => am_pr st fun X st => am_arr σ X 6 fun a n _ => am_idx x n fun k => cond (Nat.beq a 0) none (F (.inr r) ls st (σ.1, am_up σ.2 a k v))
  | .aastore => am_pr st fun Y st => am_p1 st fun x st => am_pr st fun X st => am_arr σ X (o.getD 0 0) fun a n rs => am_idx x n fun k => am_fit σ (o.getD 0 0) Y (F (.inr r) ls st (σ.1.set a (o.getD 0 0, n, rs.set k Y), σ.2))
  | .new _ => am_new σ (0, o.getD 0 0, List.replicate (am_nf (o.getD 0 0)) am_n) fun σ' => F (.inr r) ls (am_r (am_a σ.1.length) :: st) σ'
  | .newarray _ => am_p1 st fun n st => cond (decide (0 ≤ n) && decide (n ≤ 100000)) (am_new σ (o.getD 0 0, n.toNat, []) (fun σ' => F (.inr r) ls (am_r (am_a σ.1.length) :: st) σ')) none
  | .anewarray _ => am_p1 st fun n st => cond (decide (0 ≤ n) && decide (n ≤ 100000)) (am_new σ (o.getD 0 0, n.toNat, List.replicate n.toNat am_n) (fun σ' => F (.inr r) ls (am_r (am_a σ.1.length) :: st) σ')) none
  | .multianewarray _ _ => am_p2 st fun x y st => cond (decide (0 ≤ x) && decide (x ≤ 1000) && decide (0 ≤ y) && decide (y ≤ 1000))
      (am_many σ (o.getD 0 0, x.toNat, (List.range x.toNat).map fun k => am_a (σ.1.length + 1 + k)) (o.getD 1 0, y.toNat, []) x.toNat fun σ' => F (.inr r) ls (am_r (am_a σ.1.length) :: st) σ')
      none
  | _ => none
/-- a block's code -/
def am_blk (bl : List am_B) (k : Nat) (f : List am_A → Option am_O) : Option am_O := match bl[k]? with
  | some b => f b.2
  | none => none
/-- one step, at a block's beginning or within it -/
def am_body (Γ : am_G) (bl : List am_B) (F : am_F) : am_F := fun p ls st σ => match p with
  | .inl k => am_blk bl k fun is => F (.inr is) ls st σ
  | .inr [] => none
  | .inr (q :: r) => am_ins Γ F q.1 q.2 r ls st σ
