/-! CONSTRUCTORS, 1: code that makes nothing does the same where fewer cells stand -/
section
variable (n : Nat)
def skR (X : am_R) : Prop := ∀ a, X = am_a a → a < n
def skV (v : am_V) : Prop := ∀ a, v = am_r (am_a a) → a < n
def skS (st : List am_V) : Prop := ∀ v ∈ st, skV n v
def skL (ls : List (Option am_V)) : Prop := ∀ v, some v ∈ ls → skV n v
def skO (o : Option am_V ⊕ Nat) : Prop := (∀ v, o = .inl (some v) → skV n v) ∧ ∀ a, o = .inr a → a < n
/-- fields that hold references and may be read -/
def skA : List (Nat × Nat) := [(0, 1), (0, 8), (6, 0), (6, 1), (6, 2), (7, 0), (7, 1), (7, 2), (7, 3), (7, 4), (7, 5), (7, 6), (7, 7), (7, 19), (7, 25), (8, 0), (8, 1), (8, 2), (9, 0), (9, 1), (9, 2), (12, 0), (12, 1), (12, 2), (12, 3), (12, 4), (13, 0), (13, 1), (13, 2), (13, 3), (13, 4), (14, 0), (14, 1), (14, 2), (14, 4), (15, 0), (15, 1), (15, 2), (15, 3), (15, 4), (16, 0), (16, 1), (16, 2)]
/-- methods -/
def skM : List (Nat × Nat) := [(0, 3), (0, 4), (6, 1), (6, 2), (7, 1), (7, 2), (7, 3), (7, 4), (7, 5), (7, 6), (7, 7), (7, 8), (7, 9), (7, 10), (7, 11), (7, 12), (7, 13), (7, 14), (7, 15), (7, 16), (7, 17), (7, 18), (7, 19), (7, 20), (7, 21), (7, 22), (7, 23), (7, 24), (7, 25), (7, 26), (7, 29), (7, 30), (7, 31), (7, 32), (7, 33), (7, 34), (7, 35), (7, 36), (7, 37), (7, 38), (7, 39), (7, 40), (7, 41), (7, 42), (7, 43), (7, 44), (7, 45), (7, 46), (7, 47), (7, 48), (7, 49), (7, 50), (7, 51), (7, 52), (7, 53), (7, 54), (7, 55), (7, 56), (7, 57), (7, 58), (7, 59), (7, 60), (7, 61), (7, 62), (7, 63), (7, 64), (7, 65), (7, 66), (7, 67), (7, 68), (7, 69), (8, 1), (9, 1), (9, 2), (9, 3), (12, 1), (12, 2), (13, 1), (13, 2), (13, 3), (13, 4), (13, 5), (13, 6), (13, 7), (13, 8), (13, 9), (13, 10), (13, 11), (13, 12), (14, 1), (14, 2), (14, 3), (14, 4), (14, 5), (14, 6), (14, 7), (14, 8), (14, 9), (14, 10), (14, 11), (14, 12), (14, 13), (14, 14), (14, 15), (14, 16), (14, 17), (14, 18), (14, 19), (14, 20), (14, 21), (14, 22), (14, 23), (14, 24), (14, 25), (14, 26), (14, 27), (14, 28), (14, 29), (15, 1), (15, 2), (16, 1), (16, 2), (16, 3), (16, 4), (16, 5)]
end
/-- instructions that are met there -/
def skI (i : Instr) (o : List Nat) : Bool := match i with
  | .nop => true
  | .iconst _ => true
  | .bipush _ => true
  | .sipush _ => true
  | .ldc _ => (match o with
    | [0, _] => true
    | _ => false)
  | .iload _ => true
  | .iload_n _ => true
  | .aload_n _ => true
  | .istore _ => o.isEmpty
  | .istore_n _ => o.isEmpty
  | .astore_n _ => o.isEmpty
  | .iinc _ _ => true
  | .dup => true
  | .pop => true
  | .iadd => true
  | .isub => true
  | .imul => true
  | .iand => true
  | .ior => true
  | .ishl => true
  | .i2s => true
  | .i2b => true
  | .ifCond _ _ => true
  | .if_icmp _ _ => true
  | .goto _ => true
  | .tableswitch _ _ _ _ => true
  | .lookupswitch _ _ => true
  | .ireturn => true
  | .return_ => true
  | .athrow => true
  | .getfield _ => (match o with
    | [c, k, 1] => skA.contains (c, k)
    | [_, _, 0] => true
    | [_, _, 3] => true
    | _ => false)
  | .putfield _ => (match o with
    | [_, _, 0] => true
    | [_, _, 3] => true
    | _ => false)
  | .invokevirtual _ => (match o with
    | [1, c, i, _, _, _, 1] => skM.contains (c, i)
    | [6, _, _, _, _, _, _] => true
    | [7, _, _, _, _, _, _] => true
    | _ => false)
  | .invokestatic _ => (match o with
    | [0, c, i, _, _, _, 1] => skM.contains (c, i)
    | [4, _, _, _, _, _, _] => true
    | [5, _, _, _, _, _, _] => true
    | _ => false)
  | .iaload => true
  | .baload => true
  | .saload => true
  | .iastore => true
  | .bastore => true
  | .sastore => true
  | _ => false
def skB (bl : List am_B) : Bool := bl.all fun b => b.2.all fun x => skI x.1 x.2
theorem skM_ok : (skM.all fun p => match (am_mt.getD p.1 [])[p.2]? with
    | some q => skB q.2
    | none => true) = true := by decide +kernel
section
variable (S S' : List am_C) (n : Nat)
/-- fewer cells -/
def skr : Prop := ∀ a, a < n → ∀ q, S'[a]? = some q → ∃ rs, S[a]? = some (q.1, q.2.1, rs) ∧ (q.1 = 0 → ∀ k, skA.contains (q.2.1, k) = true → rs.getD k am_n = q.2.2.getD k am_n ∧ skR n (rs.getD k am_n))
def skl (a b : Option am_O) : Prop := ∀ o τ, a = some (o, τ) → τ.1 = S' ∧ skO n o ∧ b = some (o, (S, τ.2))
def skP (p : Nat ⊕ List am_A) : Prop := ∀ is, p = .inr is → (is.all fun x => skI x.1 x.2) = true
def skF (F G : am_F) : Prop := ∀ p ls st h, skP p → skL n ls → skS n st → skl S S' n (F p ls st (S', h)) (G p ls st (S, h))
def skG (Γ Γ' : am_G) : Prop := ∀ c i as h, skM.contains (c, i) = true → skS n as → skl S S' n (Γ c i as (S', h)) (Γ' c i as (S, h))
end
section
variable {S S' : List am_C} {n : Nat} {F G : am_F} {Γ Γ' : am_G} {st : List am_V} {ls : List (Option am_V)} {h : am_H}
theorem sq_n {b : Option am_O} : skl S S' n none b := fun o τ e => by cases e
theorem sq_cd {c : Bool} {a b : Option am_O} (H : c = true → skl S S' n a b) : skl S S' n (cond c a none) (cond c b none) := by
  cases c
  · exact sq_n
  · exact H rfl
theorem sq_c0 {c : Bool} {a b : Option am_O} (H : skl S S' n a b) : skl S S' n (cond c none a) (cond c none b) := by
  cases c
  · exact H
  · exact sq_n
theorem sq_ite {p : Prop} [Decidable p] {a b a' b' : Option am_O} (H : skl S S' n a b) (H' : skl S S' n a' b') : skl S S' n (if p then a else a') (if p then b else b') := by
  by_cases z : p
  · rw [if_pos z, if_pos z]; exact H
  · rw [if_neg z, if_neg z]; exact H'
theorem sq_p1 {k k' : Int → List am_V → Option am_O} (hs : skS n st) (H : ∀ x st', skS n st' → skl S S' n (k x st') (k' x st')) : skl S S' n (am_p1 st k) (am_p1 st k') := by
  unfold am_p1
  split
  · exact H _ _ (fun v hv => hs v (List.mem_cons_of_mem _ hv))
  · exact sq_n
theorem sq_p2 {k k' : Int → Int → List am_V → Option am_O} (hs : skS n st) (H : ∀ x y st', skS n st' → skl S S' n (k x y st') (k' x y st')) : skl S S' n (am_p2 st k) (am_p2 st k') := by
  unfold am_p2
  split
  · exact H _ _ _ (fun v hv => hs v (List.mem_cons_of_mem _ (List.mem_cons_of_mem _ hv)))
  · exact sq_n
theorem sq_pr {k k' : am_R → List am_V → Option am_O} (hs : skS n st) (H : ∀ X st', skR n X → skS n st' → skl S S' n (k X st') (k' X st')) : skl S S' n (am_pr st k) (am_pr st k') := by
  unfold am_pr
  split
  · exact H _ _ (fun a e => hs _ (List.mem_cons_self ..) a (by rw [e])) (fun v hv => hs v (List.mem_cons_of_mem _ hv))
  · exact sq_n
theorem sq_hp {X : am_R} {k k' : Nat → Option am_O} (hX : skR n X) (H : ∀ a, a < n → X = am_a a → skl S S' n (k a) (k' a)) : skl S S' n (am_hp X k) (am_hp X k') := by
  unfold am_hp
  split
  · exact H _ (hX _ rfl) rfl
  · exact sq_n
theorem sq_ct {X : am_R} {k k' : Nat → Option am_O} (H : ∀ a, skl S S' n (k a) (k' a)) : skl S S' n (am_ct X k) (am_ct X k') := by
  unfold am_ct
  split
  · exact H _
  · exact sq_n
theorem sq_obj (R : skr S S' n) {X : am_R} {c : Nat} {k k' : Nat → List am_R → Option am_O} (hX : skR n X) (H : ∀ a rs rs', a < n → (∀ j, skA.contains (c, j) = true → rs.getD j am_n = rs'.getD j am_n ∧ skR n (rs.getD j am_n)) → skl S S' n (k a rs') (k' a rs)) : skl S S' n (am_obj (S', h) X c k) (am_obj (S, h) X c k') := by
  unfold am_obj
  refine sq_hp hX (fun a ha _ => ?_)
  unfold am_ob
  cases e : S'[a]? with
  | none => exact sq_n
  | some q =>
    obtain ⟨rs, e1, e2⟩ := R a ha q e
    rw [show (S, h).1[a]? = some (q.1, q.2.1, rs) from e1]
    refine sq_cd (fun z => ?_)
    rw [Bool.and_eq_true] at z
    have z1 := Nat.eq_of_beq_eq_true z.1
    have z2 := Nat.eq_of_beq_eq_true z.2
    exact H a rs q.2.2 ha (fun j hj => e2 z1 j (by rw [z2]; exact hj))
theorem sq_arr (R : skr S S' n) {X : am_R} {t : Nat} {k k' : Nat → Nat → List am_R → Option am_O} (hX : skR n X) (H : ∀ a m rs rs', a < n → skl S S' n (k a m rs') (k' a m rs)) : skl S S' n (am_arr (S', h) X t k) (am_arr (S, h) X t k') := by
  unfold am_arr
  refine sq_hp hX (fun a ha _ => ?_)
  unfold am_ob
  cases e : S'[a]? with
  | none => exact sq_n
  | some q =>
    obtain ⟨rs, e1, e2⟩ := R a ha q e
    rw [show (S, h).1[a]? = some (q.1, q.2.1, rs) from e1]
    exact sq_cd (fun z => H a q.2.1 rs q.2.2 ha)
theorem sq_idx {i : Int} {m : Nat} {k k' : Nat → Option am_O} (H : ∀ x, skl S S' n (k x) (k' x)) : skl S S' n (am_idx i m k) (am_idx i m k') := sq_ite (H _) sq_n
theorem sq_bit {v : Int} {a b : Option am_O} (H : skl S S' n a b) : skl S S' n (am_bit v a) (am_bit v b) := sq_ite H sq_n
theorem sq_ldi {i : Nat} {k k' : Int → Option am_O} (H : ∀ x, skl S S' n (k x) (k' x)) : skl S S' n (am_ldi ls i k) (am_ldi ls i k') := by
  unfold am_ldi
  split
  · exact H _
  · exact sq_n
theorem sq_ldr {i : Nat} {k k' : am_R → Option am_O} (hl : skL n ls) (H : ∀ x, skR n x → skl S S' n (k x) (k' x)) : skl S S' n (am_ldr ls i k) (am_ldr ls i k') := by
  unfold am_ldr
  split
  · rename_i X e
    exact H _ (fun a ea => hl _ (List.mem_of_getElem? e) a (by rw [ea]))
  · exact sq_n
theorem sq_cmp {c : Jvm.ClassFile.Cond} {x y : Int} {a b a' b' : Option am_O} (H : skl S S' n a b) (H' : skl S S' n a' b') : skl S S' n (am_cmp c x y a a') (am_cmp c x y b b') := by
  cases c
  · exact sq_ite H H'
  · exact sq_ite H' H
  · exact sq_ite H H'
  · exact sq_ite H' H
  · exact sq_ite H H'
  · exact sq_ite H' H
theorem sq_sw {x : Int} {k k' : Nat → Option am_O} (H : ∀ b, skl S S' n (k b) (k' b)) : ∀ (ts : List Nat) (lo : Int) (d : Nat), skl S S' n (am_sw k x lo ts d) (am_sw k' x lo ts d)
  | [], _, d => H d
  | t :: r, lo, d => sq_ite (H t) (sq_sw H r (lo + 1) d)
theorem sq_lk {x : Int} {k k' : Nat → Option am_O} (H : ∀ b, skl S S' n (k b) (k' b)) : ∀ (ps : List (Int × Int)) (ts : List Nat) (d : Nat), skl S S' n (am_lk k x ps ts d) (am_lk k' x ps ts d)
  | [], _, d => H d
  | _ :: _, [], _ => sq_n
  | q :: ps, t :: r, d => sq_ite (H t) (sq_lk H ps r d)
theorem sk_i {x : Int} (hs : skS n st) : skS n (am_i x :: st) := fun v hv => by
  rcases List.mem_cons.1 hv with rfl | z
  · intro a e; cases e
  · exact hs v z
theorem sk_r {X : am_R} (hX : skR n X) (hs : skS n st) : skS n (am_r X :: st) := fun v hv => by
  rcases List.mem_cons.1 hv with rfl | z
  · intro a e
    injection e with e
    injection e with e
    exact hX a e
  · exact hs v z
theorem sk_0 : skS n [] := fun v hv => by cases hv
theorem sk_set {i : Nat} {v : am_V} (hl : skL n ls) (hv : skV n v) : skL n (ls.set i (some v)) := fun w hw => by
  rcases List.mem_or_eq_of_mem_set hw with z | z
  · exact hl w z
  · injection z with z
    rw [z]; exact hv
theorem sk_vi {x : Int} : skV n (am_i x) := fun a e => by cases e
theorem sk_vr {X : am_R} (hX : skR n X) : skV n (am_r X) := fun a e => by
  injection e with e
  injection e with e
  exact hX a e
theorem sk_pl {k : Nat} : skP (.inl k) := fun is e => by cases e
theorem sq_r {o : Option am_V ⊕ Nat} (ho : skO n o) : skl S S' n (some (o, (S', h))) (some (o, (S, h))) := fun o' τ e => by
  injection e with e
  injection e with e1 e2
  subst e1 e2
  exact ⟨rfl, ho, rfl⟩
theorem sk_rv {x : Int} : skO n (.inl (some (am_i x))) := ⟨fun v e => by injection e with e; injection e with e; rw [← e]; exact sk_vi, fun a e => by cases e⟩
theorem sk_r0 : skO n (.inl none) := ⟨fun v e => by (cases e), fun a e => by (cases e)⟩
/-- behind a call -/
theorem sq_xV {a b : Option am_O} {f f' : Nat → am_H → Option am_O} {k k' : am_H → Option am_O} (H : skl S S' n a b) (Hf : ∀ x h, x < n → skl S S' n (f x h) (f' x h)) (Hk : ∀ h, skl S S' n (k h) (k' h)) : skl S S' n (am_xV S' a f k) (am_xV S b f' k') := by
  unfold am_xV
  split
  · rename_i σ
    obtain ⟨e1, e2, e3⟩ := H _ _ rfl
    rw [if_pos e1, e3]
    dsimp only
    rw [if_pos rfl]
    exact Hk _
  · rename_i x σ
    obtain ⟨e1, e2, e3⟩ := H _ _ rfl
    rw [if_pos e1, e3]
    dsimp only
    rw [if_pos rfl]
    exact Hf _ _ (e2.2 x rfl)
  · exact sq_n
theorem sq_xI {a b : Option am_O} {f f' : Nat → am_H → Option am_O} {k k' : Int → am_H → Option am_O} (H : skl S S' n a b) (Hf : ∀ x h, x < n → skl S S' n (f x h) (f' x h)) (Hk : ∀ v h, skl S S' n (k v h) (k' v h)) : skl S S' n (am_xI S' a f k) (am_xI S b f' k') := by
  unfold am_xI
  split
  · rename_i v σ
    obtain ⟨e1, e2, e3⟩ := H _ _ rfl
    rw [if_pos e1, e3]
    dsimp only
    rw [if_pos rfl]
    exact Hk _ _
  · rename_i x σ
    obtain ⟨e1, e2, e3⟩ := H _ _ rfl
    rw [if_pos e1, e3]
    dsimp only
    rw [if_pos rfl]
    exact Hf _ _ (e2.2 x rfl)
  · exact sq_n
theorem sq_xL {a b : Option am_O} {f f' : Nat → am_H → Option am_O} {k k' : Int → am_H → Option am_O} (H : skl S S' n a b) (Hf : ∀ x h, x < n → skl S S' n (f x h) (f' x h)) (Hk : ∀ v h, skl S S' n (k v h) (k' v h)) : skl S S' n (am_xL S' a f k) (am_xL S b f' k') := by
  unfold am_xL
  split
  · rename_i v σ
    obtain ⟨e1, e2, e3⟩ := H _ _ rfl
    rw [if_pos e1, e3]
    dsimp only
    rw [if_pos rfl]
    exact Hk _ _
  · rename_i x σ
    obtain ⟨e1, e2, e3⟩ := H _ _ rfl
    rw [if_pos e1, e3]
    dsimp only
    rw [if_pos rfl]
    exact Hf _ _ (e2.2 x rfl)
  · exact sq_n
theorem sq_xR {a b : Option am_O} {f f' : Nat → am_H → Option am_O} {k k' : am_R → am_H → Option am_O} (H : skl S S' n a b) (Hf : ∀ x h, x < n → skl S S' n (f x h) (f' x h)) (Hk : ∀ v h, skR n v → skl S S' n (k v h) (k' v h)) : skl S S' n (am_xR S' a f k) (am_xR S b f' k') := by
  unfold am_xR
  split
  · rename_i v σ
    obtain ⟨e1, e2, e3⟩ := H _ _ rfl
    rw [if_pos e1, e3]
    dsimp only
    rw [if_pos rfl]
    exact Hk _ _ (fun a ea => e2.1 _ rfl a (by rw [ea]))
  · rename_i x σ
    obtain ⟨e1, e2, e3⟩ := H _ _ rfl
    rw [if_pos e1, e3]
    dsimp only
    rw [if_pos rfl]
    exact Hf _ _ (e2.2 x rfl)
  · exact sq_n
theorem sq_hnx (R : skr S S' n) (HF : skF S S' n F G) (hl : skL n ls) {k : Nat} {x : Nat} (hx : x < n) : skl S S' n (am_hnx F S' ls k x h) (am_hnx G S ls k x h) := by
  cases k with
  | zero =>
    exact sq_r ⟨fun v e => by (cases e), fun a e => by injection e with e; rw [← e]; exact hx⟩
  | succ k =>
    have ox : skR n (am_a x) := fun a e => by injection e with e; injection e with e; rw [← e]; exact hx
    exact sq_obj R ox (fun a rs rs' _ _ => HF _ _ _ _ sk_pl hl (sk_r ox sk_0))
theorem sq_call (R : skr S S' n) (HG : skG S S' n Γ Γ') (HF : skF S S' n F G) {c i rty hd : Nat} {r : List am_A} {as : List am_V} (hm : skM.contains (c, i) = true) (ha : skS n as) (hl : skL n ls) (hr : skP (.inr r)) (hs : skS n st) : skl S S' n (am_call Γ (S', h) c i rty 1 as (am_hnd F ls hd) (am_hnx F S' ls hd) fun vs σ' => F (.inr r) ls (vs ++ st) σ') (am_call Γ' (S, h) c i rty 1 as (am_hnd G ls hd) (am_hnx G S ls hd) fun vs σ' => G (.inr r) ls (vs ++ st) σ') := by
  have H := HG c i as h hm ha
  match rty with
  | 0 =>
    show skl S S' n (am_xV S' (Γ c i as (S', h)) (am_hnx F S' ls hd) fun h => F (.inr r) ls st (S', h)) (am_xV S (Γ' c i as (S, h)) (am_hnx G S ls hd) fun h => G (.inr r) ls st (S, h))
    exact sq_xV H (fun x h hx => sq_hnx R HF hl hx) (fun h => HF _ _ _ _ hr hl hs)
  | 1 =>
    show skl S S' n (am_xI S' (Γ c i as (S', h)) (am_hnx F S' ls hd) fun v h => F (.inr r) ls (am_i v :: st) (S', h)) (am_xI S (Γ' c i as (S, h)) (am_hnx G S ls hd) fun v h => G (.inr r) ls (am_i v :: st) (S, h))
    exact sq_xI H (fun x h hx => sq_hnx R HF hl hx) (fun v h => HF _ _ _ _ hr hl (sk_i hs))
  | 2 =>
    show skl S S' n (am_xL S' (Γ c i as (S', h)) (am_hnx F S' ls hd) fun v h => F (.inr r) ls (am_l v :: st) (S', h)) (am_xL S (Γ' c i as (S, h)) (am_hnx G S ls hd) fun v h => G (.inr r) ls (am_l v :: st) (S, h))
    exact sq_xL H (fun x h hx => sq_hnx R HF hl hx) (fun v h => HF _ _ _ _ hr hl (fun w hw => by
      rcases List.mem_cons.1 hw with rfl | z
      · intro a e; cases e
      · exact hs w z))
  | k + 3 =>
    show skl S S' n (am_xR S' (Γ c i as (S', h)) (am_hnx F S' ls hd) fun v h => F (.inr r) ls (am_r v :: st) (S', h)) (am_xR S (Γ' c i as (S, h)) (am_hnx G S ls hd) fun v h => G (.inr r) ls (am_r v :: st) (S, h))
    exact sq_xR H (fun x h hx => sq_hnx R HF hl hx) (fun v h hv => HF _ _ _ _ hr hl (sk_r hv hs))
theorem sq_ald (R : skr S S' n) (HF : skF S S' n F G) {t : Nat} {r : List am_A} (hr : skP (.inr r)) (hl : skL n ls) (hs : skS n st) : skl S S' n (am_ald F t r ls st (S', h)) (am_ald G t r ls st (S, h)) :=
  sq_p1 hs fun _ _ s1 => sq_pr s1 fun _ _ oX s2 => sq_arr R oX fun _ _ _ _ _ => sq_idx fun _ => HF _ _ _ _ hr hl (sk_i s2)
theorem sq_ast (R : skr S S' n) (HF : skF S S' n F G) {t : Nat} {w : Int → Int} {r : List am_A} (hr : skP (.inr r)) (hl : skL n ls) (hs : skS n st) : skl S S' n (am_ast F t w r ls st (S', h)) (am_ast G t w r ls st (S, h)) :=
  sq_p1 hs fun _ _ s1 => sq_p1 s1 fun _ _ s2 => sq_pr s2 fun _ _ oX s3 => sq_arr R oX fun _ _ _ _ _ => sq_idx fun _ => sq_c0 (HF _ _ _ _ hr hl s3)
theorem sq_ins (R : skr S S' n) (HG : skG S S' n Γ Γ') (HF : skF S S' n F G) {i : Instr} {o : List Nat} {r : List am_A} (hi : skI i o = true) (hr : skP (.inr r)) (hl : skL n ls) (hs : skS n st) : skl S S' n (am_ins Γ F i o r ls st (S', h)) (am_ins Γ' G i o r ls st (S, h)) := by
  cases i
  case nop => exact HF _ _ _ _ sk_pl hl hs
  case goto => exact HF _ _ _ _ sk_pl hl hs
  case iconst => exact sq_cd fun _ => HF _ _ _ _ hr hl (sk_i hs)
  case bipush => exact sq_cd fun _ => HF _ _ _ _ hr hl (sk_i hs)
  case sipush => exact sq_cd fun _ => HF _ _ _ _ hr hl (sk_i hs)
  case ldc =>
    unfold skI at hi
    dsimp only at hi
    split at hi
    · exact HF _ _ _ _ hr hl (sk_i hs)
    · cases hi
  case iload => exact sq_ldi fun _ => HF _ _ _ _ hr hl (sk_i hs)
  case iload_n => exact sq_ldi fun _ => HF _ _ _ _ hr hl (sk_i hs)
  case aload_n => exact sq_ldr hl fun _ oX => HF _ _ _ _ hr hl (sk_r oX hs)
  case istore =>
    have hi : o.isEmpty = true := hi
    rw [List.isEmpty_iff] at hi
    subst hi
    exact sq_p1 hs fun _ _ s1 => sq_cd fun _ => HF _ _ _ _ hr (sk_set hl sk_vi) s1
  case istore_n =>
    have hi : o.isEmpty = true := hi
    rw [List.isEmpty_iff] at hi
    subst hi
    exact sq_p1 hs fun _ _ s1 => sq_cd fun _ => HF _ _ _ _ hr (sk_set hl sk_vi) s1
  case astore_n =>
    have hi : o.isEmpty = true := hi
    rw [List.isEmpty_iff] at hi
    subst hi
    exact sq_pr hs fun _ _ oX s1 => sq_cd fun _ => HF _ _ _ _ hr (sk_set hl (sk_vr oX)) s1
  case iinc => exact sq_ldi fun _ => sq_cd fun _ => HF _ _ _ _ hr (sk_set hl sk_vi) hs
  case dup =>
    unfold am_ins
    dsimp only
    split
    · exact HF _ _ _ _ hr hl (sk_i hs)
    · rename_i X st
      exact HF _ _ _ _ hr hl (sk_r (fun a e => hs _ (List.mem_cons_self ..) a (by rw [e])) hs)
    · exact sq_n
  case pop =>
    unfold am_ins
    dsimp only
    split
    · exact HF _ _ _ _ hr hl (fun v hv => hs v (List.mem_cons_of_mem _ hv))
    · exact HF _ _ _ _ hr hl (fun v hv => hs v (List.mem_cons_of_mem _ hv))
    · exact sq_n
  case iadd => exact sq_p2 hs fun _ _ _ s1 => HF _ _ _ _ hr hl (sk_i s1)
  case isub => exact sq_p2 hs fun _ _ _ s1 => HF _ _ _ _ hr hl (sk_i s1)
  case imul => exact sq_p2 hs fun _ _ _ s1 => HF _ _ _ _ hr hl (sk_i s1)
  case iand => exact sq_p2 hs fun _ _ _ s1 => HF _ _ _ _ hr hl (sk_i s1)
  case ior => exact sq_p2 hs fun _ _ _ s1 => HF _ _ _ _ hr hl (sk_i s1)
  case ishl => exact sq_p2 hs fun _ _ _ s1 => HF _ _ _ _ hr hl (sk_i s1)
  case i2s => exact sq_p1 hs fun _ _ s1 => HF _ _ _ _ hr hl (sk_i s1)
  case i2b => exact sq_p1 hs fun _ _ s1 => HF _ _ _ _ hr hl (sk_i s1)
  case ifCond => exact sq_p1 hs fun _ _ s1 => sq_cmp (HF _ _ _ _ sk_pl hl s1) (HF _ _ _ _ hr hl s1)
  case if_icmp => exact sq_p2 hs fun _ _ _ s1 => sq_cmp (HF _ _ _ _ sk_pl hl s1) (HF _ _ _ _ hr hl s1)
  case tableswitch => exact sq_p1 hs fun _ _ s1 => sq_sw (fun _ => HF _ _ _ _ sk_pl hl s1) _ _ _
  case lookupswitch => exact sq_p1 hs fun _ _ s1 => sq_lk (fun _ => HF _ _ _ _ sk_pl hl s1) _ _ _
  case ireturn =>
    refine sq_p1 hs fun _ _ s1 => sq_cd fun _ => ?_
    cases o.isEmpty
    · exact sq_bit (sq_r sk_rv)
    · exact sq_r sk_rv
  case return_ => exact sq_cd fun _ => sq_r sk_r0
  case athrow => exact sq_pr hs fun _ _ oX s1 => sq_hp oX fun a ha _ => sq_r ⟨fun v e => by (cases e), fun b e => by injection e with e; rw [← e]; exact ha⟩
  case getfield =>
    unfold skI at hi
    dsimp only at hi
    split at hi
    · exact sq_pr hs fun _ _ oX s1 => sq_obj R oX fun a rs rs' ha hj => by
        rw [← (hj _ hi).1]
        exact HF _ _ _ _ hr hl (sk_r (hj _ hi).2 s1)
    · exact sq_pr hs fun _ _ oX s1 => sq_obj R oX fun a rs rs' ha hj => HF _ _ _ _ hr hl (sk_i s1)
    · exact sq_pr hs fun _ _ oX s1 => sq_obj R oX fun a rs rs' ha hj => HF _ _ _ _ hr hl (sk_i s1)
    · cases hi
  case putfield =>
    unfold skI at hi
    dsimp only at hi
    split at hi
    · exact sq_p1 hs fun _ _ s0 => sq_pr s0 fun _ _ oX s1 => sq_obj R oX fun a rs rs' ha hj => HF _ _ _ _ hr hl s1
    · exact sq_p1 hs fun _ _ s0 => sq_pr s0 fun _ _ oX s1 => sq_obj R oX fun a rs rs' ha hj => sq_bit (HF _ _ _ _ hr hl s1)
    · cases hi
  case invokevirtual =>
    unfold skI at hi
    dsimp only at hi
    split at hi
    · rename_i c i m rty hd
      have ha : skS n (st.take m).reverse := fun v hv => hs v (List.mem_of_mem_take (List.mem_reverse.1 hv))
      refine sq_cd fun _ => ?_
      show skl S S' n (am_recv (S', h) c (st.take m).reverse _) (am_recv (S, h) c (st.take m).reverse _)
      unfold am_recv
      split
      · rename_i X as e
        rw [e] at ha
        have oX : skR n X := fun a ea => ha _ (List.mem_cons_self ..) a (by rw [ea])
        rw [← e] at ha
        refine sq_obj R oX fun a rs rs' _ _ => ?_
        exact sq_call R HG HF hi ha hl hr (fun v hv => hs v (List.mem_of_mem_drop hv))
      · exact sq_n
    · exact sq_cd fun _ => sq_pr hs fun _ _ oX s1 => sq_ct fun _ => sq_cd fun _ => HF _ _ _ _ hr hl (sk_i s1)
    · exact sq_cd fun _ => sq_p1 hs fun _ _ s0 => sq_pr s0 fun _ _ oX s1 => sq_ct fun _ => sq_cd fun _ => sq_idx fun _ => HF _ _ _ _ hr hl (sk_i s1)
    · cases hi
  case invokestatic =>
    unfold skI at hi
    dsimp only at hi
    split at hi
    · rename_i c i m rty hd
      have ha : skS n (st.take m).reverse := fun v hv => hs v (List.mem_of_mem_take (List.mem_reverse.1 hv))
      exact sq_cd fun _ => sq_call R HG HF hi ha hl hr (fun v hv => hs v (List.mem_of_mem_drop hv))
    · exact sq_cd fun _ => sq_p2 hs fun _ _ _ s1 => HF _ _ _ _ hr hl (sk_i s1)
    · exact sq_cd fun _ => sq_p2 hs fun _ _ _ s1 => HF _ _ _ _ hr hl (sk_i s1)
    · cases hi
  case iaload => exact sq_ald R HF hr hl hs
  case baload => exact sq_ald R HF hr hl hs
  case saload => exact sq_ald R HF hr hl hs
  case iastore => exact sq_ast R HF hr hl hs
  case sastore => exact sq_ast R HF hr hl hs
  case bastore =>
    unfold am_ins
    dsimp only
    split
    · exact sq_ast R HF hr hl hs
    · split
      · exact sq_bit (sq_ast R HF hr hl hs)
      · exact sq_n
  all_goals cases hi
theorem sq_run (R : skr S S' n) (HG : skG S S' n Γ Γ') {bl : List am_B} (hb : skB bl = true) : ∀ m, skF S S' n (am_run Γ bl m) (am_E Γ' bl)
  | 0 => fun p ls st h _ _ _ => sq_n
  | m + 1 => fun p ls st h hp hl hs => by
    have IH := sq_run R HG hb m
    rw [am_E_fix]
    show skl S S' n (am_body Γ bl (am_run Γ bl m) p ls st (S', h)) (am_body Γ' bl (am_E Γ' bl) p ls st (S, h))
    rcases p with k | _ | ⟨q, r⟩
    · show skl S S' n (am_blk bl k fun is => am_run Γ bl m (.inr is) ls st (S', h)) (am_blk bl k fun is => am_E Γ' bl (.inr is) ls st (S, h))
      unfold am_blk
      cases e : bl[k]? with
      | none => exact sq_n
      | some b =>
        refine IH _ _ _ _ (fun is ei => ?_) hl hs
        injection ei with ei
        rw [← ei]
        have := List.all_eq_true.1 hb b (List.mem_of_getElem? e)
        exact this
    · exact sq_n
    · have hq := hp _ rfl
      rw [List.all_cons, Bool.and_eq_true] at hq
      exact sq_ins R HG IH hq.1 (fun is ei => by injection ei with ei; rw [← ei]; exact hq.2) hl hs
end
/-- a method that makes nothing, where fewer cells stand -/
theorem sq_D {S S' : List am_C} {n : Nat} (R : skr S S' n) : ∀ d, skG S S' n (am_D d) (am_D d)
  | 0 => fun c i as h _ _ => sq_n
  | d + 1 => fun c i as h hm ha => by
    have IH := sq_D R d
    have ck := List.all_eq_true.1 skM_ok (c, i) (List.contains_iff_mem.1 hm)
    dsimp only at ck
    show skl S S' n (am_ob (am_mt.getD c [])[i]? _) (am_ob (am_mt.getD c [])[i]? _)
    unfold am_ob
    cases e : (am_mt.getD c [])[i]? with
    | none => exact sq_n
    | some q =>
      rw [e] at ck
      refine sq_cd fun _ => fun o τ ho => ?_
      obtain ⟨m, hm⟩ := am_E_some.mp ho
      refine sq_run R IH ck m _ _ _ _ sk_pl (fun v hv => ?_) sk_0 o τ hm
      unfold am_ent at hv
      rcases List.mem_append.1 hv with z | z
      · obtain ⟨w, w1, w2⟩ := List.mem_map.1 z
        injection w2 with w2
        rw [← w2]; exact ha w w1
      · have := List.eq_of_mem_replicate z
        cases this
