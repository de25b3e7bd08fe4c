/-! THE MEANING OF CODE: the least fixed point of am_body, and how it unrolls -/
def am_run (Γ : am_G) (bl : List am_B) : Nat → am_F
  | 0 => fun _ _ _ _ => none
  | n + 1 => am_body Γ bl (am_run Γ bl n)
/-- what is handed a continuation calls it at most once, at a place that does not hang on it -/
def am_lin (f : am_F → Option am_O) : Prop := (∃ c, ∀ F, f F = c) ∨ ∃ p ls st σ, ∀ F, f F = F p ls st σ
theorem ln_c (c : Option am_O) : am_lin (fun _ => c) := Or.inl ⟨c, fun _ => rfl⟩
theorem ln_F (p : Nat ⊕ List am_A) (ls : List (Option am_V)) (st : List am_V) (σ : am_S) : am_lin (fun F => F p ls st σ) := Or.inr ⟨p, ls, st, σ, fun _ => rfl⟩
theorem ln_ite {P : Prop} [Decidable P] {f g : am_F → Option am_O} (hf : am_lin f) (hg : am_lin g) : am_lin (fun F => if P then f F else g F) := by
  by_cases h : P
  · simpa only [h, if_true] using hf
  · simpa only [h, if_false] using hg
theorem ln_cd (P : Bool) {f g : am_F → Option am_O} (hf : am_lin f) (hg : am_lin g) : am_lin (fun F => cond P (f F) (g F)) := by
  cases P
  · exact hg
  · exact hf
section
variable {α : Type}
theorem ln_ob (o : Option α) {k : am_F → α → Option am_O} (h : ∀ x, am_lin (fun F => k F x)) : am_lin (fun F => am_ob o (k F)) := by
  cases o with
  | none => exact ln_c _
  | some x => exact h x
end
theorem ln_p1 (st : List am_V) {k : am_F → Int → List am_V → Option am_O} (h : ∀ x st, am_lin (fun F => k F x st)) : am_lin (fun F => am_p1 st (k F)) := by
  unfold am_p1; split
  · exact h _ _
  · exact ln_c _
theorem ln_p2 (st : List am_V) {k : am_F → Int → Int → List am_V → Option am_O} (h : ∀ x y st, am_lin (fun F => k F x y st)) : am_lin (fun F => am_p2 st (k F)) := by
  unfold am_p2; split
  · exact h _ _ _
  · exact ln_c _
theorem ln_l1 (st : List am_V) {k : am_F → Int → List am_V → Option am_O} (h : ∀ x st, am_lin (fun F => k F x st)) : am_lin (fun F => am_l1 st (k F)) := by
  unfold am_l1; split
  · exact h _ _
  · exact ln_c _
theorem ln_l2 (st : List am_V) {k : am_F → Int → Int → List am_V → Option am_O} (h : ∀ x y st, am_lin (fun F => k F x y st)) : am_lin (fun F => am_l2 st (k F)) := by
  unfold am_l2; split
  · exact h _ _ _
  · exact ln_c _
theorem ln_pr (st : List am_V) {k : am_F → am_R → List am_V → Option am_O} (h : ∀ x st, am_lin (fun F => k F x st)) : am_lin (fun F => am_pr st (k F)) := by
  unfold am_pr; split
  · exact h _ _
  · exact ln_c _
theorem ln_rr (st : List am_V) {k : am_F → am_R → am_R → List am_V → Option am_O} (h : ∀ x y st, am_lin (fun F => k F x y st)) : am_lin (fun F => am_rr st (k F)) := by
  unfold am_rr; split
  · exact h _ _ _
  · exact ln_c _
theorem ln_hp (X : am_R) {k : am_F → Nat → Option am_O} (h : ∀ x, am_lin (fun F => k F x)) : am_lin (fun F => am_hp X (k F)) := by
  unfold am_hp; split
  · exact h _
  · exact ln_c _
theorem ln_ct (X : am_R) {k : am_F → Nat → Option am_O} (h : ∀ x, am_lin (fun F => k F x)) : am_lin (fun F => am_ct X (k F)) := by
  unfold am_ct; split
  · exact h _
  · exact ln_c _
theorem ln_obj (σ : am_S) (X : am_R) (c : Nat) {k : am_F → Nat → List am_R → Option am_O} (h : ∀ a r, am_lin (fun F => k F a r)) : am_lin (fun F => am_obj σ X c (k F)) :=
  ln_hp X (k := fun F a => am_ob σ.1[a]? fun q => cond (Nat.beq q.1 0 && Nat.beq q.2.1 c) (k F a q.2.2) none) fun a => ln_ob _ (k := fun F (q : am_C) => cond (Nat.beq q.1 0 && Nat.beq q.2.1 c) (k F a q.2.2) none) fun _ => ln_cd _ (h _ _) (ln_c _)
theorem ln_arr (σ : am_S) (X : am_R) (t : Nat) {k : am_F → Nat → Nat → List am_R → Option am_O} (h : ∀ a n r, am_lin (fun F => k F a n r)) : am_lin (fun F => am_arr σ X t (k F)) :=
  ln_hp X (k := fun F a => am_ob σ.1[a]? fun q => cond (Nat.beq q.1 t) (k F a q.2.1 q.2.2) none) fun a => ln_ob _ (k := fun F (q : am_C) => cond (Nat.beq q.1 t) (k F a q.2.1 q.2.2) none) fun _ => ln_cd _ (h _ _ _) (ln_c _)
theorem ln_idx (i : Int) (n : Nat) {k : am_F → Nat → Option am_O} (h : ∀ x, am_lin (fun F => k F x)) : am_lin (fun F => am_idx i n (k F)) := ln_ite (h _) (ln_c _)
theorem ln_bit (v : Int) {k : am_F → Option am_O} (h : am_lin k) : am_lin (fun F => am_bit v (k F)) := ln_ite h (ln_c _)
theorem ln_ldi (ls : List (Option am_V)) (i : Nat) {k : am_F → Int → Option am_O} (h : ∀ x, am_lin (fun F => k F x)) : am_lin (fun F => am_ldi ls i (k F)) := by
  unfold am_ldi; split
  · exact h _
  · exact ln_c _
theorem ln_ldl (ls : List (Option am_V)) (i : Nat) {k : am_F → Int → Option am_O} (h : ∀ x, am_lin (fun F => k F x)) : am_lin (fun F => am_ldl ls i (k F)) := by
  unfold am_ldl; split
  · exact h _
  · exact ln_c _
theorem ln_ldr (ls : List (Option am_V)) (i : Nat) {k : am_F → am_R → Option am_O} (h : ∀ x, am_lin (fun F => k F x)) : am_lin (fun F => am_ldr ls i (k F)) := by
  unfold am_ldr; split
  · exact h _
  · exact ln_c _
theorem ln_cmp (c : Jvm.ClassFile.Cond) (x y : Int) {a b : am_F → Option am_O} (ha : am_lin a) (hb : am_lin b) : am_lin (fun F => am_cmp c x y (a F) (b F)) := by
  cases c
  · exact ln_ite ha hb
  · exact ln_ite hb ha
  · exact ln_ite ha hb
  · exact ln_ite hb ha
  · exact ln_ite ha hb
  · exact ln_ite hb ha
theorem ln_acmp (c : ACond) (X Y : am_R) {a b : am_F → Option am_O} (ha : am_lin a) (hb : am_lin b) : am_lin (fun F => am_acmp c X Y (a F) (b F)) := by
  unfold am_acmp; split
  · cases c
    · exact ln_ite ha hb
    · exact ln_ite hb ha
  · exact ln_c _
theorem ln_nul (X : am_R) {a b : am_F → Option am_O} (ha : am_lin a) (hb : am_lin b) : am_lin (fun F => am_nul X (a F) (b F)) := by
  unfold am_nul; split
  · exact ha
  · exact hb
theorem ln_sw (x : Int) {G : am_F → Nat → Option am_O} (h : ∀ b, am_lin (fun F => G F b)) : ∀ (ts : List Nat) (lo : Int) (d : Nat), am_lin (fun F => am_sw (G F) x lo ts d)
  | [], _, d => h d
  | t :: r, lo, d => ln_ite (f := fun F => G F t) (g := fun F => am_sw (G F) x (lo + 1) r d) (h t) (ln_sw x h r (lo + 1) d)
theorem ln_lk (x : Int) {G : am_F → Nat → Option am_O} (h : ∀ b, am_lin (fun F => G F b)) : ∀ (ps : List (Int × Int)) (ts : List Nat) (d : Nat), am_lin (fun F => am_lk (G F) x ps ts d)
  | [], _, d => h d
  | _ :: _, [], _ => ln_c none
  | q :: ps, t :: r, d => ln_ite (f := fun F => G F t) (g := fun F => am_lk (G F) x ps r d) (h t) (ln_lk x h ps r d)
theorem ln_cV (o : Option am_O) {f : am_F → Nat → am_S → Option am_O} {k : am_F → am_S → Option am_O} (hf : ∀ a σ, am_lin (fun F => f F a σ)) (hk : ∀ σ, am_lin (fun F => k F σ)) : am_lin (fun F => am_cV o (f F) (k F)) := by
  unfold am_cV; split
  · exact hk _
  · exact hf _ _
  · exact ln_c _
theorem ln_xV (S : List am_C) (o : Option am_O) {f : am_F → Nat → am_H → Option am_O} {k : am_F → am_H → Option am_O} (hf : ∀ a σ, am_lin (fun F => f F a σ)) (hk : ∀ σ, am_lin (fun F => k F σ)) : am_lin (fun F => am_xV S o (f F) (k F)) := by
  unfold am_xV; split
  · exact ln_ite (hk _) (ln_c _)
  · exact ln_ite (hf _ _) (ln_c _)
  · exact ln_c _
theorem ln_cI (o : Option am_O) {f : am_F → Nat → am_S → Option am_O} {k : am_F → Int → am_S → Option am_O} (hf : ∀ a σ, am_lin (fun F => f F a σ)) (hk : ∀ x σ, am_lin (fun F => k F x σ)) : am_lin (fun F => am_cI o (f F) (k F)) := by
  unfold am_cI; split
  · exact hk _ _
  · exact hf _ _
  · exact ln_c _
theorem ln_xI (S : List am_C) (o : Option am_O) {f : am_F → Nat → am_H → Option am_O} {k : am_F → Int → am_H → Option am_O} (hf : ∀ a σ, am_lin (fun F => f F a σ)) (hk : ∀ x σ, am_lin (fun F => k F x σ)) : am_lin (fun F => am_xI S o (f F) (k F)) := by
  unfold am_xI; split
  · exact ln_ite (hk _ _) (ln_c _)
  · exact ln_ite (hf _ _) (ln_c _)
  · exact ln_c _
theorem ln_cL (o : Option am_O) {f : am_F → Nat → am_S → Option am_O} {k : am_F → Int → am_S → Option am_O} (hf : ∀ a σ, am_lin (fun F => f F a σ)) (hk : ∀ x σ, am_lin (fun F => k F x σ)) : am_lin (fun F => am_cL o (f F) (k F)) := by
  unfold am_cL; split
  · exact hk _ _
  · exact hf _ _
  · exact ln_c _
theorem ln_xL (S : List am_C) (o : Option am_O) {f : am_F → Nat → am_H → Option am_O} {k : am_F → Int → am_H → Option am_O} (hf : ∀ a σ, am_lin (fun F => f F a σ)) (hk : ∀ x σ, am_lin (fun F => k F x σ)) : am_lin (fun F => am_xL S o (f F) (k F)) := by
  unfold am_xL; split
  · exact ln_ite (hk _ _) (ln_c _)
  · exact ln_ite (hf _ _) (ln_c _)
  · exact ln_c _
theorem ln_cR (o : Option am_O) {f : am_F → Nat → am_S → Option am_O} {k : am_F → am_R → am_S → Option am_O} (hf : ∀ a σ, am_lin (fun F => f F a σ)) (hk : ∀ x σ, am_lin (fun F => k F x σ)) : am_lin (fun F => am_cR o (f F) (k F)) := by
  unfold am_cR; split
  · exact hk _ _
  · exact hf _ _
  · exact ln_c _
theorem ln_xR (S : List am_C) (o : Option am_O) {f : am_F → Nat → am_H → Option am_O} {k : am_F → am_R → am_H → Option am_O} (hf : ∀ a σ, am_lin (fun F => f F a σ)) (hk : ∀ x σ, am_lin (fun F => k F x σ)) : am_lin (fun F => am_xR S o (f F) (k F)) := by
  unfold am_xR; split
  · exact ln_ite (hk _ _) (ln_c _)
  · exact ln_ite (hf _ _) (ln_c _)
  · exact ln_c _
theorem ln_call (Γ : am_G) (σ : am_S) (c i rty x : Nat) (as : List am_V) {f : am_F → Nat → am_S → Option am_O} {g : am_F → Nat → am_H → Option am_O} {k : am_F → List am_V → am_S → Option am_O} (hf : ∀ a σ, am_lin (fun F => f F a σ)) (hg : ∀ a σ, am_lin (fun F => g F a σ)) (hk : ∀ x σ, am_lin (fun F => k F x σ)) : am_lin (fun F => am_call Γ σ c i rty x as (f F) (g F) (k F)) := by
  unfold am_call; split
  · split
    · exact ln_cV _ hf fun _ => hk _ _
    · exact ln_cI _ hf fun _ _ => hk _ _
    · exact ln_cL _ hf fun _ _ => hk _ _
    · exact ln_cR _ hf fun _ _ => hk _ _
  · split
    · exact ln_xV _ _ hg fun _ => hk _ _
    · exact ln_xI _ _ hg fun _ _ => hk _ _
    · exact ln_xL _ _ hg fun _ _ => hk _ _
    · exact ln_xR _ _ hg fun _ _ => hk _ _
theorem ln_hnd (ls : List (Option am_V)) (h : Nat) (a : Nat) (σ : am_S) : am_lin (fun F => am_hnd F ls h a σ) := by
  cases h with
  | zero => exact ln_c _
  | succ h => exact ln_obj _ _ _ fun _ _ => ln_F _ _ _ _
theorem ln_hnx (S : List am_C) (ls : List (Option am_V)) (h : Nat) (a : Nat) (g : am_H) : am_lin (fun F => am_hnx F S ls h a g) := by
  cases h with
  | zero => exact ln_c _
  | succ h => exact ln_obj _ _ _ fun _ _ => ln_F _ _ _ _
theorem ln_recv (σ : am_S) (c : Nat) (as : List am_V) {k : am_F → Option am_O} (h : am_lin k) : am_lin (fun F => am_recv σ c as (k F)) := by
  unfold am_recv; split
  · exact ln_obj _ _ _ fun _ _ => h
  · exact ln_c _
theorem ln_rcv2 (as : List am_V) {k : am_F → Option am_O} (h : am_lin k) : am_lin (fun F => am_rcv2 as (k F)) := by
  unfold am_rcv2; split
  · exact ln_hp _ fun _ => h
  · exact ln_c _
theorem ln_inv (Γ : am_G) (o : List Nat) (r : List am_A) (ls : List (Option am_V)) (st : List am_V) (σ : am_S) : am_lin (fun F => am_inv Γ F o r ls st σ) := by
  unfold am_inv; split
  · refine ln_cd _ ?_ (ln_c _)
    split
    · exact ln_call _ _ _ _ _ _ _ (ln_hnd _ _) (ln_hnx _ _ _) fun _ _ => ln_F _ _ _ _
    · exact ln_recv _ _ _ (ln_call _ _ _ _ _ _ _ (ln_hnd _ _) (ln_hnx _ _ _) fun _ _ => ln_F _ _ _ _)
    · exact ln_rcv2 _ (ln_call _ _ _ _ _ _ _ (ln_hnd _ _) (ln_hnx _ _ _) fun _ _ => ln_F _ _ _ _)
    · exact ln_pr _ fun _ _ => ln_hp _ fun _ => ln_F _ _ _ _
    · exact ln_p2 _ fun _ _ _ => ln_F _ _ _ _
    · exact ln_p2 _ fun _ _ _ => ln_F _ _ _ _
    · exact ln_pr _ fun _ _ => ln_ct _ fun _ => ln_cd _ (ln_F _ _ _ _) (ln_c _)
    · exact ln_p1 _ fun _ _ => ln_pr _ fun _ _ => ln_ct _ fun _ => ln_cd _ (ln_idx _ _ fun _ => ln_F _ _ _ _) (ln_c _)
    · exact ln_rr _ fun _ _ _ => ln_obj _ _ _ fun _ _ => ln_ct _ fun _ => ln_cd _ (ln_F _ _ _ _) (ln_c _)
  · exact ln_c _
theorem ln_getf (o : List Nat) (r : List am_A) (ls : List (Option am_V)) (st : List am_V) (σ : am_S) : am_lin (fun F => am_getf F o r ls st σ) := by
  unfold am_getf; split
  · exact ln_pr _ fun _ _ => ln_obj _ _ _ fun _ _ => ln_F _ _ _ _
  · exact ln_pr _ fun _ _ => ln_obj _ _ _ fun _ _ => ln_F _ _ _ _
  · exact ln_pr _ fun _ _ => ln_obj _ _ _ fun _ _ => ln_F _ _ _ _
  · exact ln_c _
theorem ln_putf (o : List Nat) (r : List am_A) (ls : List (Option am_V)) (st : List am_V) (σ : am_S) : am_lin (fun F => am_putf F o r ls st σ) := by
  unfold am_putf; split
  · exact ln_p1 _ fun _ _ => ln_pr _ fun _ _ => ln_obj _ _ _ fun _ _ => ln_F _ _ _ _
  · exact ln_rr _ fun _ _ _ => ln_obj _ _ _ fun _ _ => ln_F _ _ _ _
  · exact ln_rr _ fun _ _ _ => ln_obj _ _ _ fun _ _ => ln_ob _ fun _ => ln_F _ _ _ _
  · exact ln_p1 _ fun _ _ => ln_pr _ fun _ _ => ln_obj _ _ _ fun _ _ => ln_bit _ (ln_F _ _ _ _)
  · exact ln_c _
theorem ln_ald (t : Nat) (r : List am_A) (ls : List (Option am_V)) (st : List am_V) (σ : am_S) : am_lin (fun F => am_ald F t r ls st σ) :=
  ln_p1 _ fun _ _ => ln_pr _ fun _ _ => ln_arr _ _ _ fun _ _ _ => ln_idx _ _ fun _ => ln_F _ _ _ _
theorem ln_ast (t : Nat) (w : Int → Int) (r : List am_A) (ls : List (Option am_V)) (st : List am_V) (σ : am_S) : am_lin (fun F => am_ast F t w r ls st σ) :=
  ln_p1 _ fun _ _ => ln_p1 _ fun _ _ => ln_pr _ fun _ _ => ln_arr _ _ _ fun _ _ _ => ln_idx _ _ fun _ => ln_cd _ (ln_c _) (ln_F _ _ _ _)
theorem ln_new (σ : am_S) (q : am_C) {k : am_F → am_S → Option am_O} (h : ∀ σ, am_lin (fun F => k F σ)) : am_lin (fun F => am_new σ q (k F)) := ln_cd _ (h _) (ln_c _)
theorem ln_many (σ : am_S) (q c : am_C) (d : Nat) {k : am_F → am_S → Option am_O} (h : ∀ σ, am_lin (fun F => k F σ)) : am_lin (fun F => am_many σ q c d (k F)) := ln_cd _ (h _) (ln_c _)
theorem ln_fit (σ : am_S) (t : Nat) (Y : am_R) {k : am_F → Option am_O} (h : am_lin k) : am_lin (fun F => am_fit σ t Y (k F)) := by
  unfold am_fit; split
  · exact ln_ct _ fun _ => ln_cd _ h (ln_c _)
  · exact ln_arr _ _ _ fun _ _ _ => h
  · exact ln_obj _ _ _ fun _ _ => h
  · exact ln_c _
