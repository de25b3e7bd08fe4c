/-! am_body calls its continuation at most once; so it has a least fixed point, am_E; am_unr unrolls it up to blocks that are cuts; am_D: methods by call depth -/
theorem ln_ins (Γ : am_G) (i : Instr) (o : List Nat) (r : List am_A) (ls : List (Option am_V)) (st : List am_V) (σ : am_S) : am_lin (fun F => am_ins Γ F i o r ls st σ) := by
  cases i
  case nop => exact ln_F _ _ _ _
  case iconst => exact ln_cd _ (ln_F _ _ _ _) (ln_c _)
  case bipush => exact ln_cd _ (ln_F _ _ _ _) (ln_c _)
  case sipush => exact ln_cd _ (ln_F _ _ _ _) (ln_c _)
  case lconst => exact ln_F _ _ _ _
  case aconst_null => exact ln_F _ _ _ _
  case ldc2_w => exact ln_F _ _ _ _
  case goto => exact ln_F _ _ _ _
  case getstatic => exact ln_F _ _ _ _
  case return_ => exact ln_cd _ (ln_c _) (ln_c _)
  case getfield => exact ln_getf _ _ _ _ _
  case putfield => exact ln_putf _ _ _ _ _
  case invokevirtual => exact ln_inv _ _ _ _ _ _
  case invokespecial => exact ln_inv _ _ _ _ _ _
  case invokestatic => exact ln_inv _ _ _ _ _ _
  case iaload => exact ln_ald _ _ _ _ _
  case baload => exact ln_ald _ _ _ _ _
  case saload => exact ln_ald _ _ _ _ _
  case iastore => exact ln_ast _ _ _ _ _ _
  case sastore => exact ln_ast _ _ _ _ _ _
  case iload => exact ln_ldi _ _ fun _ => ln_F _ _ _ _
  case iload_n => exact ln_ldi _ _ fun _ => ln_F _ _ _ _
  case lload => exact ln_ldl _ _ fun _ => ln_F _ _ _ _
  case lload_n => exact ln_ldl _ _ fun _ => ln_F _ _ _ _
  case aload => exact ln_ldr _ _ fun _ => ln_F _ _ _ _
  case aload_n => exact ln_ldr _ _ fun _ => ln_F _ _ _ _
  case istore => exact ln_p1 _ fun _ _ => ln_cd _ (ln_F _ _ _ _) (ln_c _)
  case istore_n => exact ln_p1 _ fun _ _ => ln_cd _ (ln_F _ _ _ _) (ln_c _)
  case lstore => exact ln_l1 _ fun _ _ => ln_cd _ (ln_F _ _ _ _) (ln_c _)
  case lstore_n => exact ln_l1 _ fun _ _ => ln_cd _ (ln_F _ _ _ _) (ln_c _)
  case astore => exact ln_pr _ fun _ _ => ln_cd _ (ln_F _ _ _ _) (ln_c _)
  case astore_n => exact ln_pr _ fun _ _ => ln_cd _ (ln_F _ _ _ _) (ln_c _)
  case iinc => exact ln_ldi _ _ fun _ => ln_cd _ (ln_F _ _ _ _) (ln_c _)
  case iadd => exact ln_p2 _ fun _ _ _ => ln_F _ _ _ _
  case isub => exact ln_p2 _ fun _ _ _ => ln_F _ _ _ _
  case imul => exact ln_p2 _ fun _ _ _ => ln_F _ _ _ _
  case iand => exact ln_p2 _ fun _ _ _ => ln_F _ _ _ _
  case ior => exact ln_p2 _ fun _ _ _ => ln_F _ _ _ _
  case ixor => exact ln_p2 _ fun _ _ _ => ln_F _ _ _ _
  case ishl => exact ln_p2 _ fun _ _ _ => ln_F _ _ _ _
  case ishr => exact ln_p2 _ fun _ _ _ => ln_F _ _ _ _
  case idiv => exact ln_p2 _ fun _ _ _ => ln_ite (ln_c _) (ln_F _ _ _ _)
  case irem => exact ln_p2 _ fun _ _ _ => ln_ite (ln_c _) (ln_F _ _ _ _)
  case ineg => exact ln_p1 _ fun _ _ => ln_F _ _ _ _
  case i2l => exact ln_p1 _ fun _ _ => ln_F _ _ _ _
  case i2s => exact ln_p1 _ fun _ _ => ln_F _ _ _ _
  case i2b => exact ln_p1 _ fun _ _ => ln_F _ _ _ _
  case ladd => exact ln_l2 _ fun _ _ _ => ln_F _ _ _ _
  case land => exact ln_l2 _ fun _ _ _ => ln_F _ _ _ _
  case lor => exact ln_l2 _ fun _ _ _ => ln_F _ _ _ _
  case lcmp => exact ln_l2 _ fun _ _ _ => ln_F _ _ _ _
  case lshl => exact ln_p1 _ fun _ _ => ln_l1 _ fun _ _ => ln_F _ _ _ _
  case ifCond => exact ln_p1 _ fun _ _ => ln_cmp _ _ _ (ln_F _ _ _ _) (ln_F _ _ _ _)
  case if_icmp => exact ln_p2 _ fun _ _ _ => ln_cmp _ _ _ (ln_F _ _ _ _) (ln_F _ _ _ _)
  case if_acmp => exact ln_rr _ fun _ _ _ => ln_acmp _ _ _ (ln_F _ _ _ _) (ln_F _ _ _ _)
  case ifnull => exact ln_pr _ fun _ _ => ln_nul _ (ln_F _ _ _ _) (ln_F _ _ _ _)
  case ifnonnull => exact ln_pr _ fun _ _ => ln_nul _ (ln_F _ _ _ _) (ln_F _ _ _ _)
  case tableswitch => exact ln_p1 _ fun _ _ => ln_sw _ (fun _ => ln_F _ _ _ _) _ _ _
  case lookupswitch => exact ln_p1 _ fun _ _ => ln_lk _ (fun _ => ln_F _ _ _ _) _ _ _
  case ireturn => exact ln_p1 _ fun _ _ => ln_cd _ (ln_cd _ (ln_c _) (ln_bit _ (ln_c _))) (ln_c _)
  case lreturn => exact ln_l1 _ fun _ _ => ln_cd _ (ln_c _) (ln_c _)
  case areturn => exact ln_pr _ fun _ _ => ln_cd _ (ln_c _) (ln_c _)
  case athrow => exact ln_pr _ fun _ _ => ln_hp _ fun _ => ln_c _
  case caload => exact ln_p1 _ fun _ _ => ln_pr _ fun _ _ => ln_ct _ fun _ => ln_cd _ (ln_idx _ _ fun _ => ln_F _ _ _ _) (ln_c _)
  case laload => exact ln_p1 _ fun _ _ => ln_pr _ fun _ _ => ln_arr _ _ _ fun _ _ _ => ln_idx _ _ fun _ => ln_F _ _ _ _
  case aaload => exact ln_p1 _ fun _ _ => ln_pr _ fun _ _ => ln_arr _ _ _ fun _ _ _ => ln_idx _ _ fun _ => ln_F _ _ _ _
  case lastore => exact ln_l1 _ fun _ _ => ln_p1 _ fun _ _ => ln_pr _ fun _ _ => ln_arr _ _ _ fun _ _ _ => ln_idx _ _ fun _ => ln_cd _ (ln_c _) (ln_F _ _ _ _)
  case aastore => exact ln_pr _ fun _ _ => ln_p1 _ fun _ _ => ln_pr _ fun _ _ => ln_arr _ _ _ fun _ _ _ => ln_idx _ _ fun _ => ln_fit _ _ _ (ln_F _ _ _ _)
  case new => exact ln_new _ _ fun _ => ln_F _ _ _ _
  case newarray => exact ln_p1 _ fun _ _ => ln_cd _ (ln_new _ _ fun _ => ln_F _ _ _ _) (ln_c _)
  case anewarray => exact ln_p1 _ fun _ _ => ln_cd _ (ln_new _ _ fun _ => ln_F _ _ _ _) (ln_c _)
  case multianewarray => exact ln_p2 _ fun _ _ _ => ln_cd _ (ln_many _ _ _ _ fun _ => ln_F _ _ _ _) (ln_c _)
  case ldc =>
    unfold am_ins; dsimp only; split
    · exact ln_F _ _ _ _
    · exact ln_F _ _ _ _
    · exact ln_c _
  case ldc_w =>
    unfold am_ins; dsimp only; split
    · exact ln_F _ _ _ _
    · exact ln_F _ _ _ _
    · exact ln_c _
  case dup =>
    unfold am_ins; dsimp only; split
    · exact ln_F _ _ _ _
    · exact ln_F _ _ _ _
    · exact ln_c _
  case dup2 =>
    unfold am_ins; dsimp only; split
    · exact ln_F _ _ _ _
    · exact ln_c _
  case pop =>
    unfold am_ins; dsimp only; split
    · exact ln_F _ _ _ _
    · exact ln_F _ _ _ _
    · exact ln_c _
  case arraylength =>
    unfold am_ins; dsimp only; split
    · exact ln_pr _ fun _ _ => ln_arr _ _ _ fun _ _ _ => ln_F _ _ _ _
    · exact ln_pr _ fun _ _ => ln_ct _ fun _ => ln_cd _ (ln_F _ _ _ _) (ln_c _)
  case bastore =>
    unfold am_ins; dsimp only; split
    · exact ln_ast _ _ _ _ _ _
    · split
      · exact ln_bit _ (ln_ast _ _ _ _ _ _)
      · exact ln_c _
  all_goals exact ln_c none
theorem ln_body (Γ : am_G) (bl : List am_B) (p : Nat ⊕ List am_A) (ls : List (Option am_V)) (st : List am_V) (σ : am_S) : am_lin (fun F => am_body Γ bl F p ls st σ) := by
  rcases p with k | _ | ⟨q, r⟩
  · show am_lin (fun F => am_blk bl k fun is => F (.inr is) ls st σ)
    unfold am_blk
    cases bl[k]? with
    | none => exact ln_c none
    | some b => exact ln_F _ _ _ _
  · exact ln_c none
  · exact ln_ins _ _ _ _ _ _ _
section
variable {Γ : am_G} {bl : List am_B} {p : Nat ⊕ List am_A} {ls : List (Option am_V)} {st : List am_V} {σ : am_S}
theorem am_run_mono : ∀ (n : Nat) (p : Nat ⊕ List am_A) (ls : List (Option am_V)) (st : List am_V) (σ : am_S) (x : am_O), am_run Γ bl n p ls st σ = some x → am_run Γ bl (n + 1) p ls st σ = some x := by
  intro n
  induction n with
  | zero => intro p ls st σ x h; cases h
  | succ n ih =>
    intro p ls st σ x h
    rcases ln_body Γ bl p ls st σ with ⟨c, hc⟩ | ⟨p', ls', st', σ', hc⟩
    · have h1 : am_run Γ bl (n + 1) p ls st σ = c := hc _
      have h2 : am_run Γ bl (n + 1 + 1) p ls st σ = c := hc _
      rw [h2, ← h1]; exact h
    · have h1 : am_run Γ bl (n + 1) p ls st σ = am_run Γ bl n p' ls' st' σ' := hc _
      have h2 : am_run Γ bl (n + 1 + 1) p ls st σ = am_run Γ bl (n + 1) p' ls' st' σ' := hc _
      rw [h2]; rw [h1] at h; exact ih _ _ _ _ _ h
theorem am_run_le {n m : Nat} (h : n ≤ m) {x : am_O} (hx : am_run Γ bl n p ls st σ = some x) : am_run Γ bl m p ls st σ = some x := by
  induction h with
  | refl => exact hx
  | step _ ih => exact am_run_mono _ _ _ _ _ _ ih
end
noncomputable def am_E (Γ : am_G) (bl : List am_B) : am_F := fun p ls st σ => Classical.epsilon (fun o => (∃ n x, o = some x ∧ am_run Γ bl n p ls st σ = some x) ∨ (o = none ∧ ∀ n, am_run Γ bl n p ls st σ = none))
section
variable {Γ : am_G} {bl : List am_B} {p : Nat ⊕ List am_A} {ls : List (Option am_V)} {st : List am_V} {σ : am_S}
theorem am_E_spec (Γ : am_G) (bl : List am_B) (p : Nat ⊕ List am_A) (ls : List (Option am_V)) (st : List am_V) (σ : am_S) : (∃ n x, am_E Γ bl p ls st σ = some x ∧ am_run Γ bl n p ls st σ = some x) ∨ (am_E Γ bl p ls st σ = none ∧ ∀ n, am_run Γ bl n p ls st σ = none) := by
  refine Classical.epsilon_spec (p := fun o => (∃ n x, o = some x ∧ am_run Γ bl n p ls st σ = some x) ∨ (o = none ∧ ∀ n, am_run Γ bl n p ls st σ = none)) ?_
  by_cases h : ∃ n x, am_run Γ bl n p ls st σ = some x
  · obtain ⟨n, x, h⟩ := h
    exact ⟨some x, Or.inl ⟨n, x, rfl, h⟩⟩
  · refine ⟨none, Or.inr ⟨rfl, fun n => ?_⟩⟩
    cases h1 : am_run Γ bl n p ls st σ with
    | none => rfl
    | some x => exact absurd ⟨n, x, h1⟩ h
theorem am_E_some {x : am_O} : am_E Γ bl p ls st σ = some x ↔ ∃ n, am_run Γ bl n p ls st σ = some x := by
  rcases am_E_spec Γ bl p ls st σ with ⟨n, y, h1, h2⟩ | ⟨h1, h2⟩
  · constructor
    · intro h; exact ⟨n, by rw [h2, ← h1]; exact h⟩
    · rintro ⟨m, h⟩
      rw [h1, ← am_run_le (Nat.le_max_left n m) h2, am_run_le (Nat.le_max_right n m) h]
  · constructor
    · intro h; rw [h1] at h; cases h
    · rintro ⟨m, h⟩; rw [h2] at h; cases h
theorem am_E_eq {o : Option am_O} (h : ∀ x, (∃ n, am_run Γ bl n p ls st σ = some x) ↔ o = some x) : am_E Γ bl p ls st σ = o := by
  cases o with
  | some x => exact am_E_some.mpr ((h x).mpr rfl)
  | none =>
    cases h1 : am_E Γ bl p ls st σ with
    | none => rfl
    | some x => exact absurd ((h x).mp (am_E_some.mp h1)) (by simp)
/-- am_E is a fixed point -/
theorem am_E_fix (p : Nat ⊕ List am_A) (ls : List (Option am_V)) (st : List am_V) (σ : am_S) : am_E Γ bl p ls st σ = am_body Γ bl (am_E Γ bl) p ls st σ := by
  rcases ln_body Γ bl p ls st σ with ⟨c, hc⟩ | ⟨p', ls', st', σ', hc⟩
  · refine Eq.trans ?_ (hc _).symm
    refine am_E_eq fun x => ⟨?_, fun h => ⟨1, by rw [← h]; exact hc _⟩⟩
    rintro ⟨n, h⟩
    cases n with
    | zero => cases h
    | succ n => rw [← h]; exact (hc _).symm
  · refine Eq.trans ?_ (hc _).symm
    refine am_E_eq fun x => ⟨?_, fun h => ?_⟩
    · rintro ⟨n, h⟩
      cases n with
      | zero => cases h
      | succ n => exact am_E_some.mpr ⟨n, by rw [← h]; exact (hc _).symm⟩
    · obtain ⟨n, h⟩ := am_E_some.mp h
      exact ⟨n + 1, by rw [← h]; exact hc _⟩
end
/-- unrolled, but not beyond the beginning of a block that is a cut -/
def am_unr (Γ : am_G) (bl : List am_B) (F : am_F) : Nat → am_F
  | 0 => F
  | n + 1 => fun p ls st σ => match p with
    | .inl k => (match bl[k]? with
      | some (true, _) => F (.inl k) ls st σ
      | some (false, is) => am_unr Γ bl F n (.inr is) ls st σ
      | none => none)
    | .inr [] => none
    | .inr (q :: r) => am_ins Γ (am_unr Γ bl F n) q.1 q.2 r ls st σ
theorem am_unr_E (Γ : am_G) (bl : List am_B) : ∀ n : Nat, am_unr Γ bl (am_E Γ bl) n = am_E Γ bl := by
  intro n
  induction n with
  | zero => rfl
  | succ n ih =>
    funext p ls st σ
    rcases p with k | _ | ⟨q, r⟩
    · show (match bl[k]? with
        | some (true, _) => am_E Γ bl (.inl k) ls st σ
        | some (false, is) => am_unr Γ bl (am_E Γ bl) n (.inr is) ls st σ
        | none => none) = _
      rw [ih]
      have hE : am_E Γ bl (.inl k) ls st σ = am_blk bl k fun is => am_E Γ bl (.inr is) ls st σ := am_E_fix _ _ _ _
      unfold am_blk at hE
      cases h : bl[k]? with
      | none => rw [h] at hE; exact hE.symm
      | some b =>
        rw [h] at hE
        obtain ⟨c, is⟩ := b
        cases c
        · exact hE.symm
        · rfl
    · rw [am_E_fix]; rfl
    · show am_ins Γ (am_unr Γ bl (am_E Γ bl) n) q.1 q.2 r ls st σ = _
      rw [ih, am_E_fix]
      rfl
/-- the code of a block, unrolled -/
def am_at (Γ : am_G) (bl : List am_B) (F : am_F) (n k : Nat) (ls : List (Option am_V)) (st : List am_V) (σ : am_S) : Option am_O := am_blk bl k fun is => am_unr Γ bl F n (.inr is) ls st σ
theorem am_cut (Γ : am_G) (bl : List am_B) (n k : Nat) (ls : List (Option am_V)) (st : List am_V) (σ : am_S) : am_E Γ bl (.inl k) ls st σ = am_at Γ bl (am_E Γ bl) n k ls st σ := by
  rw [am_E_fix]
  unfold am_at
  rw [am_unr_E]
  rfl
