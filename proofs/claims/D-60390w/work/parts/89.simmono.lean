/-! SIMULATION, 10: no step takes a cell away -/
def am_le (σ τ : am_S) : Prop := σ.1.length ≤ τ.1.length ∧ am_tot σ.1 ≤ am_tot τ.1
theorem mo_r (σ : am_S) : am_le σ σ := ⟨Nat.le_refl _, Nat.le_refl _⟩
theorem mo_t {σ τ ρ : am_S} (h1 : am_le σ τ) (h2 : am_le τ ρ) : am_le σ ρ := ⟨Nat.le_trans h1.1 h2.1, Nat.le_trans h1.2 h2.2⟩
theorem mo_u {σ τ ρ : am_S} (h2 : am_le τ ρ) (h1 : am_le σ τ) : am_le σ ρ := mo_t h1 h2
theorem mo_s {σ τ : am_S} (h : τ.1 = σ.1) : am_le σ τ := ⟨by rw [h]; exact Nat.le_refl _, by rw [h]; exact Nat.le_refl _⟩
theorem mo_set {σ : am_S} {a : Nat} {q q' : am_C} {g : am_H} (h : σ.1[a]? = some q) (e : am_siz q' = am_siz q) : am_le σ (σ.1.set a q', g) := ⟨by simp, by show _ ≤ am_tot (σ.1.set a q'); rw [am_tot_set h e]; exact Nat.le_refl _⟩
theorem mo_app {σ : am_S} (qs : List am_C) (g : am_H) : am_le σ (σ.1 ++ qs, g) := ⟨by simp, by show _ ≤ am_tot (σ.1 ++ qs); unfold am_tot; simp⟩
section
variable {σ : am_S} {out : am_O}
theorem mo_cmp {c : Jvm.ClassFile.Cond} {x y : Int} {a b : Option am_O} (ha : a = some out → am_le σ out.2) (hb : b = some out → am_le σ out.2) (h : am_cmp c x y a b = some out) : am_le σ out.2 := by
  cases c <;> (unfold am_cmp at h; dsimp only at h; split at h <;> first | exact ha h | exact hb h)
theorem mo_acmp {c : ACond} {X Y : am_R} {a b : Option am_O} (ha : a = some out → am_le σ out.2) (hb : b = some out → am_le σ out.2) (h : am_acmp c X Y a b = some out) : am_le σ out.2 := by
  unfold am_acmp at h
  split at h
  · cases c <;> (dsimp only at h; split at h <;> first | exact ha h | exact hb h)
  · cases h
theorem mo_nul {X : am_R} {a b : Option am_O} (ha : a = some out → am_le σ out.2) (hb : b = some out → am_le σ out.2) (h : am_nul X a b = some out) : am_le σ out.2 := by
  unfold am_nul at h
  split at h
  · exact ha h
  · exact hb h
theorem mo_sw {F : Nat → Option am_O} {x : Int} (hF : ∀ b, F b = some out → am_le σ out.2) : ∀ (ts : List Nat) (lo : Int) (d : Nat), am_sw F x lo ts d = some out → am_le σ out.2
  | [], _, d, h => hF d h
  | t :: r, lo, d, h => by
    unfold am_sw at h
    split at h
    · exact hF t h
    · exact mo_sw hF r _ d h
theorem mo_lk {F : Nat → Option am_O} {x : Int} (hF : ∀ b, F b = some out → am_le σ out.2) : ∀ (ps : List (Int × Int)) (ts : List Nat) (d : Nat), am_lk F x ps ts d = some out → am_le σ out.2
  | [], _, d, h => hF d h
  | _ :: _, [], _, h => by cases h
  | q :: ps, t :: r, d, h => by
    unfold am_lk at h
    split at h
    · exact hF t h
    · exact mo_lk hF ps r d h
theorem mo_fit {τ : am_S} {t : Nat} {Y : am_R} {k : Option am_O} (h : am_fit τ t Y k = some out) : k = some out := by
  unfold am_fit at h
  split at h
  · obtain ⟨j, -, h1⟩ := iv_ct h
    exact (iv_cd1 h1).2
  · obtain ⟨a, n, rs, -, -, h1⟩ := iv_arr h
    exact h1
  · obtain ⟨a, rs, -, -, h1⟩ := iv_obj h
    exact h1
  · cases h
variable {Γ : am_G} {F : am_F} {o : List Nat} {r : List am_A} {ls : List (Option am_V)} {st : List am_V}
theorem mo_getf (hF : ∀ p ls st τ o, F p ls st τ = some o → am_le τ o.2) (h : am_getf F o r ls st σ = some out) : am_le σ out.2 := by
  unfold am_getf at h
  split at h
  · obtain ⟨Y, s1, -, h1⟩ := iv_pr h
    obtain ⟨a, rs, -, -, h2⟩ := iv_obj h1
    exact hF _ _ _ _ _ h2
  · obtain ⟨Y, s1, -, h1⟩ := iv_pr h
    obtain ⟨a, rs, -, -, h2⟩ := iv_obj h1
    exact hF _ _ _ _ _ h2
  · obtain ⟨Y, s1, -, h1⟩ := iv_pr h
    obtain ⟨a, rs, -, -, h2⟩ := iv_obj h1
    exact hF _ _ _ _ _ h2
  · cases h
theorem mo_putf (hF : ∀ p ls st τ o, F p ls st τ = some o → am_le τ o.2) (h : am_putf F o r ls st σ = some out) : am_le σ out.2 := by
  unfold am_putf at h
  split at h
  · obtain ⟨v, s0, -, h0⟩ := iv_p1 h
    obtain ⟨Y, s1, -, h1⟩ := iv_pr h0
    obtain ⟨a, rs, -, -, h2⟩ := iv_obj h1
    exact mo_u (hF _ _ _ _ _ h2) (mo_s rfl)
  · obtain ⟨Y, Z, s1, -, h1⟩ := iv_rr h
    obtain ⟨a, rs, -, hq, h2⟩ := iv_obj h1
    exact mo_u (hF _ _ _ _ _ h2) (mo_set hq rfl)
  · obtain ⟨Y, Z, s1, -, h1⟩ := iv_rr h
    obtain ⟨a, rs, -, hq, h2⟩ := iv_obj h1
    obtain ⟨v, -, h3⟩ := iv_ob h2
    exact mo_u (hF _ _ _ _ _ h3) (mo_s rfl)
  · obtain ⟨v, s0, -, h0⟩ := iv_p1 h
    obtain ⟨Y, s1, -, h1⟩ := iv_pr h0
    obtain ⟨a, rs, -, -, h2⟩ := iv_obj h1
    obtain ⟨-, h3⟩ := iv_bit h2
    exact mo_u (hF _ _ _ _ _ h3) (mo_s rfl)
  · cases h
theorem mo_ald {t : Nat} (hF : ∀ p ls st τ o, F p ls st τ = some o → am_le τ o.2) (h : am_ald F t r ls st σ = some out) : am_le σ out.2 := by
  obtain ⟨x, s1, -, h1⟩ := iv_p1 h
  obtain ⟨y, s2, -, h2⟩ := iv_pr h1
  obtain ⟨a, n, rs, -, -, h3⟩ := iv_arr h2
  obtain ⟨-, h4⟩ := iv_idx h3
  exact hF _ _ _ _ _ h4
theorem mo_ast {t : Nat} {w : Int → Int} (hF : ∀ p ls st τ o, F p ls st τ = some o → am_le τ o.2) (h : am_ast F t w r ls st σ = some out) : am_le σ out.2 := by
  obtain ⟨v, s0, -, h0⟩ := iv_p1 h
  obtain ⟨x, s1, -, h1⟩ := iv_p1 h0
  obtain ⟨y, s2, -, h2⟩ := iv_pr h1
  obtain ⟨a, n, rs, -, -, h3⟩ := iv_arr h2
  obtain ⟨-, h4⟩ := iv_idx h3
  obtain ⟨-, h5⟩ := iv_cd0 h4
  exact mo_u (hF _ _ _ _ _ h5) (mo_s rfl)
/-- how a call goes on: it came back with values, or threw -/
theorem iv_call {c i rty x : Nat} {as : List am_V} {f : Nat → am_S → Option am_O} {g : Nat → am_H → Option am_O} {k : List am_V → am_S → Option am_O} (h : am_call Γ σ c i rty x as f g k = some out) :
    (∃ τ, Γ c i as σ = some (.inl none, τ) ∧ k [] τ = some out) ∨ (∃ v τ, Γ c i as σ = some (.inl (some v), τ) ∧ k [v] τ = some out) ∨ (∃ a τ, Γ c i as σ = some (.inr a, τ) ∧ (f a τ = some out ∨ (τ.1 = σ.1 ∧ g a τ.2 = some out))) := by
  unfold am_call at h
  split at h
  · split at h
    · unfold am_cV at h; split at h
      · rename_i e; exact Or.inl ⟨_, e, h⟩
      · rename_i e; exact Or.inr (Or.inr ⟨_, _, e, Or.inl h⟩)
      · cases h
    · unfold am_cI at h; split at h
      · rename_i e; exact Or.inr (Or.inl ⟨_, _, e, h⟩)
      · rename_i e; exact Or.inr (Or.inr ⟨_, _, e, Or.inl h⟩)
      · cases h
    · unfold am_cL at h; split at h
      · rename_i e; exact Or.inr (Or.inl ⟨_, _, e, h⟩)
      · rename_i e; exact Or.inr (Or.inr ⟨_, _, e, Or.inl h⟩)
      · cases h
    · unfold am_cR at h; split at h
      · rename_i e; exact Or.inr (Or.inl ⟨_, _, e, h⟩)
      · rename_i e; exact Or.inr (Or.inr ⟨_, _, e, Or.inl h⟩)
      · cases h
  · have key : ∀ (τ : am_S) (kk : am_S → Option am_O), (if τ.1 = σ.1 then kk (σ.1, τ.2) else none) = some out → τ.1 = σ.1 ∧ kk τ = some out := by
      intro τ kk h
      split at h
      · rename_i e
        exact ⟨e, by rw [show τ = (σ.1, τ.2) from by rw [← e]]; exact h⟩
      · cases h
    have key2 : ∀ (τ : am_S) (kk : am_H → Option am_O), (if τ.1 = σ.1 then kk τ.2 else none) = some out → τ.1 = σ.1 ∧ kk τ.2 = some out := by
      intro τ kk h
      split at h
      · rename_i e; exact ⟨e, h⟩
      · cases h
    split at h
    · unfold am_xV at h; split at h
      · rename_i e; exact Or.inl ⟨_, e, (key _ (k []) h).2⟩
      · rename_i e; exact Or.inr (Or.inr ⟨_, _, e, Or.inr (key2 _ (g _) h)⟩)
      · cases h
    · unfold am_xI at h; split at h
      · rename_i e; exact Or.inr (Or.inl ⟨_, _, e, (key _ (k [_]) h).2⟩)
      · rename_i e; exact Or.inr (Or.inr ⟨_, _, e, Or.inr (key2 _ (g _) h)⟩)
      · cases h
    · unfold am_xL at h; split at h
      · rename_i e; exact Or.inr (Or.inl ⟨_, _, e, (key _ (k [_]) h).2⟩)
      · rename_i e; exact Or.inr (Or.inr ⟨_, _, e, Or.inr (key2 _ (g _) h)⟩)
      · cases h
    · unfold am_xR at h; split at h
      · rename_i e; exact Or.inr (Or.inl ⟨_, _, e, (key _ (k [_]) h).2⟩)
      · rename_i e; exact Or.inr (Or.inr ⟨_, _, e, Or.inr (key2 _ (g _) h)⟩)
      · cases h
theorem mo_hnd (hF : ∀ p ls st τ o, F p ls st τ = some o → am_le τ o.2) {h0 a : Nat} {τ : am_S} (h : am_hnd F ls h0 a τ = some out) : am_le τ out.2 := by
  cases h0 with
  | zero => cases h; exact mo_r _
  | succ n =>
    replace h : am_obj τ (am_a a) am_ise (fun _ _ => F (.inl n) ls [am_r (am_a a)] τ) = some out := h
    obtain ⟨b, rs, -, -, h1⟩ := iv_obj h
    exact hF _ _ _ _ _ h1
theorem mo_hnx (hF : ∀ p ls st τ o, F p ls st τ = some o → am_le τ o.2) {S : List am_C} {h0 a : Nat} {g : am_H} (h : am_hnx F S ls h0 a g = some out) : am_le (S, g) out.2 := by
  cases h0 with
  | zero => cases h; exact mo_r _
  | succ n =>
    replace h : am_obj (S, g) (am_a a) am_ise (fun _ _ => F (.inl n) ls [am_r (am_a a)] (S, g)) = some out := h
    obtain ⟨b, rs, -, -, h1⟩ := iv_obj h
    exact hF _ _ _ _ _ h1
theorem mo_call (hΓ : ∀ c i as τ o, Γ c i as τ = some o → am_le τ o.2) (hF : ∀ p ls st τ o, F p ls st τ = some o → am_le τ o.2) {c i rty x h0 : Nat} {as rest : List am_V} (h : am_call Γ σ c i rty x as (am_hnd F ls h0) (am_hnx F σ.1 ls h0) (fun vs τ => F (.inr r) ls (vs ++ rest) τ) = some out) : am_le σ out.2 := by
  rcases iv_call h with ⟨τ, h1, h2⟩ | ⟨v, τ, h1, h2⟩ | ⟨a, τ, h1, h2⟩
  · exact mo_t (hΓ _ _ _ _ _ h1) (hF _ _ _ _ _ h2)
  · exact mo_t (hΓ _ _ _ _ _ h1) (hF _ _ _ _ _ h2)
  · rcases h2 with h2 | ⟨e, h2⟩
    · exact mo_t (hΓ _ _ _ _ _ h1) (mo_hnd hF h2)
    · exact mo_t (mo_s (σ := σ) (τ := (σ.1, τ.2)) rfl) (mo_hnx hF h2)
theorem mo_inv (hΓ : ∀ c i as τ o, Γ c i as τ = some o → am_le τ o.2) (hF : ∀ p ls st τ o, F p ls st τ = some o → am_le τ o.2) (h : am_inv Γ F o r ls st σ = some out) : am_le σ out.2 := by
  unfold am_inv at h
  split at h
  · obtain ⟨-, h1⟩ := iv_cd1 h
    split at h1
    · exact mo_call hΓ hF h1
    · unfold am_recv at h1; split at h1
      · obtain ⟨a, rs, -, -, h2⟩ := iv_obj h1
        exact mo_call hΓ hF h2
      · cases h1
    · unfold am_rcv2 at h1; split at h1
      · obtain ⟨a, -, h2⟩ := iv_hp h1
        exact mo_call hΓ hF h2
      · cases h1
    · obtain ⟨Y, s1, -, h2⟩ := iv_pr h1
      obtain ⟨a, -, h3⟩ := iv_hp h2
      exact hF _ _ _ _ _ h3
    · obtain ⟨x, y, s1, -, h2⟩ := iv_p2 h1
      exact hF _ _ _ _ _ h2
    · obtain ⟨x, y, s1, -, h2⟩ := iv_p2 h1
      exact hF _ _ _ _ _ h2
    · obtain ⟨Y, s1, -, h2⟩ := iv_pr h1
      obtain ⟨a, -, h3⟩ := iv_ct h2
      obtain ⟨-, h4⟩ := iv_cd1 h3
      exact hF _ _ _ _ _ h4
    · obtain ⟨x, s0, -, h0⟩ := iv_p1 h1
      obtain ⟨Y, s1, -, h2⟩ := iv_pr h0
      obtain ⟨a, -, h3⟩ := iv_ct h2
      obtain ⟨-, h4⟩ := iv_cd1 h3
      obtain ⟨-, h5⟩ := iv_idx h4
      exact hF _ _ _ _ _ h5
    · obtain ⟨Y, Z, s1, -, h2⟩ := iv_rr h1
      obtain ⟨a, rs, -, -, h3⟩ := iv_obj h2
      obtain ⟨j, -, h4⟩ := iv_ct h3
      obtain ⟨-, h5⟩ := iv_cd1 h4
      exact hF _ _ _ _ _ h5
  · cases h
theorem mo_ins (hΓ : ∀ c i as τ o, Γ c i as τ = some o → am_le τ o.2) (hF : ∀ p ls st τ o, F p ls st τ = some o → am_le τ o.2) {i : Instr} (h : am_ins Γ F i o r ls st σ = some out) : am_le σ out.2 := by
  cases i
  case nop =>
    exact mo_u (hF _ _ _ _ _ h) (mo_r _)
  case lconst =>
    exact mo_u (hF _ _ _ _ _ h) (mo_r _)
  case aconst_null =>
    exact mo_u (hF _ _ _ _ _ h) (mo_r _)
  case ldc2_w =>
    exact mo_u (hF _ _ _ _ _ h) (mo_r _)
  case goto =>
    exact mo_u (hF _ _ _ _ _ h) (mo_r _)
  case getstatic =>
    exact mo_u (hF _ _ _ _ _ h) (mo_r _)
  case iconst =>
    obtain ⟨-, h1⟩ := iv_cd1 h
    exact mo_u (hF _ _ _ _ _ h1) (mo_r _)
  case bipush =>
    obtain ⟨-, h1⟩ := iv_cd1 h
    exact mo_u (hF _ _ _ _ _ h1) (mo_r _)
  case sipush =>
    obtain ⟨-, h1⟩ := iv_cd1 h
    exact mo_u (hF _ _ _ _ _ h1) (mo_r _)
  case iload =>
    obtain ⟨x, -, h1⟩ := iv_ldi h
    exact mo_u (hF _ _ _ _ _ h1) (mo_r _)
  case iload_n =>
    obtain ⟨x, -, h1⟩ := iv_ldi h
    exact mo_u (hF _ _ _ _ _ h1) (mo_r _)
  case lload =>
    obtain ⟨x, -, h1⟩ := iv_ldl h
    exact mo_u (hF _ _ _ _ _ h1) (mo_r _)
  case lload_n =>
    obtain ⟨x, -, h1⟩ := iv_ldl h
    exact mo_u (hF _ _ _ _ _ h1) (mo_r _)
  case aload =>
    obtain ⟨x, -, h1⟩ := iv_ldr h
    exact mo_u (hF _ _ _ _ _ h1) (mo_r _)
  case aload_n =>
    obtain ⟨x, -, h1⟩ := iv_ldr h
    exact mo_u (hF _ _ _ _ _ h1) (mo_r _)
  case istore =>
    obtain ⟨x, s1, -, h1⟩ := iv_p1 h
    obtain ⟨-, h2⟩ := iv_cd1 h1
    exact mo_u (hF _ _ _ _ _ h2) (mo_r _)
  case istore_n =>
    obtain ⟨x, s1, -, h1⟩ := iv_p1 h
    obtain ⟨-, h2⟩ := iv_cd1 h1
    exact mo_u (hF _ _ _ _ _ h2) (mo_r _)
  case lstore =>
    obtain ⟨x, s1, -, h1⟩ := iv_l1 h
    obtain ⟨-, h2⟩ := iv_cd1 h1
    exact mo_u (hF _ _ _ _ _ h2) (mo_r _)
  case lstore_n =>
    obtain ⟨x, s1, -, h1⟩ := iv_l1 h
    obtain ⟨-, h2⟩ := iv_cd1 h1
    exact mo_u (hF _ _ _ _ _ h2) (mo_r _)
  case astore =>
    obtain ⟨x, s1, -, h1⟩ := iv_pr h
    obtain ⟨-, h2⟩ := iv_cd1 h1
    exact mo_u (hF _ _ _ _ _ h2) (mo_r _)
  case astore_n =>
    obtain ⟨x, s1, -, h1⟩ := iv_pr h
    obtain ⟨-, h2⟩ := iv_cd1 h1
    exact mo_u (hF _ _ _ _ _ h2) (mo_r _)
  case iinc =>
    obtain ⟨x, -, h1⟩ := iv_ldi h
    obtain ⟨-, h2⟩ := iv_cd1 h1
    exact mo_u (hF _ _ _ _ _ h2) (mo_r _)
  case iadd =>
    obtain ⟨x, y, s1, -, h1⟩ := iv_p2 h
    exact mo_u (hF _ _ _ _ _ h1) (mo_r _)
  case isub =>
    obtain ⟨x, y, s1, -, h1⟩ := iv_p2 h
    exact mo_u (hF _ _ _ _ _ h1) (mo_r _)
  case imul =>
    obtain ⟨x, y, s1, -, h1⟩ := iv_p2 h
    exact mo_u (hF _ _ _ _ _ h1) (mo_r _)
  case iand =>
    obtain ⟨x, y, s1, -, h1⟩ := iv_p2 h
    exact mo_u (hF _ _ _ _ _ h1) (mo_r _)
  case ior =>
    obtain ⟨x, y, s1, -, h1⟩ := iv_p2 h
    exact mo_u (hF _ _ _ _ _ h1) (mo_r _)
  case ixor =>
    obtain ⟨x, y, s1, -, h1⟩ := iv_p2 h
    exact mo_u (hF _ _ _ _ _ h1) (mo_r _)
  case ishl =>
    obtain ⟨x, y, s1, -, h1⟩ := iv_p2 h
    exact mo_u (hF _ _ _ _ _ h1) (mo_r _)
  case ishr =>
    obtain ⟨x, y, s1, -, h1⟩ := iv_p2 h
    exact mo_u (hF _ _ _ _ _ h1) (mo_r _)
  case idiv =>
    obtain ⟨x, y, s1, -, h1⟩ := iv_p2 h
    split at h1
    · cases h1
    · exact mo_u (hF _ _ _ _ _ h1) (mo_r _)
  case irem =>
    obtain ⟨x, y, s1, -, h1⟩ := iv_p2 h
    split at h1
    · cases h1
    · exact mo_u (hF _ _ _ _ _ h1) (mo_r _)
  case ineg =>
    obtain ⟨x, s1, -, h1⟩ := iv_p1 h
    exact mo_u (hF _ _ _ _ _ h1) (mo_r _)
  case i2l =>
    obtain ⟨x, s1, -, h1⟩ := iv_p1 h
    exact mo_u (hF _ _ _ _ _ h1) (mo_r _)
  case i2s =>
    obtain ⟨x, s1, -, h1⟩ := iv_p1 h
    exact mo_u (hF _ _ _ _ _ h1) (mo_r _)
  case i2b =>
    obtain ⟨x, s1, -, h1⟩ := iv_p1 h
    exact mo_u (hF _ _ _ _ _ h1) (mo_r _)
  case ladd =>
    obtain ⟨x, y, s1, -, h1⟩ := iv_l2 h
    exact mo_u (hF _ _ _ _ _ h1) (mo_r _)
  case land =>
    obtain ⟨x, y, s1, -, h1⟩ := iv_l2 h
    exact mo_u (hF _ _ _ _ _ h1) (mo_r _)
  case lor =>
    obtain ⟨x, y, s1, -, h1⟩ := iv_l2 h
    exact mo_u (hF _ _ _ _ _ h1) (mo_r _)
  case lcmp =>
    obtain ⟨x, y, s1, -, h1⟩ := iv_l2 h
    exact mo_u (hF _ _ _ _ _ h1) (mo_r _)
  case lshl =>
    obtain ⟨x, s1, -, h1⟩ := iv_p1 h
    obtain ⟨y, s2, -, h2⟩ := iv_l1 h1
    exact mo_u (hF _ _ _ _ _ h2) (mo_r _)
  case ifCond =>
    obtain ⟨x, s1, -, h1⟩ := iv_p1 h
    exact mo_cmp (fun z => mo_u (hF _ _ _ _ _ z) (mo_r _)) (fun z => mo_u (hF _ _ _ _ _ z) (mo_r _)) h1
  case if_icmp =>
    obtain ⟨x, y, s1, -, h1⟩ := iv_p2 h
    exact mo_cmp (fun z => mo_u (hF _ _ _ _ _ z) (mo_r _)) (fun z => mo_u (hF _ _ _ _ _ z) (mo_r _)) h1
  case if_acmp =>
    obtain ⟨x, y, s1, -, h1⟩ := iv_rr h
    exact mo_acmp (fun z => mo_u (hF _ _ _ _ _ z) (mo_r _)) (fun z => mo_u (hF _ _ _ _ _ z) (mo_r _)) h1
  case ifnull =>
    obtain ⟨x, s1, -, h1⟩ := iv_pr h
    exact mo_nul (fun z => mo_u (hF _ _ _ _ _ z) (mo_r _)) (fun z => mo_u (hF _ _ _ _ _ z) (mo_r _)) h1
  case ifnonnull =>
    obtain ⟨x, s1, -, h1⟩ := iv_pr h
    exact mo_nul (fun z => mo_u (hF _ _ _ _ _ z) (mo_r _)) (fun z => mo_u (hF _ _ _ _ _ z) (mo_r _)) h1
  case tableswitch =>
    obtain ⟨x, s1, -, h1⟩ := iv_p1 h
    exact mo_sw (fun b z => mo_u (hF _ _ _ _ _ z) (mo_r _)) _ _ _ h1
  case lookupswitch =>
    obtain ⟨x, s1, -, h1⟩ := iv_p1 h
    exact mo_lk (fun b z => mo_u (hF _ _ _ _ _ z) (mo_r _)) _ _ _ h1
  case ireturn =>
    obtain ⟨x, s1, -, h1⟩ := iv_p1 h
    obtain ⟨-, h2⟩ := iv_cd1 h1
    rcases iv_cd h2 with ⟨-, h3⟩ | ⟨-, h3⟩
    · cases h3; exact mo_r _
    · obtain ⟨-, h4⟩ := iv_bit h3; cases h4; exact mo_r _
  case lreturn =>
    obtain ⟨x, s1, -, h1⟩ := iv_l1 h
    obtain ⟨-, h2⟩ := iv_cd1 h1
    cases h2; exact mo_r _
  case areturn =>
    obtain ⟨x, s1, -, h1⟩ := iv_pr h
    obtain ⟨-, h2⟩ := iv_cd1 h1
    cases h2; exact mo_r _
  case return_ =>
    obtain ⟨-, h2⟩ := iv_cd1 h
    cases h2; exact mo_r _
  case athrow =>
    obtain ⟨x, s1, -, h1⟩ := iv_pr h
    obtain ⟨a, -, h2⟩ := iv_hp h1
    cases h2; exact mo_r _
  case getfield =>
    exact mo_getf hF h
  case putfield =>
    exact mo_putf hF h
  case invokevirtual =>
    exact mo_inv hΓ hF h
  case invokespecial =>
    exact mo_inv hΓ hF h
  case invokestatic =>
    exact mo_inv hΓ hF h
  case iaload =>
    exact mo_ald hF h
  case baload =>
    exact mo_ald hF h
  case saload =>
    exact mo_ald hF h
  case iastore =>
    exact mo_ast hF h
  case sastore =>
    exact mo_ast hF h
  case caload =>
    obtain ⟨x, s1, -, h1⟩ := iv_p1 h
    obtain ⟨y, s2, -, h2⟩ := iv_pr h1
    obtain ⟨j, -, h3⟩ := iv_ct h2
    obtain ⟨-, h4⟩ := iv_cd1 h3
    obtain ⟨-, h5⟩ := iv_idx h4
    exact mo_u (hF _ _ _ _ _ h5) (mo_r _)
  case laload =>
    obtain ⟨x, s1, -, h1⟩ := iv_p1 h
    obtain ⟨y, s2, -, h2⟩ := iv_pr h1
    obtain ⟨a, n, rs, -, -, h3⟩ := iv_arr h2
    obtain ⟨-, h4⟩ := iv_idx h3
    exact mo_u (hF _ _ _ _ _ h4) (mo_r _)
  case aaload =>
    obtain ⟨x, s1, -, h1⟩ := iv_p1 h
    obtain ⟨y, s2, -, h2⟩ := iv_pr h1
    obtain ⟨a, n, rs, -, -, h3⟩ := iv_arr h2
    obtain ⟨-, h4⟩ := iv_idx h3
    exact mo_u (hF _ _ _ _ _ h4) (mo_r _)
  case lastore =>
    obtain ⟨v, s0, -, h0⟩ := iv_l1 h
    obtain ⟨x, s1, -, h1⟩ := iv_p1 h0
    obtain ⟨y, s2, -, h2⟩ := iv_pr h1
    obtain ⟨a, n, rs, -, -, h3⟩ := iv_arr h2
    obtain ⟨-, h4⟩ := iv_idx h3
    obtain ⟨-, h5⟩ := iv_cd0 h4
    exact mo_u (hF _ _ _ _ _ h5) (mo_s rfl)
  case aastore =>
    obtain ⟨v, s0, -, h0⟩ := iv_pr h
    obtain ⟨x, s1, -, h1⟩ := iv_p1 h0
    obtain ⟨y, s2, -, h2⟩ := iv_pr h1
    obtain ⟨a, n, rs, -, hq, h3⟩ := iv_arr h2
    obtain ⟨-, h4⟩ := iv_idx h3
    have h5 := mo_fit h4
    exact mo_u (hF _ _ _ _ _ h5) (mo_set hq rfl)
  case new =>
    obtain ⟨-, h1⟩ := iv_cd1 h
    exact mo_u (hF _ _ _ _ _ h1) (mo_app _ _)
  case newarray =>
    obtain ⟨x, s1, -, h1⟩ := iv_p1 h
    obtain ⟨-, h2⟩ := iv_cd1 h1
    obtain ⟨-, h3⟩ := iv_cd1 h2
    exact mo_u (hF _ _ _ _ _ h3) (mo_app _ _)
  case anewarray =>
    obtain ⟨x, s1, -, h1⟩ := iv_p1 h
    obtain ⟨-, h2⟩ := iv_cd1 h1
    obtain ⟨-, h3⟩ := iv_cd1 h2
    exact mo_u (hF _ _ _ _ _ h3) (mo_app _ _)
  case multianewarray =>
    obtain ⟨x, y, s1, -, h1⟩ := iv_p2 h
    obtain ⟨-, h2⟩ := iv_cd1 h1
    obtain ⟨-, h3⟩ := iv_cd1 h2
    exact mo_u (hF _ _ _ _ _ h3) (mo_app _ _)
  case ldc =>
    unfold am_ins at h; dsimp only at h; split at h
    · exact hF _ _ _ _ _ h
    · exact hF _ _ _ _ _ h
    · cases h
  case ldc_w =>
    unfold am_ins at h; dsimp only at h; split at h
    · exact hF _ _ _ _ _ h
    · exact hF _ _ _ _ _ h
    · cases h
  case dup =>
    unfold am_ins at h; dsimp only at h; split at h
    · exact hF _ _ _ _ _ h
    · exact hF _ _ _ _ _ h
    · cases h
  case dup2 =>
    unfold am_ins at h; dsimp only at h; split at h
    · exact hF _ _ _ _ _ h
    · cases h
  case pop =>
    unfold am_ins at h; dsimp only at h; split at h
    · exact hF _ _ _ _ _ h
    · exact hF _ _ _ _ _ h
    · cases h
  case arraylength =>
    unfold am_ins at h; dsimp only at h; split at h
    · obtain ⟨Y, s1, -, h1⟩ := iv_pr h
      obtain ⟨a, n, rs, -, -, h2⟩ := iv_arr h1
      exact hF _ _ _ _ _ h2
    · obtain ⟨Y, s1, -, h1⟩ := iv_pr h
      obtain ⟨j, -, h2⟩ := iv_ct h1
      obtain ⟨-, h3⟩ := iv_cd1 h2
      exact hF _ _ _ _ _ h3
  case bastore =>
    unfold am_ins at h; dsimp only at h; split at h
    · exact mo_ast hF h
    · split at h
      · obtain ⟨-, h1⟩ := iv_bit h
        exact mo_ast hF h1
      · cases h
  all_goals cases h
end
theorem mo_run {Γ : am_G} (hΓ : ∀ c i as τ o, Γ c i as τ = some o → am_le τ o.2) {bl : List am_B} : ∀ (n : Nat) (p : Nat ⊕ List am_A) (ls : List (Option am_V)) (st : List am_V) (τ : am_S) (o : am_O), am_run Γ bl n p ls st τ = some o → am_le τ o.2 := by
  intro n
  induction n with
  | zero => intro p ls st τ o h; cases h
  | succ n ih =>
    intro p ls st τ o h
    rcases p with k | _ | ⟨q, r⟩
    · replace h : am_blk bl k (fun is => am_run Γ bl n (.inr is) ls st τ) = some o := h
      unfold am_blk at h
      split at h
      · exact ih _ _ _ _ _ h
      · cases h
    · cases h
    · exact mo_ins hΓ ih h
