/-! PURE LAYER, 71: any run of the grammar is a list of events and then its answer or fault -/
def gx_fold {σ : Type} (C : gx_V → σ → gx_R σ) : List gx_V → σ → gx_R σ
  | [], s => .inr s
  | e :: l, s => gx_b (C e s) (gx_fold C l)
theorem gx_fold_app {σ : Type} {C : gx_V → σ → gx_R σ} : ∀ (l l2 : List gx_V) (s : σ), gx_fold C (l ++ l2) s = gx_b (gx_fold C l s) (gx_fold C l2)
  | [], l2, s => rfl
  | e :: l, l2, s => by
    show gx_b (C e s) (gx_fold C (l ++ l2)) = gx_b (gx_b (C e s) (gx_fold C l)) (gx_fold C l2)
    cases C e s with
    | inl x => rfl
    | inr a => exact gx_fold_app l l2 a
/-- events, listed -/
def xl_c {τ : Type} (B : gx_V → τ → gx_R τ) (e : gx_V) (s : τ × List gx_V) : gx_R (τ × List gx_V) := gx_b (B e s.1) fun t => .inr (t, s.2 ++ [e])
section
variable {τ σ : Type} {B : gx_V → τ → gx_R τ} {C : gx_V → σ → gx_R σ}
/-- how both runs answer: B's run is listed -/
def XL (B : gx_V → τ → gx_R τ) (C : gx_V → σ → gx_R σ) {α1 α2 β : Type} (m1 : β → τ × List gx_V → α1) (m2 : β → σ → α2) (t : τ) (l : List gx_V) (s : σ) (r1 : gx_R α1) (r2 : gx_R α2) : Prop :=
  (∃ x, r1 = .inl x ∧ 8 ≤ x.1) ∨ (∃ e es t', r1 = .inl e ∧ gx_fold B es t = .inr t' ∧ r2 = gx_b (gx_fold C es s) fun _ => .inl e) ∨ (∃ b es t', r1 = .inr (m1 b (t', l ++ es)) ∧ gx_fold B es t = .inr t' ∧ r2 = gx_b (gx_fold C es s) fun s' => .inr (m2 b s'))
theorem XL_b {α1 α2 β γ1 γ2 δ : Type} {m1 : β → τ × List gx_V → α1} {m2 : β → σ → α2} {n1 : δ → τ × List gx_V → γ1} {n2 : δ → σ → γ2} {t : τ} {l : List gx_V} {s : σ} {r1 : gx_R α1} {r2 : gx_R α2} {f1 : α1 → gx_R γ1} {f2 : α2 → gx_R γ2}
    (h : XL B C m1 m2 t l s r1 r2) (hk : ∀ b t' l' s', XL B C n1 n2 t' l' s' (f1 (m1 b (t', l'))) (f2 (m2 b s'))) : XL B C n1 n2 t l s (gx_b r1 f1) (gx_b r2 f2) := by
  rcases h with ⟨x, e1, h8⟩ | ⟨e, es, t', e1, e2, e3⟩ | ⟨b, es, t', e1, e2, e3⟩
  · exact Or.inl ⟨x, by rw [e1]; rfl, h8⟩
  · refine Or.inr (Or.inl ⟨e, es, t', by rw [e1]; rfl, e2, ?_⟩)
    rw [e3]
    cases gx_fold C es s <;> rfl
  · have key : ∀ s', gx_fold C es s = .inr s' ∨ (∃ x, gx_fold C es s = .inl x) → XL B C n1 n2 t l s (gx_b r1 f1) (gx_b r2 f2) := by
      intro s' hs
      have fo : ∀ es2, gx_fold B (es ++ es2) t = gx_fold B es2 t' := fun es2 => by rw [gx_fold_app, e2]; rfl
      have fc : ∀ {γ : Type} (es2 : List gx_V) (F : σ → gx_R γ), gx_b (gx_fold C (es ++ es2) s) F = gx_b (gx_fold C es s) fun s1 => gx_b (gx_fold C es2 s1) F := fun es2 F => by
        rw [gx_fold_app]
        cases gx_fold C es s <;> rfl
      rcases hk b t' (l ++ es) s' with ⟨x, k1, h8⟩ | ⟨e, es2, t2, k1, k2, k3⟩ | ⟨b2, es2, t2, k1, k2, k3⟩
      · exact Or.inl ⟨x, by rw [e1]; exact k1, h8⟩
      · refine Or.inr (Or.inl ⟨e, es ++ es2, t2, by rw [e1]; exact k1, by rw [fo]; exact k2, ?_⟩)
        rw [e3, fc]
        rcases hs with hs | ⟨x, hs⟩
        · rw [hs]; exact k3
        · rw [hs]; rfl
      · refine Or.inr (Or.inr ⟨b2, es ++ es2, t2, by rw [e1, ← List.append_assoc]; exact k1, by rw [fo]; exact k2, ?_⟩)
        rw [e3, fc]
        rcases hs with hs | ⟨x, hs⟩
        · rw [hs]; exact k3
        · rw [hs]; rfl
    cases hc : gx_fold C es s with
    | inl x => exact key s (Or.inr ⟨x, hc⟩)
    | inr s' => exact key s' (Or.inl hc)
theorem XL_C (hB : ∀ e t x, B e t = .inl x → 8 ≤ x.1) {γ1 γ2 δ : Type} {n1 : δ → τ × List gx_V → γ1} {n2 : δ → σ → γ2} {t : τ} {l : List gx_V} {s : σ} {f1 : τ × List gx_V → gx_R γ1} {f2 : σ → gx_R γ2} {e : gx_V}
    (hk : ∀ t' l' s', XL B C n1 n2 t' l' s' (f1 (t', l')) (f2 s')) : XL B C n1 n2 t l s (gx_b (xl_c B e (t, l)) f1) (gx_b (C e s) f2) := by
  refine XL_b (m1 := fun (_ : Unit) s => s) (m2 := fun (_ : Unit) s => s) ?_ (fun _ t' l' s' => hk t' l' s')
  unfold xl_c
  cases hb : B e t with
  | inl x => exact Or.inl ⟨x, rfl, hB _ _ _ hb⟩
  | inr t' =>
    refine Or.inr (Or.inr ⟨(), [e], t', rfl, ?_, ?_⟩)
    · show gx_b (B e t) (gx_fold B []) = _
      rw [hb]; rfl
    · show C e s = gx_b (gx_b (C e s) (gx_fold C [])) _
      cases C e s <;> rfl
theorem XL_k {γ1 γ2 δ β : Type} {n1 : δ → τ × List gx_V → γ1} {n2 : δ → σ → γ2} {t : τ} {l : List gx_V} {s : σ} {r : gx_R β} {f1 : β → gx_R γ1} {f2 : β → gx_R γ2}
    (hk : ∀ b, XL B C n1 n2 t l s (f1 b) (f2 b)) : XL B C n1 n2 t l s (gx_b r f1) (gx_b r f2) := by
  cases r with
  | inl x => exact Or.inr (Or.inl ⟨x, [], t, rfl, rfl, rfl⟩)
  | inr b => exact hk b
theorem XL_i {γ1 γ2 δ : Type} {n1 : δ → τ × List gx_V → γ1} {n2 : δ → σ → γ2} {t : τ} {l : List gx_V} {s : σ} (b : δ) : XL B C n1 n2 t l s (.inr (n1 b (t, l))) (.inr (n2 b s)) :=
  Or.inr (Or.inr ⟨b, [], t, by rw [List.append_nil], rfl, rfl⟩)
theorem XL_e {γ1 γ2 δ : Type} {n1 : δ → τ × List gx_V → γ1} {n2 : δ → σ → γ2} {t : τ} {l : List gx_V} {s : σ} (e : Int × Int) : XL B C n1 n2 t l s (.inl e) (.inl e) := Or.inr (Or.inl ⟨e, [], t, rfl, rfl, rfl⟩)
theorem XL_if {γ1 γ2 δ : Type} {n1 : δ → τ × List gx_V → γ1} {n2 : δ → σ → γ2} {t : τ} {l : List gx_V} {s : σ} {p : Prop} [Decidable p] {e : Int × Int} {x1 : gx_R γ1} {x2 : gx_R γ2} (h : XL B C n1 n2 t l s x1 x2) : XL B C n1 n2 t l s (gx_if p e x1) (gx_if p e x2) := by
  unfold gx_if
  split
  · exact h
  · exact XL_e e
variable {nx : Nat → gx_R Nat} {sx : Nat → Int × Int} {K V P : Nat → Int}
abbrev xm_e {σ : Type} : Nat × Nat × Nat → σ → Nat × Nat × σ × Nat := fun b s => (b.1, b.2.1, s, b.2.2)
abbrev xm_s {σ : Type} : Nat × Nat → σ → Nat × Nat × σ := fun b s => (b.1, b.2, s)
abbrev xm_t {σ : Type} : Nat → σ → Nat × σ := fun b s => (b, s)
abbrev xm_v {σ : Type} : Nat × Nat × Nat → σ → Nat × Nat × Nat × σ := fun b s => (b.1, b.2.1, b.2.2, s)
abbrev xm_c {σ : Type} : Nat × Nat × Nat × Nat → σ → Nat × Nat × Nat × Nat × σ := fun b s => (b.1, b.2.1, b.2.2.1, b.2.2.2, s)
abbrev xm_0 {σ : Type} : Unit → σ → σ := fun _ s => s
theorem xe_L (hB : ∀ e t x, B e t = .inl x → 8 ≤ x.1) : ∀ (f m deep st i : Nat) (t : τ) (l : List gx_V) (s : σ), XL B C xm_e xm_e t l s (xe nx sx K V P (xl_c B) f m deep st i (t, l)) (xe nx sx K V P C f m deep st i s)
  | 0, _, _, _, _, t, l, s => XL_e _
  | f + 1, 0, deep, st, i, t, l, s => by
    have ih := xe_L hB f
    rw [xe, xe]
    split
    · exact XL_C hB fun _ _ _ => XL_k fun j => XL_i (j, st, 0)
    split
    · exact XL_if (XL_C hB fun _ _ _ => XL_k fun j => XL_i (j, st + (V i).toNat, 0))
    split
    · exact XL_if (XL_C hB fun _ _ _ => XL_k fun j => XL_i (j, st, 0))
    split
    · refine XL_k fun j => ?_
      split
      · exact XL_C hB fun _ _ _ => XL_k fun j1 => XL_b (ih _ _ _ _ _ _ _) fun b1 _ _ _ => XL_b (ih _ _ _ _ _ _ _) fun b2 _ _ _ => XL_k fun j2 => XL_C hB fun _ _ _ => XL_i (j2, b2.2.1, 0)
      split
      · exact XL_k fun j1 => XL_k fun j2 => XL_C hB fun _ _ _ => XL_k fun j3 => XL_b (ih _ _ _ _ _ _ _) fun b1 _ _ _ => XL_C hB fun _ _ _ => XL_i (b1.1, b1.2.1, 0)
      split
      · exact XL_C hB fun _ _ _ => XL_k fun j3 => XL_b (ih _ _ _ _ _ _ _) fun b1 _ _ _ => XL_C hB fun _ _ _ => XL_i (b1.1, b1.2.1, 0)
      · exact XL_C hB fun _ _ _ => XL_i (j, st, 0)
    split
    · exact XL_k fun j1 => XL_b (ih _ _ _ _ _ _ _) fun b1 _ _ _ => XL_b (ih _ _ _ _ _ _ _) fun b2 _ _ _ => XL_k fun j2 => XL_i (j2, b2.2.1, 0)
    · exact XL_if (XL_k fun j1 => XL_b (ih _ _ _ _ _ _ _) fun b1 _ _ _ => XL_C hB fun _ _ _ => XL_i (b1.1, b1.2.1, 0))
  | f + 1, 1, deep, st, i, t, l, s => by
    have ih := xe_L hB f
    rw [xe, xe]
    split
    · exact XL_k fun j => XL_b (ih _ _ _ _ _ _ _) fun b1 _ _ _ => XL_C hB fun _ _ _ => ih _ _ _ _ _ _ _
    · exact XL_i (i, st, 0)
  | f + 1, 2, deep, st, i, t, l, s => by
    have ih := xe_L hB f
    rw [xe, xe]
    split
    · exact XL_k fun j => XL_i (j, st, 0)
    · exact XL_b (ih _ _ _ _ _ _ _) fun b1 _ _ _ => XL_b (ih _ _ _ _ _ _ _) fun b2 _ _ _ => XL_b (ih _ _ _ _ _ _ _) fun b3 _ _ _ => XL_i (b3.1, b3.2.1, b3.2.2 + 1)
  | f + 1, m + 3, deep, st, i, t, l, s => by
    have ih := xe_L hB f
    rw [xe, xe]
    · split
      · exact XL_k fun j => XL_i (j, st, 0)
      · exact XL_k fun j => XL_b (ih _ _ _ _ _ _ _) fun b1 _ _ _ => XL_b (ih _ _ _ _ _ _ _) fun b2 _ _ _ => XL_b (ih _ _ _ _ _ _ _) fun b3 _ _ _ => XL_i (b3.1, b3.2.1, b3.2.2 + 1)
    all_goals (intro z; omega)
theorem xe_e_L (hB : ∀ e t x, B e t = .inl x → 8 ≤ x.1) (f deep st i : Nat) (t : τ) (l : List gx_V) (s : σ) : XL B C xm_e xm_e t l s (xe_e nx sx K V P (xl_c B) f deep st i (t, l)) (xe_e nx sx K V P C f deep st i s) := XL_b (xe_L hB _ _ _ _ _ _ _ _) fun _ _ _ _ => xe_L hB _ _ _ _ _ _ _ _
theorem xe_c_L (hB : ∀ e t x, B e t = .inl x → 8 ≤ x.1) (f deep st i : Nat) (t : τ) (l : List gx_V) (s : σ) : XL B C xm_s xm_s t l s (xe_c nx sx K V P (xl_c B) f deep st i (t, l)) (xe_c nx sx K V P C f deep st i s) := XL_k fun _ => XL_b (xe_e_L hB _ _ _ _ _ _ _) fun b _ _ _ => XL_k fun j2 => XL_i (j2, b.2.1)
theorem xe_let_L (hB : ∀ e t x, B e t = .inl x → 8 ≤ x.1) (f deep st i : Nat) (t : τ) (l : List gx_V) (s : σ) : XL B C xm_s xm_s t l s (xe_let nx sx K V P (xl_c B) f deep st i (t, l)) (xe_let nx sx K V P C f deep st i s) := by
  unfold xe_let
  refine XL_k fun j => ?_
  split
  · exact XL_C hB fun _ _ _ => XL_k fun _ => XL_b (xe_e_L hB _ _ _ _ _ _ _) fun b _ _ _ => XL_k fun _ => XL_C hB fun _ _ _ => XL_k fun _ => XL_b (xe_e_L hB _ _ _ _ _ _ _) fun b2 _ _ _ => XL_k fun j4 => XL_C hB fun _ _ _ => XL_i (j4, b2.2.1)
  · exact XL_C hB fun _ _ _ => XL_k fun _ => XL_b (xe_e_L hB _ _ _ _ _ _ _) fun b2 _ _ _ => XL_k fun j4 => XL_C hB fun _ _ _ => XL_i (j4, b2.2.1)
theorem xe_do_L (hB : ∀ e t x, B e t = .inl x → 8 ≤ x.1) (f deep st i : Nat) (t : τ) (l : List gx_V) (s : σ) : XL B C xm_s xm_s t l s (xe_do nx sx K V P (xl_c B) f deep st i (t, l)) (xe_do nx sx K V P C f deep st i s) := by
  unfold xe_do
  refine XL_k fun j => ?_
  split
  · exact XL_k fun _ => XL_k fun _ => XL_C hB fun _ _ _ => XL_k fun _ => XL_b (xe_L hB _ _ _ _ _ _ _ _) fun b _ _ _ => XL_C hB fun _ _ _ => XL_C hB fun _ _ _ => XL_k fun j4 => XL_i (j4, b.2.1)
  split
  · exact XL_C hB fun _ _ _ => XL_k fun _ => XL_b (xe_L hB _ _ _ _ _ _ _ _) fun b _ _ _ => XL_C hB fun _ _ _ => XL_C hB fun _ _ _ => XL_k fun j4 => XL_i (j4, b.2.1)
  · exact XL_e _
theorem xe_ret_L (hB : ∀ e t x, B e t = .inl x → 8 ≤ x.1) (f deep st i : Nat) (t : τ) (l : List gx_V) (s : σ) : XL B C xm_s xm_s t l s (xe_ret nx sx K V P (xl_c B) f deep st i (t, l)) (xe_ret nx sx K V P C f deep st i s) := by
  unfold xe_ret
  split
  · exact XL_C hB fun _ _ _ => XL_k fun j => XL_C hB fun _ _ _ => XL_i (j, st)
  · exact XL_b (xe_e_L hB _ _ _ _ _ _ _) fun b _ _ _ => XL_k fun j => XL_C hB fun _ _ _ => XL_i (j, b.2.1)
theorem xs_L (hB : ∀ e t x, B e t = .inl x → 8 ≤ x.1) (g : Nat) : ∀ (f m deep st i : Nat) (t : τ) (l : List gx_V) (s : σ), XL B C xm_s xm_s t l s (xs nx sx K V P (xl_c B) g f m deep st i (t, l)) (xs nx sx K V P C g f m deep st i s)
  | 0, _, _, _, _, t, l, s => XL_e _
  | f + 1, 0, deep, st, i, t, l, s => by
    have ih := xs_L hB g f
    rw [xs, xs]
    split
    · exact XL_b (ih _ _ _ _ _ _ _) fun _ _ _ _ => ih _ _ _ _ _ _ _
    · exact XL_i (i, st)
  | f + 1, m + 1, deep, st, i, t, l, s => by
    have ih := xs_L hB g f
    rw [xs, xs]
    · refine XL_C hB fun _ _ _ => XL_k fun j => ?_
      split
      · exact xe_let_L hB _ _ _ _ _ _ _
      split
      · refine XL_C hB fun _ _ _ => XL_b (xe_c_L hB _ _ _ _ _ _ _) fun b _ _ _ => XL_C hB fun _ _ _ => XL_k fun _ => XL_b (ih _ _ _ _ _ _ _) fun b2 _ _ _ => XL_k fun j2 => ?_
        split
        · exact XL_C hB fun _ _ _ => XL_k fun _ => XL_k fun _ => XL_b (ih _ _ _ _ _ _ _) fun b3 _ _ _ => XL_k fun j5 => XL_C hB fun _ _ _ => XL_i (j5, b3.2)
        · exact XL_C hB fun _ _ _ => XL_i (j2, b2.2)
      split
      · exact XL_C hB fun _ _ _ => XL_b (xe_c_L hB _ _ _ _ _ _ _) fun b _ _ _ => XL_C hB fun _ _ _ => XL_k fun _ => XL_b (ih _ _ _ _ _ _ _) fun b2 _ _ _ => XL_k fun j2 => XL_C hB fun _ _ _ => XL_i (j2, b2.2)
      split
      · exact xe_do_L hB _ _ _ _ _ _ _
      · exact xe_ret_L hB _ _ _ _ _ _ _
    all_goals (intro z; omega)
theorem xx_type_L (hB : ∀ e t x, B e t = .inl x → 8 ≤ x.1) (i : Nat) (t : τ) (l : List gx_V) (s : σ) : XL B C xm_t xm_t t l s (xx_type nx sx K V (xl_c B) i (t, l)) (xx_type nx sx K V C i s) := XL_if (XL_C hB fun _ _ _ => XL_k fun j => XL_i j)
theorem xp_decl_L (hB : ∀ e t x, B e t = .inl x → 8 ≤ x.1) (fd : Bool) : ∀ (f i n : Nat) (t : τ) (l : List gx_V) (s : σ), XL B C xm_s xm_s t l s (xp_decl nx sx K V P (xl_c B) fd f i n (t, l)) (xp_decl nx sx K V P C fd f i n s)
  | 0, _, _, t, l, s => XL_e _
  | f + 1, i, n, t, l, s => by
    unfold xp_decl
    refine XL_if (XL_if (XL_C hB fun _ _ _ => XL_k fun j => ?_))
    split
    · exact XL_k fun _ => xp_decl_L hB fd f _ _ _ _ _
    · exact XL_k fun j2 => XL_i (j2, n + 1)
theorem xp_varn_L (hB : ∀ e t x, B e t = .inl x → 8 ≤ x.1) : ∀ (f i n : Nat) (t : τ) (l : List gx_V) (s : σ), XL B C xm_s xm_s t l s (xp_varn nx sx K V P (xl_c B) f i n (t, l)) (xp_varn nx sx K V P C f i n s)
  | 0, _, _, t, l, s => XL_e _
  | f + 1, i, n, t, l, s => by
    unfold xp_varn
    refine XL_if (XL_if (XL_C hB fun _ _ _ => XL_k fun j => ?_))
    split
    · exact XL_k fun _ => xp_varn_L hB f _ _ _ _ _
    · exact XL_k fun j2 => XL_i (j2, n + 1)
theorem xp_vars_L (hB : ∀ e t x, B e t = .inl x → 8 ≤ x.1) (g : Nat) : ∀ (f i sn fn : Nat) (t : τ) (l : List gx_V) (s : σ), XL B C xm_v xm_v t l s (xp_vars nx sx K V P (xl_c B) g f i sn fn (t, l)) (xp_vars nx sx K V P C g f i sn fn s)
  | 0, _, _, _, t, l, s => XL_e _
  | f + 1, i, sn, fn, t, l, s => by
    unfold xp_vars
    split
    · exact XL_k fun _ => XL_b (xx_type_L hB _ _ _ _) fun _ _ _ _ => XL_b (xp_decl_L hB _ _ _ _ _ _ _) fun _ _ _ _ => xp_vars_L hB g f _ _ _ _ _ _
    split
    · exact XL_k fun _ => XL_b (xx_type_L hB _ _ _ _) fun _ _ _ _ => XL_b (xp_decl_L hB _ _ _ _ _ _ _) fun _ _ _ _ => xp_vars_L hB g f _ _ _ _ _ _
    · exact XL_i (i, sn, fn)
theorem xp_pars_L (hB : ∀ e t x, B e t = .inl x → 8 ≤ x.1) : ∀ (f i n : Nat) (t : τ) (l : List gx_V) (s : σ), XL B C xm_t xm_t t l s (xp_pars nx sx K V P (xl_c B) f i n (t, l)) (xp_pars nx sx K V P C f i n s)
  | 0, _, _, t, l, s => XL_e _
  | f + 1, i, n, t, l, s => by
    unfold xp_pars
    split
    · exact XL_k fun j => XL_i j
    · exact XL_k fun _ => XL_b (xx_type_L hB _ _ _ _) fun _ _ _ _ => XL_if (XL_if (XL_C hB fun _ _ _ => XL_k fun _ => xp_pars_L hB f _ _ _ _ _))
theorem xp_locs_L (hB : ∀ e t x, B e t = .inl x → 8 ≤ x.1) (g : Nat) : ∀ (f i n : Nat) (t : τ) (l : List gx_V) (s : σ), XL B C xm_t xm_t t l s (xp_locs nx sx K V P (xl_c B) g f i n (t, l)) (xp_locs nx sx K V P C g f i n s)
  | 0, _, _, t, l, s => XL_e _
  | f + 1, i, n, t, l, s => by
    unfold xp_locs
    split
    · exact XL_k fun _ => XL_b (xx_type_L hB _ _ _ _) fun _ _ _ _ => XL_b (xp_varn_L hB _ _ _ _ _ _) fun _ _ _ _ => xp_locs_L hB g f _ _ _ _ _
    · exact XL_i i
theorem xp_sub_L (hB : ∀ e t x, B e t = .inl x → 8 ≤ x.1) (g st i sn : Nat) (t : τ) (l : List gx_V) (s : σ) : XL B C xm_s xm_s t l s (xp_sub nx sx K V P (xl_c B) g st i sn (t, l)) (xp_sub nx sx K V P C g st i sn s) := by
  unfold xp_sub
  refine XL_C hB fun t1 l1 s1 => XL_k fun j => XL_b (m1 := xm_t) (m2 := xm_t) ?_ fun b _ _ _ => XL_if (XL_if (XL_C hB fun _ _ _ => XL_k fun _ => XL_C hB fun _ _ _ => XL_k fun _ => XL_b (xp_pars_L hB _ _ _ _ _ _) fun b2 _ _ _ => XL_C hB fun _ _ _ => XL_k fun _ => XL_b (xp_locs_L hB _ _ _ _ _ _ _) fun b3 _ _ _ => XL_C hB fun _ _ _ => XL_b (xs_L hB _ _ _ _ _ _ _ _ _) fun b4 _ _ _ => XL_k fun j5 => XL_C hB fun _ _ _ => XL_i (j5, b4.2)))
  split
  · exact XL_k fun j1 => XL_i j1
  · exact xx_type_L hB _ _ _ _
theorem xp_subs_L (hB : ∀ e t x, B e t = .inl x → 8 ≤ x.1) (g : Nat) : ∀ (f st i sn : Nat) (t : τ) (l : List gx_V) (s : σ), XL B C xm_v xm_v t l s (xp_subs nx sx K V P (xl_c B) g f st i sn (t, l)) (xp_subs nx sx K V P C g f st i sn s)
  | 0, _, _, _, t, l, s => XL_e _
  | f + 1, st, i, sn, t, l, s => by
    unfold xp_subs
    split
    · exact XL_b (xp_sub_L hB _ _ _ _ _ _ _) fun _ _ _ _ => xp_subs_L hB g f _ _ _ _ _ _
    · exact XL_i (i, st, sn)
theorem xp_class_L (hB : ∀ e t x, B e t = .inl x → 8 ≤ x.1) (g st i cn vn sn : Nat) (t : τ) (l : List gx_V) (s : σ) : XL B C xm_c xm_c t l s (xp_class nx sx K V P (xl_c B) g st i cn vn sn (t, l)) (xp_class nx sx K V P C g st i cn vn sn s) :=
  XL_C hB fun _ _ _ => XL_k fun _ => XL_if (XL_if (XL_C hB fun _ _ _ => XL_k fun _ => XL_k fun _ => XL_C hB fun _ _ _ => XL_b (xp_vars_L hB _ _ _ _ _ _ _ _) fun b _ _ _ => XL_C hB fun _ _ _ => XL_b (xp_subs_L hB _ _ _ _ _ _ _ _) fun b2 _ _ _ => XL_k fun j3 => XL_i (j3, b2.2.1, b.2.1, b2.2.2)))
theorem xp_classes_L (hB : ∀ e t x, B e t = .inl x → 8 ≤ x.1) (g : Nat) : ∀ (f st i cn vn sn : Nat) (t : τ) (l : List gx_V) (s : σ), XL B C xm_0 xm_0 t l s (xp_classes nx sx K V P (xl_c B) g f st i cn vn sn (t, l)) (xp_classes nx sx K V P C g f st i cn vn sn s)
  | 0, _, _, _, _, _, t, l, s => XL_e _
  | f + 1, st, i, cn, vn, sn, t, l, s => by
    unfold xp_classes
    split
    · exact XL_i ()
    · exact XL_b (xp_class_L hB _ _ _ _ _ _ _ _ _) fun _ _ _ _ => xp_classes_L hB g f _ _ _ _ _ _ _ _
theorem xp_L (hB : ∀ e t x, B e t = .inl x → 8 ≤ x.1) (g : Nat) (t : τ) (l : List gx_V) (s : σ) : XL B C xm_0 xm_0 t l s (xp nx sx K V P (xl_c B) g (t, l)) (xp nx sx K V P C g s) := XL_if (xp_classes_L hB _ _ _ _ _ _ _ _ _ _)
end
