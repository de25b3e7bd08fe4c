/-! PURE LAYER, 79: a text: the same events or the same fault on both sides -/
theorem pr_8 {w : Nat → Nat → Nat} {K V : Nat → Int} (e : gx_V) (p : pr_S) (x : Int × Int) (h : pr w K V e p = .inl x) : 8 ≤ x.1 := by
  have q : ∀ {n : Nat} {cond : Prop} {c : Nat → Nat} {bl : List Nat} {oc : List (Int × Int × Nat)}, pr_q w n p cond c bl oc = .inl x → 8 ≤ x.1 := by
    intro n cond c bl oc hq
    unfold pr_q at hq
    by_cases hc : cond ∧ ∀ k, p.2.2.2 k + w k n ≤ 2100
    · rw [if_pos hc] at hq; cases hq
    · rw [if_neg hc] at hq; cases hq; decide
  unfold pr at h
  split at h
  all_goals first
    | exact q h
    | (split at h
       · cases h; decide
       · exact q h)
    | (cases h; decide)
theorem xl_c8 {w : Nat → Nat → Nat} {K V : Nat → Int} (e : gx_V) (s : pr_S × List gx_V) (x : Int × Int) (h : xl_c (pr w K V) e s = .inl x) : 8 ≤ x.1 := by
  unfold xl_c at h
  cases hb : pr w K V e s.1 with
  | inl y => rw [hb] at h; cases h; exact pr_8 _ _ _ hb
  | inr y => rw [hb] at h; cases h
/-- tokens of a text, as the component has them; K' as the model has them -/
def tx (K K' V : Nat → Int) (Z : Nat) : Prop := Z ≤ 1000 ∧ (∀ i, i < Z → 1 ≤ K i ∧ K i ≤ 5) ∧ (K Z = 0 ∨ K Z = 6 ∨ (Z = 1000 ∧ 1 ≤ K Z ∧ K Z ≤ 5)) ∧ (∀ i, i ≤ Z → K i = 4 → 0 ≤ V i) ∧ (∀ i, i ≤ Z → K' i = if i = 1000 ∧ 1 ≤ K i ∧ K i ≤ 5 then 7 else K i) ∧ ∀ i, Z < i → K' i = 0
section
variable {w : Nat → Nat → Nat} {K K' V P : Nat → Int} {Z g : Nat}
theorem tx_H (hw : pr_w w) (T : tx K K' V Z) : pr_H w K' V (xl_c (pr w K' V)) (fun s : pr_S × List gx_V => s.1) hx_next (hx_sx K' P) Z := by
  obtain ⟨T1, T2, T3, T5, T6, T7⟩ := T
  refine ⟨hw, fun e s p' h => ⟨(p', s.2 ++ [e]), ?_, rfl⟩, fun i => rfl, fun i => ?_, T1, fun i hi hk => ?_, fun i hi hk => ?_, fun j hj => gx_count_some _ 1001 (T7 1001 (by omega)) 4500 (j + 1) 0 0 false (by omega) (by omega)⟩
  · unfold xl_c
    have h : pr w K' V e s.1 = .inr p' := h
    rw [h]; rfl
  · show (if K' i = 7 then (2 : Int) else 1) < 8
    split <;> decide
  · rw [T6 i hi] at hk
    by_cases c : i = 1000 ∧ 1 ≤ K i ∧ K i ≤ 5
    · rw [if_pos c] at hk; omega
    · rw [if_neg c] at hk
      by_cases hz : i = Z
      · subst hz; omega
      · omega
  · rw [T6 i hi] at hk
    by_cases c : i = 1000 ∧ 1 ≤ K i ∧ K i ≤ 5
    · rw [if_pos c] at hk; omega
    · rw [if_neg c] at hk; exact T5 i hi hk
/-- both grammars, where only what can't be fails -/
theorem tx_eq {σ : Type} {C : gx_V → σ → gx_R σ} (hC : ∀ e s x, C e s = .inl x → 8 ≤ x.1) (T : tx K K' V Z) (s : σ) : gp false K V P C g s = hp K' V P C g s ∨ ∃ x, hp K' V P C g s = .inl x ∧ 8 ≤ x.1 := by
  obtain ⟨T1, T2, T3, T5, T6, T7⟩ := T
  rw [gp_x, hp_x]
  by_cases c : Z = 1000 ∧ K 1000 ≠ 0
  · -- a token too many, or a bad one at the end
    obtain ⟨rfl, c⟩ := c
    have k1000 : K' 1000 = 6 ∨ K' 1000 = 7 := by
      rw [T6 1000 (Nat.le_refl _)]
      split <;> omega
    refine xp_T (ok := fun i => i < 1000) (sk := fun i => i = 1000) (es := (if K 1000 = 6 then 1 else 2, P 1000)) hC (fun i hi hk => ?_) (fun i hi => ?_) (fun i hi => by rw [hi]; exact k1000) (fun i hi => ?_) (fun i hi => ?_) (by decide) (by decide) g s
    · unfold gx_next
      by_cases h3 : i + 1 = 1000
      · have hc : false = false ∧ 1000 ≤ 1000 ∧ K 1000 ≠ 0 := ⟨rfl, Nat.le_refl _, c⟩
        rw [h3, if_pos hc]
        exact Or.inr (Or.inl ⟨rfl, Or.inr (Or.inr ⟨i + 1, rfl, h3⟩)⟩)
      · have hc : ¬ (false = false ∧ 1000 ≤ i + 1 ∧ K (i + 1) ≠ 0) := by
          rintro ⟨-, h1, h2⟩
          have hi : i < 1000 := hi
          omega
        rw [if_neg hc]
        exact Or.inl ⟨rfl, fun a ha => by cases ha; have hi : i < 1000 := hi; show i + 1 < 1000; omega⟩
    · have hi : i < 1000 := hi
      rw [T6 i (by omega), if_neg]
      rintro ⟨h1, -⟩
      omega
    · have hi : i < 1000 := hi
      have e : K' i = K i := by
        rw [T6 i (by omega), if_neg]
        rintro ⟨h1, -⟩
        omega
      have := T2 i hi
      unfold hx_sx
      rw [e, if_neg (by omega)]
    · have hi : i = 1000 := hi
      subst hi
      unfold hx_sx
      by_cases h6 : K 1000 = 6
      · have e : K' 1000 = 6 := by rw [T6 1000 (Nat.le_refl _), if_neg (by omega)]; exact h6
        rw [e, if_neg (by decide), if_pos h6]
      · have e : K' 1000 = 7 := by rw [T6 1000 (Nat.le_refl _), if_pos (by omega)]
        rw [e, if_pos rfl, if_neg h6]
  · -- none
    have kz : K Z = 0 ∨ K Z = 6 := by
      rcases T3 with h | h | ⟨h1, h2, h3⟩
      · exact Or.inl h
      · exact Or.inr h
      · exact absurd ⟨h1, fun z => by rw [h1, z] at h2; omega⟩ c
    have e : ∀ i, i ≤ Z → K i = K' i := by
      intro i hi
      rw [T6 i hi, if_neg]
      rintro ⟨h1, h2, h3⟩
      exact c ⟨by omega, fun z => by rw [h1, z] at h2; omega⟩
    have r : ∀ i, i ≤ Z → 0 ≤ K i ∧ K i ≤ 6 ∧ (1 ≤ K i → K i ≤ 5 → i < Z) := by
      intro i hi
      by_cases h1 : i < Z
      · have := T2 i h1; omega
      · have : i = Z := by omega
        rw [this]
        omega
    refine xp_T (ok := fun i => i ≤ Z) (sk := fun _ => False) (es := (0, 0)) hC (fun i hi hk => ?_) e (fun i hi => hi.elim) (fun i hi => ?_) (fun i hi => hi.elim) (Nat.zero_le _) (fun z => z) g s
    · have h1 := (r i hi).2.2 hk.1 hk.2
      unfold gx_next
      rw [if_neg]
      · exact Or.inl ⟨rfl, fun a ha => by cases ha; exact h1⟩
      · rintro ⟨-, h2, h3⟩
        have : i + 1 = 1000 := by omega
        rw [this] at h3
        exact c ⟨by omega, h3⟩
    · unfold hx_sx
      rw [← e i hi, if_neg]
      have := r i hi
      omega
/-- a text: a fault, the same for both; or events, the same for both -/
theorem tx_main (hw : pr_w w) (T : tx K K' V Z) (hg : 3 * Z + 2 ≤ g) :
    (∃ e : Int × Int, e.1 < 8 ∧ (∀ {σ : Type} (C : gx_V → σ → gx_R σ) (s : σ), ∃ es p, gx_fold (pr w K' V) es pr_0 = .inr p ∧ gp false K V P C g s = gx_b (gx_fold C es s) fun _ => .inl e) ∧ (∀ {σ : Type} (C : gx_V → σ → gx_R σ) (s : σ), ∃ es p, gx_fold (pr w K' V) es pr_0 = .inr p ∧ hp K' V P C g s = gx_b (gx_fold C es s) fun _ => .inl e)) ∨
    (∃ es p, gx_fold (pr w K' V) es pr_0 = .inr p ∧ ((∃ ph, (ph = 0 ∨ ph = 3) ∧ pD Z ph Z (p.1 8) p) ∧ p.1 14 = 0) ∧ (∀ {σ : Type} (C : gx_V → σ → gx_R σ) (s : σ), gp false K V P C g s = gx_fold C es s) ∧ (∀ {σ : Type} (C : gx_V → σ → gx_R σ) (s : σ), hp K' V P C g s = gx_fold C es s)) := by
  have n0 := xp_N (P := P) (tx_H (P := P) hw T) hg (s := (pr_0, [])) rfl
  rw [← hp_x] at n0
  have e0 : gp false K V P (xl_c (pr w K' V)) g (pr_0, []) = hp K' V P (xl_c (pr w K' V)) g (pr_0, []) := by
    rcases tx_eq (P := P) (g := g) xl_c8 T (pr_0, []) with h | ⟨x, h, h8⟩
    · exact h
    · rw [h] at n0
      have n0 : x.1 < 8 := n0
      omega
  -- what a listed run says about any run
  have any : ∀ {σ : Type} (C : gx_V → σ → gx_R σ) (s : σ) (r1 : gx_R (pr_S × List gx_V)) (r2 : gx_R σ), XL (pr w K' V) C xm_0 xm_0 pr_0 [] s r1 r2 → r1 = hp K' V P (xl_c (pr w K' V)) g (pr_0, []) → (∀ e, r1 = .inl e → ∃ es p, gx_fold (pr w K' V) es pr_0 = .inr p ∧ r2 = gx_b (gx_fold C es s) fun _ => .inl e) ∧ (∀ q, r1 = .inr q → gx_fold (pr w K' V) q.2 pr_0 = .inr q.1 ∧ r2 = gx_fold C q.2 s) := by
    intro σ C s r1 r2 x hr
    rcases x with ⟨y, h, h8⟩ | ⟨e, es, t', h1, h2, h3⟩ | ⟨b, es, t', h1, h2, h3⟩
    · rw [← hr, h] at n0
      have n0 : y.1 < 8 := n0
      omega
    · refine ⟨fun e' he => ?_, fun q hq => ?_⟩
      · rw [h1] at he; cases he; exact ⟨es, t', h2, h3⟩
      · rw [h1] at hq; cases hq
    · refine ⟨fun e' he => ?_, fun q hq => ?_⟩
      · rw [h1] at he; cases he
      · rw [h1] at hq; cases hq
        refine ⟨h2, ?_⟩
        rw [h3]
        show (gx_b (gx_fold C es s) fun s' => .inr s') = gx_fold C ([] ++ es) s
        rw [gx_b_id, List.nil_append]
  cases hr : hp K' V P (xl_c (pr w K' V)) g (pr_0, []) with
  | inl e =>
    rw [hr] at n0
    refine Or.inl ⟨e, n0, fun C s => ?_, fun C s => ?_⟩
    · have x := xp_L (C := C) (nx := gx_next false K P) (sx := fun i => (1, P i)) (K := K) (V := V) (P := P) (pr_8 (w := w) (K := K') (V := V)) g pr_0 [] s
      rw [← gp_x, ← gp_x] at x
      exact (any C s _ _ x e0).1 e (e0.trans hr)
    · have x := xp_L (C := C) (nx := hx_next) (sx := hx_sx K' P) (K := K') (V := V) (P := P) (pr_8 (w := w) (K := K') (V := V)) g pr_0 [] s
      rw [← hp_x, ← hp_x] at x
      exact (any C s _ _ x rfl).1 e hr
  | inr q =>
    rw [hr] at n0
    have x0 := xp_L (C := xl_c (pr w K' V)) (nx := hx_next) (sx := hx_sx K' P) (K := K') (V := V) (P := P) (pr_8 (w := w) (K := K') (V := V)) g pr_0 [] (pr_0, [])
    rw [← hp_x] at x0
    refine Or.inr ⟨q.2, q.1, ((any _ _ _ _ x0 rfl).2 q hr).1, n0, fun C s => ?_, fun C s => ?_⟩
    · have x := xp_L (C := C) (nx := gx_next false K P) (sx := fun i => (1, P i)) (K := K) (V := V) (P := P) (pr_8 (w := w) (K := K') (V := V)) g pr_0 [] s
      rw [← gp_x, ← gp_x] at x
      exact ((any C s _ _ x e0).2 q (e0.trans hr)).2
    · have x := xp_L (C := C) (nx := hx_next) (sx := hx_sx K' P) (K := K') (V := V) (P := P) (pr_8 (w := w) (K := K') (V := V)) g pr_0 [] s
      rw [← hp_x, ← hp_x] at x
      exact ((any C s _ _ x rfl).2 q hr).2
end
