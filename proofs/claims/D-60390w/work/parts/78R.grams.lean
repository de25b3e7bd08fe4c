/-! PURE LAYER, 72: a token too many: both grammars find the same fault -/
/-- where the reading stands at the token too many, or has found it -/
def xk (sk : Nat → Prop) (es : Int × Int) {α : Type} (pos : α → Nat) (r : gx_R α) : Prop := r = .inl es ∨ (∃ x, r = .inl x ∧ 8 ≤ x.1) ∨ ∃ b, r = .inr b ∧ sk (pos b)
def xt (ok sk : Nat → Prop) (es : Int × Int) {α : Type} (pos : α → Nat) (r1 r2 : gx_R α) : Prop := (r1 = r2 ∧ ∀ a, r2 = .inr a → ok (pos a)) ∨ (r1 = .inl es ∧ xk sk es pos r2) ∨ (∃ x, r2 = .inl x ∧ 8 ≤ x.1)
section
variable {ok sk : Nat → Prop} {es : Int × Int} {α β : Type} {pos : α → Nat} {pos' : β → Nat}
theorem xk_b {r : gx_R α} {g : α → gx_R β} (h : xk sk es pos r) (hs : ∀ a, sk (pos a) → xk sk es pos' (g a)) : xk sk es pos' (gx_b r g) := by
  rcases h with h | ⟨x, h, h8⟩ | ⟨b, h, hb⟩
  · rw [h]; exact Or.inl rfl
  · rw [h]; exact Or.inr (Or.inl ⟨x, rfl, h8⟩)
  · rw [h]; exact hs b hb
theorem xt_b {r1 r2 : gx_R α} {f g : α → gx_R β} (h : xt ok sk es pos r1 r2) (hk : ∀ a, ok (pos a) → xt ok sk es pos' (f a) (g a)) (hs : ∀ a, sk (pos a) → xk sk es pos' (g a)) : xt ok sk es pos' (gx_b r1 f) (gx_b r2 g) := by
  rcases h with ⟨h, hp⟩ | ⟨h1, h2⟩ | ⟨x, h, h8⟩
  · rw [h]
    cases r2 with
    | inl e => exact Or.inl ⟨rfl, fun a ha => by cases ha⟩
    | inr a => exact hk a (hp a rfl)
  · rw [h1]; exact Or.inr (Or.inl ⟨rfl, xk_b h2 hs⟩)
  · rw [h]; exact Or.inr (Or.inr ⟨x, rfl, h8⟩)
theorem xt_i {a : α} (h : ok (pos a)) : xt ok sk es pos (.inr a) (.inr a) := Or.inl ⟨rfl, fun b hb => by cases hb; exact h⟩
theorem xk_i {a : α} (h : sk (pos a)) : xk sk es pos (.inr a) := Or.inr (Or.inr ⟨a, rfl, h⟩)
theorem xt_e (e : Int × Int) : xt ok sk es pos (.inl e) (.inl e) := Or.inl ⟨rfl, fun b hb => by cases hb⟩
theorem xt_if {p q : Prop} [Decidable p] [Decidable q] {e e' : Int × Int} {x y : gx_R α} (hp : p ↔ q) (he : e = e') (h : xt ok sk es pos x y) : xt ok sk es pos (gx_if p e x) (gx_if q e' y) := by
  unfold gx_if
  by_cases c : p
  · rw [if_pos c, if_pos (hp.mp c)]; exact h
  · rw [if_neg c, if_neg (fun z => c (hp.mpr z)), he]; exact xt_e _
theorem xt_ifc {p q : Prop} [Decidable p] [Decidable q] {e e' : Int × Int} {x y : gx_R α} (hp : p ↔ q) (he : e = e') (h : p → xt ok sk es pos x y) : xt ok sk es pos (gx_if p e x) (gx_if q e' y) := by
  unfold gx_if
  by_cases c : p
  · rw [if_pos c, if_pos (hp.mp c)]; exact h c
  · rw [if_neg c, if_neg (fun z => c (hp.mpr z)), he]; exact xt_e _
theorem xt_ite {p q : Prop} [Decidable p] [Decidable q] {x y x' y' : gx_R α} (hp : p ↔ q) (h1 : p → xt ok sk es pos x x') (h2 : ¬ p → xt ok sk es pos y y') : xt ok sk es pos (if p then x else y) (if q then x' else y') := by
  by_cases c : p
  · rw [if_pos c, if_pos (hp.mp c)]; exact h1 c
  · rw [if_neg c, if_neg (fun z => c (hp.mpr z))]; exact h2 c
theorem xk_ite {p : Prop} [Decidable p] {x y : gx_R α} (hp : ¬ p) (h : xk sk es pos y) : xk sk es pos (if p then x else y) := by rw [if_neg hp]; exact h
theorem xk_if {p : Prop} [Decidable p] {x : gx_R α} (hp : ¬ p) {e : Int × Int} (he : e = es) : xk sk es pos (gx_if p e x) := by unfold gx_if; rw [if_neg hp, he]; exact Or.inl rfl
theorem xk_ifb {p : Prop} [Decidable p] {x : gx_R β} {g : β → gx_R α} (hp : ¬ p) {e : Int × Int} (he : e = es) : xk sk es pos (gx_b (gx_if p e x) g) := by unfold gx_if; rw [if_neg hp, he]; exact Or.inl rfl
end
section
variable {ok sk : Nat → Prop} {K K' V P : Nat → Int} {σ : Type} {C : gx_V → σ → gx_R σ} {es : Int × Int} {nx1 : Nat → gx_R Nat} {sx2 : Nat → Int × Int}
theorem xt_C {α : Type} {pos : α → Nat} {e : gx_V} {s : σ} {f g : σ → gx_R α} (hk : ∀ s1, xt ok sk es pos (f s1) (g s1)) : xt ok sk es pos (gx_b (C e s) f) (gx_b (C e s) g) := by
  cases C e s with
  | inl x => exact xt_e x
  | inr s1 => exact hk s1
theorem xk_C (hC : ∀ e s x, C e s = .inl x → 8 ≤ x.1) {α : Type} {pos : α → Nat} {e : gx_V} {s : σ} {g : σ → gx_R α} (hk : ∀ s1, xk sk es pos (g s1)) : xk sk es pos (gx_b (C e s) g) := by
  cases hc : C e s with
  | inl x => exact Or.inr (Or.inl ⟨x, rfl, hC _ _ _ hc⟩)
  | inr s1 => exact hk s1
abbrev xq0 : Nat → Nat := fun i => i
abbrev xq1 {α : Type} : Nat × α → Nat := fun a => a.1
theorem xt_n (hN : ∀ i, ok i → 1 ≤ K i ∧ K i ≤ 5 → xt ok sk es (fun j => j) (nx1 i) (hx_next i)) {i : Nat} (hi : ok i) (hk : 1 ≤ K i ∧ K i ≤ 5) : xt ok sk es xq0 (nx1 i) (hx_next i) := hN i hi hk
theorem kw {i : Nat} {n : Int} (h : gx_wd K V n i) : 1 ≤ K i ∧ K i ≤ 5 := by rw [h.1]; decide
theorem ks {i : Nat} {n : Int} (h : gx_sg K V n i) : 1 ≤ K i ∧ K i ≤ 5 := by rw [h.1]; decide
theorem kk {i : Nat} {n : Int} (h : K i = n) (hn : 1 ≤ n ∧ n ≤ 5) : 1 ≤ K i ∧ K i ≤ 5 := by rw [h]; exact hn
theorem kE (hE : ∀ i, ok i → K i = K' i) {i : Nat} (hi : ok i) (n : Int) : K i = n ↔ K' i = n := by rw [hE i hi]
theorem sE (hE : ∀ i, ok i → K i = K' i) {i : Nat} (hi : ok i) (c : Int) : gx_sg K V c i ↔ gx_sg K' V c i := by unfold gx_sg; rw [hE i hi]
theorem wE (hE : ∀ i, ok i → K i = K' i) {i : Nat} (hi : ok i) (c : Int) : gx_wd K V c i ↔ gx_wd K' V c i := by unfold gx_wd; rw [hE i hi]
theorem s7 (h7 : ∀ i, sk i → K' i = 6 ∨ K' i = 7) {i : Nat} (hi : sk i) (c : Int) : ¬ gx_sg K' V c i := by rintro ⟨z, -⟩; have := h7 i hi; omega
theorem w7 (h7 : ∀ i, sk i → K' i = 6 ∨ K' i = 7) {i : Nat} (hi : sk i) (c : Int) : ¬ gx_wd K' V c i := by rintro ⟨z, -⟩; have := h7 i hi; omega
theorem k7 (h7 : ∀ i, sk i → K' i = 6 ∨ K' i = 7) {i : Nat} (hi : sk i) {c : Int} (hc : c < 6) : ¬ K' i = c := by intro z; have := h7 i hi; omega
theorem xt_sg (hN : ∀ i, ok i → 1 ≤ K i ∧ K i ≤ 5 → xt ok sk es (fun j => j) (nx1 i) (hx_next i)) (hE : ∀ i, ok i → K i = K' i) (hS : ∀ i, ok i → (1, P i) = sx2 i) {i : Nat} (hi : ok i) (c : Int) : xt ok sk es xq0 (xx_sign nx1 (fun i => (1, P i)) K V c i) (xx_sign hx_next sx2 K' V c i) := xt_ifc (sE hE hi c) (hS i hi) (fun h => xt_n hN hi (ks h))
theorem xt_wd (hN : ∀ i, ok i → 1 ≤ K i ∧ K i ≤ 5 → xt ok sk es (fun j => j) (nx1 i) (hx_next i)) (hE : ∀ i, ok i → K i = K' i) (hS : ∀ i, ok i → (1, P i) = sx2 i) {i : Nat} (hi : ok i) (c : Int) : xt ok sk es xq0 (xx_word nx1 (fun i => (1, P i)) K V c i) (xx_word hx_next sx2 K' V c i) := xt_ifc (wE hE hi c) (hS i hi) (fun h => xt_n hN hi (kw h))
theorem xt_nm (hN : ∀ i, ok i → 1 ≤ K i ∧ K i ≤ 5 → xt ok sk es (fun j => j) (nx1 i) (hx_next i)) (hE : ∀ i, ok i → K i = K' i) (hS : ∀ i, ok i → (1, P i) = sx2 i) {i : Nat} (hi : ok i) : xt ok sk es xq0 (xx_name nx1 (fun i => (1, P i)) K i) (xx_name hx_next sx2 K' i) := xt_ifc (kE hE hi 2) (hS i hi) (fun h => xt_n hN hi (kk h (by decide)))
theorem xt_op (hN : ∀ i, ok i → 1 ≤ K i ∧ K i ≤ 5 → xt ok sk es (fun j => j) (nx1 i) (hx_next i)) {i deep : Nat} (hi : ok i) (hk : 1 ≤ K i ∧ K i ≤ 5) : xt ok sk es xq0 (xx_open nx1 P deep i) (xx_open hx_next P deep i) := xt_if Iff.rfl rfl (xt_n hN hi hk)
theorem xt_ops (hN : ∀ i, ok i → 1 ≤ K i ∧ K i ≤ 5 → xt ok sk es (fun j => j) (nx1 i) (hx_next i)) (hE : ∀ i, ok i → K i = K' i) (hS : ∀ i, ok i → (1, P i) = sx2 i) {i deep : Nat} (hi : ok i) (c : Int) : xt ok sk es xq0 (xx_opens nx1 (fun i => (1, P i)) K V P c deep i) (xx_opens hx_next sx2 K' V P c deep i) := xt_ifc (sE hE hi c) (hS i hi) (fun h => xt_op hN hi (ks h))
theorem es7 (h7 : ∀ i, sk i → K' i = 6 ∨ K' i = 7) (hS2 : ∀ i, sk i → sx2 i = es) {i : Nat} (hi : sk i) : sx2 i = es := hS2 i hi
theorem xk_sg (h7 : ∀ i, sk i → K' i = 6 ∨ K' i = 7) (hS2 : ∀ i, sk i → sx2 i = es) {i : Nat} (hi : sk i) {α : Type} {pos : α → Nat} {g : Nat → gx_R α} (c : Int) : xk sk es pos (gx_b (xx_sign hx_next sx2 K' V c i) g) := xk_ifb (s7 h7 hi c) (es7 h7 hS2 hi)
theorem xk_wd (h7 : ∀ i, sk i → K' i = 6 ∨ K' i = 7) (hS2 : ∀ i, sk i → sx2 i = es) {i : Nat} (hi : sk i) {α : Type} {pos : α → Nat} {g : Nat → gx_R α} (c : Int) : xk sk es pos (gx_b (xx_word hx_next sx2 K' V c i) g) := xk_ifb (w7 h7 hi c) (es7 h7 hS2 hi)
theorem xk_nm (h7 : ∀ i, sk i → K' i = 6 ∨ K' i = 7) (hS2 : ∀ i, sk i → sx2 i = es) {i : Nat} (hi : sk i) {α : Type} {pos : α → Nat} {g : Nat → gx_R α} : xk sk es pos (gx_b (xx_name hx_next sx2 K' i) g) := xk_ifb (k7 h7 hi (by decide)) (es7 h7 hS2 hi)
theorem xk_ops (h7 : ∀ i, sk i → K' i = 6 ∨ K' i = 7) (hS2 : ∀ i, sk i → sx2 i = es) {i deep : Nat} (hi : sk i) {α : Type} {pos : α → Nat} {g : Nat → gx_R α} (c : Int) : xk sk es pos (gx_b (xx_opens hx_next sx2 K' V P c deep i) g) := xk_ifb (s7 h7 hi c) (es7 h7 hS2 hi)
theorem xe0_st (h7 : ∀ i, sk i → K' i = 6 ∨ K' i = 7) (hS2 : ∀ i, sk i → sx2 i = es) {f deep st i : Nat} {s : σ} (hi : sk i) : xe hx_next sx2 K' V P C f 0 deep st i s = .inl es ∨ xe hx_next sx2 K' V P C f 0 deep st i s = .inl (9, 0) := by
  cases f with
  | zero => exact Or.inr rfl
  | succ f =>
    left
    rw [xe, if_neg (k7 h7 hi (by decide)), if_neg (k7 h7 hi (by decide)), if_neg (k7 h7 hi (by decide)), if_neg (k7 h7 hi (by decide)), if_neg (s7 h7 hi _)]
    unfold gx_if
    rw [if_neg (by rintro (z | z); exact s7 h7 hi _ z; exact s7 h7 hi _ z), es7 h7 hS2 hi]
theorem xk_e0 (h7 : ∀ i, sk i → K' i = 6 ∨ K' i = 7) (hS2 : ∀ i, sk i → sx2 i = es) {f deep st i : Nat} {s : σ} (hi : sk i) {α : Type} {pos : α → Nat} {g : Nat × Nat × σ × Nat → gx_R α} : xk sk es pos (gx_b (xe hx_next sx2 K' V P C f 0 deep st i s) g) := by
  rcases xe0_st (C := C) (V := V) (P := P) (f := f) (deep := deep) (st := st) (s := s) h7 hS2 hi with e | e
  · rw [e]; exact Or.inl rfl
  · rw [e]; exact Or.inr (Or.inl ⟨_, rfl, by decide⟩)
theorem xk_e1 (h7 : ∀ i, sk i → K' i = 6 ∨ K' i = 7) (hS2 : ∀ i, sk i → sx2 i = es) {f deep st i : Nat} {s : σ} (hi : sk i) : xk sk es xq1 (xe hx_next sx2 K' V P C f 1 deep st i s) := by
  cases f with
  | zero => exact Or.inr (Or.inl ⟨_, rfl, by decide⟩)
  | succ f =>
    rw [xe, if_neg (fun z => k7 h7 hi (by decide) z.1)]
    exact xk_i hi
theorem xk_e2 (h7 : ∀ i, sk i → K' i = 6 ∨ K' i = 7) (hS2 : ∀ i, sk i → sx2 i = es) {f deep st i : Nat} {s : σ} (hi : sk i) {α : Type} {pos : α → Nat} {g : Nat × Nat × σ × Nat → gx_R α} : xk sk es pos (gx_b (xe hx_next sx2 K' V P C f 2 deep st i s) g) := by
  cases f with
  | zero => exact Or.inr (Or.inl ⟨_, rfl, by decide⟩)
  | succ f =>
    rw [xe, if_neg (s7 h7 hi _), gx_b_assoc]
    exact xk_e0 h7 hS2 hi
theorem xk_e3 (h7 : ∀ i, sk i → K' i = 6 ∨ K' i = 7) (hS2 : ∀ i, sk i → sx2 i = es) {f deep st i : Nat} {s : σ} (hi : sk i) {α : Type} {pos : α → Nat} {g : Nat × Nat × σ × Nat → gx_R α} : xk sk es pos (gx_b (xe hx_next sx2 K' V P C f 3 deep st i s) g) := by
  cases f with
  | zero => exact Or.inr (Or.inl ⟨_, rfl, by decide⟩)
  | succ f =>
    rw [xe, if_neg (s7 h7 hi _), gx_b_assoc]
    · exact xk_sg h7 hS2 hi _
    all_goals (intro z; omega)
theorem xk_ee (h7 : ∀ i, sk i → K' i = 6 ∨ K' i = 7) (hS2 : ∀ i, sk i → sx2 i = es) {f deep st i : Nat} {s : σ} (hi : sk i) {α : Type} {pos : α → Nat} {g : Nat × Nat × σ × Nat → gx_R α} : xk sk es pos (gx_b (xe_e hx_next sx2 K' V P C f deep st i s) g) := by
  unfold xe_e
  rw [gx_b_assoc]
  exact xk_e0 h7 hS2 hi
theorem xe_T (hC : ∀ e s x, C e s = .inl x → 8 ≤ x.1) (hN : ∀ i, ok i → 1 ≤ K i ∧ K i ≤ 5 → xt ok sk es (fun j => j) (nx1 i) (hx_next i)) (hE : ∀ i, ok i → K i = K' i) (h7 : ∀ i, sk i → K' i = 6 ∨ K' i = 7) (hS : ∀ i, ok i → (1, P i) = sx2 i) (hS2 : ∀ i, sk i → sx2 i = es) : ∀ (f m deep st i : Nat) (s : σ), ok i → xt ok sk es xq1 (xe nx1 (fun i => (1, P i)) K V P C f m deep st i s) (xe hx_next sx2 K' V P C f m deep st i s)
  | 0, _, _, _, _, _, _ => xt_e _
  | f + 1, 0, deep, st, i, s, hi => by
    have ih := fun m deep st i (s : σ) hi => xe_T hC hN hE h7 hS hS2 f m deep st i s hi
    have n : ∀ {i : Nat}, ok i → 1 ≤ K i ∧ K i ≤ 5 → xt ok sk es xq0 (nx1 i) (hx_next i) := fun hi hk => xt_n hN hi hk
    rw [xe, xe]
    refine xt_ite (kE hE hi 3) (fun c => xt_C fun _ => xt_b (n hi (kk c (by decide))) (fun j hj => xt_i hj) (fun j hj => xk_i hj)) (fun _ => ?_)
    refine xt_ite (kE hE hi 4) (fun c => xt_if Iff.rfl rfl (xt_C fun _ => xt_b (n hi (kk c (by decide))) (fun j hj => xt_i hj) (fun j hj => xk_i hj))) (fun _ => ?_)
    refine xt_ite (kE hE hi 1) (fun c => xt_if Iff.rfl (hS i hi) (xt_C fun _ => xt_b (n hi (kk c (by decide))) (fun j hj => xt_i hj) (fun j hj => xk_i hj))) (fun _ => ?_)
    refine xt_ite (kE hE hi 2) (fun c => xt_b (n hi (kk c (by decide))) (fun j hj => ?_) (fun j hj => ?_)) (fun _ => ?_)
    · refine xt_ite (sE hE hj 91) (fun c => xt_C fun _ => xt_b (xt_op hN hj (ks c)) (fun j1 hj1 => xt_b (ih _ _ _ _ _ hj1) (fun r1 h1 => xt_b (ih _ _ _ _ _ h1) (fun r2 h2 => xt_b (xt_sg hN hE hS h2 _) (fun j2 hj2 => xt_C fun _ => xt_i hj2) (fun j2 hj2 => xk_C hC fun _ => xk_i hj2)) (fun r2 h2 => xk_sg h7 hS2 h2 _)) (fun r1 h1 => xk_b (xk_e1 h7 hS2 h1) (fun r2 h2 => xk_sg h7 hS2 h2 _))) (fun j1 hj1 => xk_e0 h7 hS2 hj1)) (fun _ => ?_)
      refine xt_ite (sE hE hj 46) (fun c => xt_b (n hj (ks c)) (fun j1 hj1 => xt_b (xt_nm hN hE hS hj1) (fun j2 hj2 => xt_C fun _ => xt_b (xt_ops hN hE hS hj2 _) (fun j3 hj3 => xt_b (ih _ _ _ _ _ hj3) (fun r h => xt_C fun _ => xt_i h) (fun r h => xk_C hC fun _ => xk_i h)) (fun j3 hj3 => xk_e2 h7 hS2 hj3)) (fun j2 hj2 => xk_C hC fun _ => xk_ops h7 hS2 hj2 _)) (fun j1 hj1 => xk_nm h7 hS2 hj1)) (fun _ => ?_)
      exact xt_ite (sE hE hj 40) (fun c => xt_C fun _ => xt_b (xt_op hN hj (ks c)) (fun j3 hj3 => xt_b (ih _ _ _ _ _ hj3) (fun r h => xt_C fun _ => xt_i h) (fun r h => xk_C hC fun _ => xk_i h)) (fun j3 hj3 => xk_e2 h7 hS2 hj3)) (fun _ => xt_C fun _ => xt_i hj)
    · exact xk_ite (s7 h7 hj _) (xk_ite (s7 h7 hj _) (xk_ite (s7 h7 hj _) (xk_C hC fun _ => xk_i hj)))
    refine xt_ite (sE hE hi 40) (fun c => xt_b (xt_op hN hi (ks c)) (fun j1 hj1 => xt_b (ih _ _ _ _ _ hj1) (fun r1 h1 => xt_b (ih _ _ _ _ _ h1) (fun r2 h2 => xt_b (xt_sg hN hE hS h2 _) (fun j2 hj2 => xt_i hj2) (fun j2 hj2 => xk_i hj2)) (fun r2 h2 => xk_sg h7 hS2 h2 _)) (fun r1 h1 => xk_b (xk_e1 h7 hS2 h1) (fun r2 h2 => xk_sg h7 hS2 h2 _))) (fun j1 hj1 => xk_e0 h7 hS2 hj1)) (fun _ => ?_)
    exact xt_ifc (by rw [sE hE hi 45, sE hE hi 126]) (hS i hi) (fun c => xt_b (xt_op hN hi (c.elim ks ks)) (fun j1 hj1 => xt_b (ih _ _ _ _ _ hj1) (fun r1 h1 => xt_C fun _ => xt_i h1) (fun r1 h1 => xk_C hC fun _ => xk_i h1)) (fun j1 hj1 => xk_e0 h7 hS2 hj1))
  | f + 1, 1, deep, st, i, s, hi => by
    have ih := fun m deep st i (s : σ) hi => xe_T hC hN hE h7 hS hS2 f m deep st i s hi
    rw [xe, xe]
    exact xt_ite (by unfold gx_op; rw [hE i hi]) (fun c => xt_b (xt_n hN hi (kk c.1 (by decide))) (fun j hj => xt_b (ih _ _ _ _ _ hj) (fun r1 h1 => xt_C fun _ => ih _ _ _ _ _ h1) (fun r1 h1 => xk_C hC fun _ => xk_e1 h7 hS2 h1)) (fun j hj => xk_e0 h7 hS2 hj)) (fun _ => xt_i hi)
  | f + 1, 2, deep, st, i, s, hi => by
    have ih := fun m deep st i (s : σ) hi => xe_T hC hN hE h7 hS hS2 f m deep st i s hi
    rw [xe, xe]
    exact xt_ite (sE hE hi 41) (fun c => xt_b (xt_n hN hi (ks c)) (fun j hj => xt_i hj) (fun j hj => xk_i hj)) (fun _ => xt_b (ih _ _ _ _ _ hi) (fun r1 h1 => xt_b (ih _ _ _ _ _ h1) (fun r2 h2 => xt_b (ih _ _ _ _ _ h2) (fun r3 h3 => xt_i h3) (fun r3 h3 => xk_i h3)) (fun r2 h2 => xk_e3 h7 hS2 h2)) (fun r1 h1 => xk_b (xk_e1 h7 hS2 h1) (fun r2 h2 => xk_e3 h7 hS2 h2)))
  | f + 1, m + 3, deep, st, i, s, hi => by
    have ih := fun m deep st i (s : σ) hi => xe_T hC hN hE h7 hS hS2 f m deep st i s hi
    rw [xe, xe]
    · exact xt_ite (sE hE hi 41) (fun c => xt_b (xt_n hN hi (ks c)) (fun j hj => xt_i hj) (fun j hj => xk_i hj)) (fun _ => xt_b (xt_sg hN hE hS hi _) (fun j hj => xt_b (ih _ _ _ _ _ hj) (fun r1 h1 => xt_b (ih _ _ _ _ _ h1) (fun r2 h2 => xt_b (ih _ _ _ _ _ h2) (fun r3 h3 => xt_i h3) (fun r3 h3 => xk_i h3)) (fun r2 h2 => xk_e3 h7 hS2 h2)) (fun r1 h1 => xk_b (xk_e1 h7 hS2 h1) (fun r2 h2 => xk_e3 h7 hS2 h2))) (fun j hj => xk_e0 h7 hS2 hj))
    all_goals (intro z; omega)
theorem xe_e_T (hC : ∀ e s x, C e s = .inl x → 8 ≤ x.1) (hN : ∀ i, ok i → 1 ≤ K i ∧ K i ≤ 5 → xt ok sk es (fun j => j) (nx1 i) (hx_next i)) (hE : ∀ i, ok i → K i = K' i) (h7 : ∀ i, sk i → K' i = 6 ∨ K' i = 7) (hS : ∀ i, ok i → (1, P i) = sx2 i) (hS2 : ∀ i, sk i → sx2 i = es) {f deep st i : Nat} {s : σ} (hi : ok i) : xt ok sk es xq1 (xe_e nx1 (fun i => (1, P i)) K V P C f deep st i s) (xe_e hx_next sx2 K' V P C f deep st i s) :=
  xt_b (xe_T hC hN hE h7 hS hS2 f 0 deep st i s hi) (fun r1 h1 => xe_T hC hN hE h7 hS hS2 _ _ _ _ _ _ h1) (fun r1 h1 => xk_e1 h7 hS2 h1)
theorem xe_c_T (hC : ∀ e s x, C e s = .inl x → 8 ≤ x.1) (hN : ∀ i, ok i → 1 ≤ K i ∧ K i ≤ 5 → xt ok sk es (fun j => j) (nx1 i) (hx_next i)) (hE : ∀ i, ok i → K i = K' i) (h7 : ∀ i, sk i → K' i = 6 ∨ K' i = 7) (hS : ∀ i, ok i → (1, P i) = sx2 i) (hS2 : ∀ i, sk i → sx2 i = es) {f deep st i : Nat} {s : σ} (hi : ok i) : xt ok sk es xq1 (xe_c nx1 (fun i => (1, P i)) K V P C f deep st i s) (xe_c hx_next sx2 K' V P C f deep st i s) :=
  xt_b (xt_ops hN hE hS hi _) (fun j hj => xt_b (xe_e_T hC hN hE h7 hS hS2 hj) (fun r h => xt_b (xt_sg hN hE hS h _) (fun j2 hj2 => xt_i hj2) (fun j2 hj2 => xk_i hj2)) (fun r h => xk_sg h7 hS2 h _)) (fun j hj => xk_ee h7 hS2 hj)
theorem xe_let_T (hC : ∀ e s x, C e s = .inl x → 8 ≤ x.1) (hN : ∀ i, ok i → 1 ≤ K i ∧ K i ≤ 5 → xt ok sk es (fun j => j) (nx1 i) (hx_next i)) (hE : ∀ i, ok i → K i = K' i) (h7 : ∀ i, sk i → K' i = 6 ∨ K' i = 7) (hS : ∀ i, ok i → (1, P i) = sx2 i) (hS2 : ∀ i, sk i → sx2 i = es) {f deep st i : Nat} {s : σ} (hi : ok i) : xt ok sk es xq1 (xe_let nx1 (fun i => (1, P i)) K V P C f deep st i s) (xe_let hx_next sx2 K' V P C f deep st i s) := by
  have fin : ∀ {deep st j : Nat} {s1 : σ} {ev : gx_V}, ok j → xt ok sk es xq1 (gx_b (xe_e nx1 (fun i => (1, P i)) K V P C f deep st j s1) fun r2 => gx_b (xx_sign nx1 (fun i => (1, P i)) K V 59 r2.1) fun j4 => gx_b (C ev r2.2.2.1) fun s3 => .inr (j4, r2.2.1, s3)) (gx_b (xe_e hx_next sx2 K' V P C f deep st j s1) fun r2 => gx_b (xx_sign hx_next sx2 K' V 59 r2.1) fun j4 => gx_b (C ev r2.2.2.1) fun s3 => .inr (j4, r2.2.1, s3)) := fun hj => xt_b (xe_e_T hC hN hE h7 hS hS2 hj) (fun r2 h2 => xt_b (xt_sg hN hE hS h2 _) (fun j4 hj4 => xt_C fun _ => xt_i hj4) (fun j4 hj4 => xk_C hC fun _ => xk_i hj4)) (fun r2 h2 => xk_sg h7 hS2 h2 _)
  unfold xe_let
  refine xt_b (xt_nm hN hE hS hi) (fun j hj => ?_) (fun j hj => xk_ite (s7 h7 hj _) (xk_C hC fun _ => xk_sg h7 hS2 hj _))
  exact xt_ite (sE hE hj 91) (fun c => xt_C fun _ => xt_b (xt_op hN hj (ks c)) (fun j1 hj1 => xt_b (xe_e_T hC hN hE h7 hS hS2 hj1) (fun r h => xt_b (xt_sg hN hE hS h _) (fun j2 hj2 => xt_C fun _ => xt_b (xt_sg hN hE hS hj2 _) (fun j3 hj3 => fin hj3) (fun j3 hj3 => xk_ee h7 hS2 hj3)) (fun j2 hj2 => xk_C hC fun _ => xk_sg h7 hS2 hj2 _)) (fun r h => xk_sg h7 hS2 h _)) (fun j1 hj1 => xk_ee h7 hS2 hj1)) (fun _ => xt_C fun _ => xt_b (xt_sg hN hE hS hj _) (fun j3 hj3 => fin hj3) (fun j3 hj3 => xk_ee h7 hS2 hj3))
theorem xe_do_T (hC : ∀ e s x, C e s = .inl x → 8 ≤ x.1) (hN : ∀ i, ok i → 1 ≤ K i ∧ K i ≤ 5 → xt ok sk es (fun j => j) (nx1 i) (hx_next i)) (hE : ∀ i, ok i → K i = K' i) (h7 : ∀ i, sk i → K' i = 6 ∨ K' i = 7) (hS : ∀ i, ok i → (1, P i) = sx2 i) (hS2 : ∀ i, sk i → sx2 i = es) {f deep st i : Nat} {s : σ} (hi : ok i) : xt ok sk es xq1 (xe_do nx1 (fun i => (1, P i)) K V P C f deep st i s) (xe_do hx_next sx2 K' V P C f deep st i s) := by
  unfold xe_do
  refine xt_b (xt_nm hN hE hS hi) (fun j hj => ?_) (fun j hj => xk_ite (s7 h7 hj _) (xk_ite (s7 h7 hj _) (Or.inl (by rw [es7 h7 hS2 hj]))))
  exact xt_ite (sE hE hj 46) (fun c => xt_b (xt_n hN hj (ks c)) (fun j1 hj1 => xt_b (xt_nm hN hE hS hj1) (fun j2 hj2 => xt_C fun _ => xt_b (xt_ops hN hE hS hj2 _) (fun j3 hj3 => xt_b (xe_T hC hN hE h7 hS hS2 _ _ _ _ _ _ hj3) (fun r h => xt_C fun _ => xt_C fun _ => xt_b (xt_sg hN hE hS h _) (fun j4 hj4 => xt_i hj4) (fun j4 hj4 => xk_i hj4)) (fun r h => xk_C hC fun _ => xk_C hC fun _ => xk_sg h7 hS2 h _)) (fun j3 hj3 => xk_e2 h7 hS2 hj3)) (fun j2 hj2 => xk_C hC fun _ => xk_ops h7 hS2 hj2 _)) (fun j1 hj1 => xk_nm h7 hS2 hj1))
    (fun _ => xt_ite (sE hE hj 40) (fun c => xt_C fun _ => xt_b (xt_op hN hj (ks c)) (fun j3 hj3 => xt_b (xe_T hC hN hE h7 hS hS2 _ _ _ _ _ _ hj3) (fun r h => xt_C fun _ => xt_C fun _ => xt_b (xt_sg hN hE hS h _) (fun j4 hj4 => xt_i hj4) (fun j4 hj4 => xk_i hj4)) (fun r h => xk_C hC fun _ => xk_C hC fun _ => xk_sg h7 hS2 h _)) (fun j3 hj3 => xk_e2 h7 hS2 hj3)) (fun _ => by
      have e := hS j hj
      show xt ok sk es xq1 (.inl (1, P j)) (.inl (sx2 j))
      rw [e]; exact xt_e _))
theorem xe_ret_T (hC : ∀ e s x, C e s = .inl x → 8 ≤ x.1) (hN : ∀ i, ok i → 1 ≤ K i ∧ K i ≤ 5 → xt ok sk es (fun j => j) (nx1 i) (hx_next i)) (hE : ∀ i, ok i → K i = K' i) (h7 : ∀ i, sk i → K' i = 6 ∨ K' i = 7) (hS : ∀ i, ok i → (1, P i) = sx2 i) (hS2 : ∀ i, sk i → sx2 i = es) {f deep st i : Nat} {s : σ} (hi : ok i) : xt ok sk es xq1 (xe_ret nx1 (fun i => (1, P i)) K V P C f deep st i s) (xe_ret hx_next sx2 K' V P C f deep st i s) :=
  xt_ite (sE hE hi 59) (fun _ => xt_C fun _ => xt_b (xt_sg hN hE hS hi _) (fun j hj => xt_C fun _ => xt_i hj) (fun j hj => xk_C hC fun _ => xk_i hj)) (fun _ => xt_b (xe_e_T hC hN hE h7 hS hS2 hi) (fun r h => xt_b (xt_sg hN hE hS h _) (fun j hj => xt_C fun _ => xt_i hj) (fun j hj => xk_C hC fun _ => xk_i hj)) (fun r h => xk_sg h7 hS2 h _))
theorem xk_s0 (h7 : ∀ i, sk i → K' i = 6 ∨ K' i = 7) (hS2 : ∀ i, sk i → sx2 i = es) {g f deep st i : Nat} {s : σ} (hi : sk i) : xk sk es xq1 (xs hx_next sx2 K' V P C g f 0 deep st i s) := by
  cases f with
  | zero => exact Or.inr (Or.inl ⟨_, rfl, by decide⟩)
  | succ f =>
    rw [xs, if_neg (fun z => k7 h7 hi (by decide) z.1)]
    exact xk_i hi
theorem xs_T (hC : ∀ e s x, C e s = .inl x → 8 ≤ x.1) (hN : ∀ i, ok i → 1 ≤ K i ∧ K i ≤ 5 → xt ok sk es (fun j => j) (nx1 i) (hx_next i)) (hE : ∀ i, ok i → K i = K' i) (h7 : ∀ i, sk i → K' i = 6 ∨ K' i = 7) (hS : ∀ i, ok i → (1, P i) = sx2 i) (hS2 : ∀ i, sk i → sx2 i = es) (g : Nat) : ∀ (f m deep st i : Nat) (s : σ), ok i → (m = 0 ∨ gx_stm K V i) → xt ok sk es xq1 (xs nx1 (fun i => (1, P i)) K V P C g f m deep st i s) (xs hx_next sx2 K' V P C g f m deep st i s)
  | 0, _, _, _, _, _, _, _ => xt_e _
  | f + 1, 0, deep, st, i, s, hi, hm => by
    have ih := fun m deep st i (s : σ) hi hm => xs_T hC hN hE h7 hS hS2 g f m deep st i s hi hm
    rw [xs, xs]
    exact xt_ite (by unfold gx_stm; rw [hE i hi]) (fun c => xt_b (ih _ _ _ _ _ hi (Or.inr c)) (fun r h => ih _ _ _ _ _ h (Or.inl rfl)) (fun r h => xk_s0 h7 hS2 h)) (fun _ => xt_i hi)
  | f + 1, m + 1, deep, st, i, s, hi, hm => by
    have ih := fun m deep st i (s : σ) hi hm => xs_T hC hN hE h7 hS hS2 g f m deep st i s hi hm
    rw [xs, xs]
    · refine xt_C fun _ => xt_b (xt_n hN hi (kk (hm.elim (fun z => (by cases z)) (fun z => z.1)) (by decide))) (fun j hj => ?_) (fun j hj => ?_)
      · refine xt_ite Iff.rfl (fun _ => xe_let_T hC hN hE h7 hS hS2 hj) (fun _ => ?_)
        refine xt_ite Iff.rfl (fun _ => xt_C fun _ => xt_b (xe_c_T hC hN hE h7 hS hS2 hj) (fun r h => xt_C fun _ => xt_b (xt_ops hN hE hS h _) (fun j1 hj1 => xt_b (ih _ _ _ _ _ hj1 (Or.inl rfl)) (fun r2 h2 => xt_b (xt_sg hN hE hS h2 _) (fun j2 hj2 => ?_) (fun j2 hj2 => xk_ite (w7 h7 hj2 _) (xk_C hC fun _ => xk_i hj2))) (fun r2 h2 => xk_sg h7 hS2 h2 _)) (fun j1 hj1 => xk_b (xk_s0 h7 hS2 hj1) (fun r2 h2 => xk_sg h7 hS2 h2 _))) (fun r h => xk_C hC fun _ => xk_ops h7 hS2 h _)) (fun _ => ?_)
        · exact xt_ite (wE hE hj2 18) (fun c => xt_C fun _ => xt_b (xt_n hN hj2 (kw c)) (fun j3 hj3 => xt_b (xt_ops hN hE hS hj3 _) (fun j4 hj4 => xt_b (ih _ _ _ _ _ hj4 (Or.inl rfl)) (fun r3 h3 => xt_b (xt_sg hN hE hS h3 _) (fun j5 hj5 => xt_C fun _ => xt_i hj5) (fun j5 hj5 => xk_C hC fun _ => xk_i hj5)) (fun r3 h3 => xk_sg h7 hS2 h3 _)) (fun j4 hj4 => xk_b (xk_s0 h7 hS2 hj4) (fun r2 h2 => xk_sg h7 hS2 h2 _))) (fun j3 hj3 => xk_ops h7 hS2 hj3 _)) (fun _ => xt_C fun _ => xt_i hj2)
        refine xt_ite Iff.rfl (fun _ => xt_C fun _ => xt_b (xe_c_T hC hN hE h7 hS hS2 hj) (fun r h => xt_C fun _ => xt_b (xt_ops hN hE hS h _) (fun j1 hj1 => xt_b (ih _ _ _ _ _ hj1 (Or.inl rfl)) (fun r2 h2 => xt_b (xt_sg hN hE hS h2 _) (fun j2 hj2 => xt_C fun _ => xt_i hj2) (fun j2 hj2 => xk_C hC fun _ => xk_i hj2)) (fun r2 h2 => xk_sg h7 hS2 h2 _)) (fun j1 hj1 => xk_b (xk_s0 h7 hS2 hj1) (fun r2 h2 => xk_sg h7 hS2 h2 _))) (fun r h => xk_C hC fun _ => xk_ops h7 hS2 h _)) (fun _ => ?_)
        exact xt_ite Iff.rfl (fun _ => xe_do_T hC hN hE h7 hS hS2 hj) (fun _ => xe_ret_T hC hN hE h7 hS hS2 hj)
      · have lc : ∀ {s2 : σ} {α : Type} {pos : α → Nat} {G : Nat × Nat × σ → gx_R α}, xk sk es pos (gx_b (xe_c hx_next sx2 K' V P C g deep st j s2) G) := by
          intro s2 α pos G
          unfold xe_c
          rw [gx_b_assoc]
          exact xk_ops h7 hS2 hj _
        split
        · exact xk_nm h7 hS2 hj
        split
        · exact xk_C hC fun _ => lc
        split
        · exact xk_C hC fun _ => lc
        split
        · exact xk_nm h7 hS2 hj
        · exact xk_ite (s7 h7 hj _) (xk_ee h7 hS2 hj)
    all_goals (intro z; omega)
theorem xk_ty (h7 : ∀ i, sk i → K' i = 6 ∨ K' i = 7) (hS2 : ∀ i, sk i → sx2 i = es) {i : Nat} {s : σ} (hi : sk i) {α : Type} {pos : α → Nat} {g : Nat × σ → gx_R α} : xk sk es pos (gx_b (xx_type hx_next sx2 K' V C i s) g) := xk_ifb (by
  rintro (z | z | z | z)
  · exact w7 h7 hi _ z
  · exact w7 h7 hi _ z
  · exact w7 h7 hi _ z
  · exact k7 h7 hi (by decide) z) (es7 h7 hS2 hi)
theorem xx_type_T (hC : ∀ e s x, C e s = .inl x → 8 ≤ x.1) (hN : ∀ i, ok i → 1 ≤ K i ∧ K i ≤ 5 → xt ok sk es (fun j => j) (nx1 i) (hx_next i)) (hE : ∀ i, ok i → K i = K' i) (h7 : ∀ i, sk i → K' i = 6 ∨ K' i = 7) (hS : ∀ i, ok i → (1, P i) = sx2 i) (hS2 : ∀ i, sk i → sx2 i = es) {i : Nat} {s : σ} (hi : ok i) : xt ok sk es xq1 (xx_type nx1 (fun i => (1, P i)) K V C i s) (xx_type hx_next sx2 K' V C i s) :=
  xt_ifc (by rw [wE hE hi 7, wE hE hi 8, wE hE hi 9, kE hE hi 2]) (hS i hi) (fun c => xt_C fun _ => xt_b (xt_n hN hi (c.elim kw fun c => c.elim kw fun c => c.elim kw fun c => kk c (by decide))) (fun j hj => xt_i hj) (fun j hj => xk_i hj))
theorem xk_decl (h7 : ∀ i, sk i → K' i = 6 ∨ K' i = 7) (hS2 : ∀ i, sk i → sx2 i = es) {fd : Bool} {f i n : Nat} {s : σ} (hi : sk i) {α : Type} {pos : α → Nat} {g : Nat × Nat × σ → gx_R α} : xk sk es pos (gx_b (xp_decl hx_next sx2 K' V P C fd f i n s) g) := by
  cases f with
  | zero => exact Or.inr (Or.inl ⟨_, rfl, by decide⟩)
  | succ f => exact xk_ifb (k7 h7 hi (by decide)) (es7 h7 hS2 hi)
theorem xk_decl' (h7 : ∀ i, sk i → K' i = 6 ∨ K' i = 7) (hS2 : ∀ i, sk i → sx2 i = es) {fd : Bool} {f i n : Nat} {s : σ} (hi : sk i) : xk sk es xq1 (xp_decl hx_next sx2 K' V P C fd f i n s) := by
  cases f with
  | zero => exact Or.inr (Or.inl ⟨_, rfl, by decide⟩)
  | succ f => exact xk_if (k7 h7 hi (by decide)) (es7 h7 hS2 hi)
theorem xk_varn (h7 : ∀ i, sk i → K' i = 6 ∨ K' i = 7) (hS2 : ∀ i, sk i → sx2 i = es) {f i n : Nat} {s : σ} (hi : sk i) {α : Type} {pos : α → Nat} {g : Nat × Nat × σ → gx_R α} : xk sk es pos (gx_b (xp_varn hx_next sx2 K' V P C f i n s) g) := by
  cases f with
  | zero => exact Or.inr (Or.inl ⟨_, rfl, by decide⟩)
  | succ f => exact xk_ifb (k7 h7 hi (by decide)) (es7 h7 hS2 hi)
theorem xk_varn' (h7 : ∀ i, sk i → K' i = 6 ∨ K' i = 7) (hS2 : ∀ i, sk i → sx2 i = es) {f i n : Nat} {s : σ} (hi : sk i) : xk sk es xq1 (xp_varn hx_next sx2 K' V P C f i n s) := by
  cases f with
  | zero => exact Or.inr (Or.inl ⟨_, rfl, by decide⟩)
  | succ f => exact xk_if (k7 h7 hi (by decide)) (es7 h7 hS2 hi)
theorem xp_decl_T (hC : ∀ e s x, C e s = .inl x → 8 ≤ x.1) (hN : ∀ i, ok i → 1 ≤ K i ∧ K i ≤ 5 → xt ok sk es (fun j => j) (nx1 i) (hx_next i)) (hE : ∀ i, ok i → K i = K' i) (h7 : ∀ i, sk i → K' i = 6 ∨ K' i = 7) (hS : ∀ i, ok i → (1, P i) = sx2 i) (hS2 : ∀ i, sk i → sx2 i = es) (fd : Bool) : ∀ (f i n : Nat) (s : σ), ok i → xt ok sk es xq1 (xp_decl nx1 (fun i => (1, P i)) K V P C fd f i n s) (xp_decl hx_next sx2 K' V P C fd f i n s)
  | 0, _, _, _, _ => xt_e _
  | f + 1, i, n, s, hi => by
    unfold xp_decl
    refine xt_ifc (kE hE hi 2) (hS i hi) (fun c => xt_if Iff.rfl rfl (xt_C fun _ => xt_b (xt_n hN hi (kk c (by decide))) (fun j hj => ?_) (fun j hj => xk_ite (s7 h7 hj _) (xk_sg h7 hS2 hj _))))
    exact xt_ite (sE hE hj 44) (fun c => xt_b (xt_n hN hj (ks c)) (fun j2 hj2 => xp_decl_T hC hN hE h7 hS hS2 fd f _ _ _ hj2) (fun j2 hj2 => xk_decl' h7 hS2 hj2)) (fun _ => xt_b (xt_sg hN hE hS hj _) (fun j2 hj2 => xt_i hj2) (fun j2 hj2 => xk_i hj2))
theorem xp_varn_T (hC : ∀ e s x, C e s = .inl x → 8 ≤ x.1) (hN : ∀ i, ok i → 1 ≤ K i ∧ K i ≤ 5 → xt ok sk es (fun j => j) (nx1 i) (hx_next i)) (hE : ∀ i, ok i → K i = K' i) (h7 : ∀ i, sk i → K' i = 6 ∨ K' i = 7) (hS : ∀ i, ok i → (1, P i) = sx2 i) (hS2 : ∀ i, sk i → sx2 i = es) : ∀ (f i n : Nat) (s : σ), ok i → xt ok sk es xq1 (xp_varn nx1 (fun i => (1, P i)) K V P C f i n s) (xp_varn hx_next sx2 K' V P C f i n s)
  | 0, _, _, _, _ => xt_e _
  | f + 1, i, n, s, hi => by
    unfold xp_varn
    refine xt_ifc (kE hE hi 2) (hS i hi) (fun c => xt_if Iff.rfl rfl (xt_C fun _ => xt_b (xt_n hN hi (kk c (by decide))) (fun j hj => ?_) (fun j hj => xk_ite (s7 h7 hj _) (xk_sg h7 hS2 hj _))))
    exact xt_ite (sE hE hj 44) (fun c => xt_b (xt_n hN hj (ks c)) (fun j2 hj2 => xp_varn_T hC hN hE h7 hS hS2 f _ _ _ hj2) (fun j2 hj2 => xk_varn' h7 hS2 hj2)) (fun _ => xt_b (xt_sg hN hE hS hj _) (fun j2 hj2 => xt_i hj2) (fun j2 hj2 => xk_i hj2))
theorem xk_vars (h7 : ∀ i, sk i → K' i = 6 ∨ K' i = 7) (hS2 : ∀ i, sk i → sx2 i = es) {g f i sn fn : Nat} {s : σ} (hi : sk i) : xk sk es xq1 (xp_vars hx_next sx2 K' V P C g f i sn fn s) := by
  cases f with
  | zero => exact Or.inr (Or.inl ⟨_, rfl, by decide⟩)
  | succ f => exact xk_ite (w7 h7 hi _) (xk_ite (w7 h7 hi _) (xk_i hi))
theorem xp_vars_T (hC : ∀ e s x, C e s = .inl x → 8 ≤ x.1) (hN : ∀ i, ok i → 1 ≤ K i ∧ K i ≤ 5 → xt ok sk es (fun j => j) (nx1 i) (hx_next i)) (hE : ∀ i, ok i → K i = K' i) (h7 : ∀ i, sk i → K' i = 6 ∨ K' i = 7) (hS : ∀ i, ok i → (1, P i) = sx2 i) (hS2 : ∀ i, sk i → sx2 i = es) (g : Nat) : ∀ (f i sn fn : Nat) (s : σ), ok i → xt ok sk es xq1 (xp_vars nx1 (fun i => (1, P i)) K V P C g f i sn fn s) (xp_vars hx_next sx2 K' V P C g f i sn fn s)
  | 0, _, _, _, _, _ => xt_e _
  | f + 1, i, sn, fn, s, hi => by
    unfold xp_vars
    refine xt_ite (wE hE hi 5) (fun c => xt_b (xt_n hN hi (kw c)) (fun j hj => xt_b (xx_type_T hC hN hE h7 hS hS2 hj) (fun r h => xt_b (xp_decl_T hC hN hE h7 hS hS2 _ _ _ _ _ h) (fun r2 h2 => xp_vars_T hC hN hE h7 hS hS2 g f _ _ _ _ h2) (fun r2 h2 => xk_vars h7 hS2 h2)) (fun r h => xk_decl h7 hS2 h)) (fun j hj => xk_ty h7 hS2 hj)) (fun _ => ?_)
    exact xt_ite (wE hE hi 4) (fun c => xt_b (xt_n hN hi (kw c)) (fun j hj => xt_b (xx_type_T hC hN hE h7 hS hS2 hj) (fun r h => xt_b (xp_decl_T hC hN hE h7 hS hS2 _ _ _ _ _ h) (fun r2 h2 => xp_vars_T hC hN hE h7 hS hS2 g f _ _ _ _ h2) (fun r2 h2 => xk_vars h7 hS2 h2)) (fun r h => xk_decl h7 hS2 h)) (fun j hj => xk_ty h7 hS2 hj)) (fun _ => xt_i hi)
theorem xk_pars (h7 : ∀ i, sk i → K' i = 6 ∨ K' i = 7) (hS2 : ∀ i, sk i → sx2 i = es) {f i n : Nat} {s : σ} (hi : sk i) {α : Type} {pos : α → Nat} {g : Nat × σ → gx_R α} : xk sk es pos (gx_b (xp_pars hx_next sx2 K' V P C f i n s) g) := by
  cases f with
  | zero => exact Or.inr (Or.inl ⟨_, rfl, by decide⟩)
  | succ f =>
    unfold xp_pars
    rw [if_neg (s7 h7 hi _)]
    by_cases c : n = 0
    · rw [if_pos c]
      show xk sk es pos (gx_b (gx_b (xx_type hx_next sx2 K' V C i s) _) g)
      rw [gx_b_assoc]
      exact xk_ty h7 hS2 hi
    · rw [if_neg c, gx_b_assoc]
      exact xk_sg h7 hS2 hi _
theorem xk_pars' (h7 : ∀ i, sk i → K' i = 6 ∨ K' i = 7) (hS2 : ∀ i, sk i → sx2 i = es) {f i n : Nat} {s : σ} (hi : sk i) : xk sk es xq1 (xp_pars hx_next sx2 K' V P C f i n s) := by
  have t := xk_pars (C := C) (V := V) (P := P) (f := f) (n := n) (s := s) h7 hS2 hi (pos := xq1) (g := fun a => .inr a)
  rw [gx_b_id] at t
  exact t
theorem xp_pars_T (hC : ∀ e s x, C e s = .inl x → 8 ≤ x.1) (hN : ∀ i, ok i → 1 ≤ K i ∧ K i ≤ 5 → xt ok sk es (fun j => j) (nx1 i) (hx_next i)) (hE : ∀ i, ok i → K i = K' i) (h7 : ∀ i, sk i → K' i = 6 ∨ K' i = 7) (hS : ∀ i, ok i → (1, P i) = sx2 i) (hS2 : ∀ i, sk i → sx2 i = es) : ∀ (f i n : Nat) (s : σ), ok i → xt ok sk es xq1 (xp_pars nx1 (fun i => (1, P i)) K V P C f i n s) (xp_pars hx_next sx2 K' V P C f i n s)
  | 0, _, _, _, _ => xt_e _
  | f + 1, i, n, s, hi => by
    unfold xp_pars
    refine xt_ite (sE hE hi 41) (fun c => xt_b (xt_n hN hi (ks c)) (fun j hj => xt_i hj) (fun j hj => xk_i hj)) (fun _ => ?_)
    refine xt_b (pos := xq0) (xt_ite Iff.rfl (fun _ => xt_i hi) (fun _ => xt_sg hN hE hS hi _)) (fun j hj => ?_) (fun j hj => xk_ty h7 hS2 hj)
    refine xt_b (xx_type_T hC hN hE h7 hS hS2 hj) (fun r h => ?_) (fun r h => xk_if (k7 h7 h (by decide)) (es7 h7 hS2 h))
    exact xt_ifc (kE hE h 2) (hS _ h) (fun c => xt_if Iff.rfl rfl (xt_C fun _ => xt_b (xt_n hN h (kk c (by decide))) (fun j2 hj2 => xp_pars_T hC hN hE h7 hS hS2 f _ _ _ hj2) (fun j2 hj2 => xk_pars' h7 hS2 hj2)))
theorem xk_locs (h7 : ∀ i, sk i → K' i = 6 ∨ K' i = 7) (hS2 : ∀ i, sk i → sx2 i = es) {g f i n : Nat} {s : σ} (hi : sk i) : xk sk es xq1 (xp_locs hx_next sx2 K' V P C g f i n s) := by
  cases f with
  | zero => exact Or.inr (Or.inl ⟨_, rfl, by decide⟩)
  | succ f => exact xk_ite (w7 h7 hi _) (xk_i hi)
theorem xp_locs_T (hC : ∀ e s x, C e s = .inl x → 8 ≤ x.1) (hN : ∀ i, ok i → 1 ≤ K i ∧ K i ≤ 5 → xt ok sk es (fun j => j) (nx1 i) (hx_next i)) (hE : ∀ i, ok i → K i = K' i) (h7 : ∀ i, sk i → K' i = 6 ∨ K' i = 7) (hS : ∀ i, ok i → (1, P i) = sx2 i) (hS2 : ∀ i, sk i → sx2 i = es) (g : Nat) : ∀ (f i n : Nat) (s : σ), ok i → xt ok sk es xq1 (xp_locs nx1 (fun i => (1, P i)) K V P C g f i n s) (xp_locs hx_next sx2 K' V P C g f i n s)
  | 0, _, _, _, _ => xt_e _
  | f + 1, i, n, s, hi => by
    unfold xp_locs
    exact xt_ite (wE hE hi 6) (fun c => xt_b (xt_n hN hi (kw c)) (fun j hj => xt_b (xx_type_T hC hN hE h7 hS hS2 hj) (fun r h => xt_b (xp_varn_T hC hN hE h7 hS hS2 _ _ _ _ h) (fun r2 h2 => xp_locs_T hC hN hE h7 hS hS2 g f _ _ _ h2) (fun r2 h2 => xk_locs h7 hS2 h2)) (fun r h => xk_varn h7 hS2 h)) (fun j hj => xk_ty h7 hS2 hj)) (fun _ => xt_i hi)
theorem xp_sub_T (hC : ∀ e s x, C e s = .inl x → 8 ≤ x.1) (hN : ∀ i, ok i → 1 ≤ K i ∧ K i ≤ 5 → xt ok sk es (fun j => j) (nx1 i) (hx_next i)) (hE : ∀ i, ok i → K i = K' i) (h7 : ∀ i, sk i → K' i = 6 ∨ K' i = 7) (hS : ∀ i, ok i → (1, P i) = sx2 i) (hS2 : ∀ i, sk i → sx2 i = es) {g st i sn : Nat} {s : σ} (hi : ok i) (hk0 : 1 ≤ K i ∧ K i ≤ 5) : xt ok sk es xq1 (xp_sub nx1 (fun i => (1, P i)) K V P C g st i sn s) (xp_sub hx_next sx2 K' V P C g st i sn s) := by
  unfold xp_sub
  refine xt_C fun s0 => xt_b (xt_n hN hi hk0) (fun j hj => ?_) (fun j hj => ?_)
  · refine xt_b (pos := xq1) (xt_ite (wE hE hj 10) (fun c => xt_b (xt_n hN hj (kw c)) (fun j1 hj1 => xt_i hj1) (fun j1 hj1 => xk_i hj1)) (fun _ => xx_type_T hC hN hE h7 hS hS2 hj)) (fun r h => ?_) (fun r h => xk_if (k7 h7 h (by decide)) (es7 h7 hS2 h))
    refine xt_ifc (kE hE h 2) (hS _ h) (fun c => xt_if Iff.rfl rfl (xt_C fun _ => xt_b (xt_n hN h (kk c (by decide))) (fun j2 hj2 => xt_C fun _ => xt_b (xt_sg hN hE hS hj2 _) (fun j3 hj3 => xt_b (xp_pars_T hC hN hE h7 hS hS2 _ _ _ _ hj3) (fun r2 h2 => xt_C fun _ => xt_b (xt_ops hN hE hS h2 _) (fun j4 hj4 => xt_b (xp_locs_T hC hN hE h7 hS hS2 _ _ _ _ _ hj4) (fun r3 h3 => ?_) (fun r3 h3 => ?_)) (fun j4 hj4 => xk_b (xk_locs h7 hS2 hj4) (fun r3 h3 => ?_))) (fun r2 h2 => xk_C hC fun _ => xk_ops h7 hS2 h2 _)) (fun j3 hj3 => xk_pars h7 hS2 hj3)) (fun j2 hj2 => xk_C hC fun _ => xk_sg h7 hS2 hj2 _)))
    · exact xt_C fun _ => xt_b (xs_T hC hN hE h7 hS hS2 _ _ _ _ _ _ _ h3 (Or.inl rfl)) (fun r4 h4 => xt_b (xt_sg hN hE hS h4 _) (fun j5 hj5 => xt_C fun _ => xt_i hj5) (fun j5 hj5 => xk_C hC fun _ => xk_i hj5)) (fun r4 h4 => xk_sg h7 hS2 h4 _)
    · exact xk_C hC fun _ => xk_b (xk_s0 h7 hS2 h3) (fun r4 h4 => xk_sg h7 hS2 h4 _)
    · exact xk_C hC fun _ => xk_b (xk_s0 h7 hS2 h3) (fun r4 h4 => xk_sg h7 hS2 h4 _)
  · rw [if_neg (w7 h7 hj _)]
    exact xk_ty h7 hS2 hj
theorem xk_subs (h7 : ∀ i, sk i → K' i = 6 ∨ K' i = 7) (hS2 : ∀ i, sk i → sx2 i = es) {g f st i sn : Nat} {s : σ} (hi : sk i) : xk sk es xq1 (xp_subs hx_next sx2 K' V P C g f st i sn s) := by
  cases f with
  | zero => exact Or.inr (Or.inl ⟨_, rfl, by decide⟩)
  | succ f => exact xk_ite (by
      rintro (z | z | z)
      · exact w7 h7 hi _ z
      · exact w7 h7 hi _ z
      · exact w7 h7 hi _ z) (xk_i hi)
theorem xp_subs_T (hC : ∀ e s x, C e s = .inl x → 8 ≤ x.1) (hN : ∀ i, ok i → 1 ≤ K i ∧ K i ≤ 5 → xt ok sk es (fun j => j) (nx1 i) (hx_next i)) (hE : ∀ i, ok i → K i = K' i) (h7 : ∀ i, sk i → K' i = 6 ∨ K' i = 7) (hS : ∀ i, ok i → (1, P i) = sx2 i) (hS2 : ∀ i, sk i → sx2 i = es) (g : Nat) : ∀ (f st i sn : Nat) (s : σ), ok i → xt ok sk es xq1 (xp_subs nx1 (fun i => (1, P i)) K V P C g f st i sn s) (xp_subs hx_next sx2 K' V P C g f st i sn s)
  | 0, _, _, _, _, _ => xt_e _
  | f + 1, st, i, sn, s, hi => by
    unfold xp_subs
    exact xt_ite (by rw [wE hE hi 1, wE hE hi 2, wE hE hi 3]) (fun c => xt_b (xp_sub_T hC hN hE h7 hS hS2 hi (c.elim kw fun c => c.elim kw kw)) (fun r h => xp_subs_T hC hN hE h7 hS hS2 g f _ _ _ _ h) (fun r h => xk_subs h7 hS2 h)) (fun _ => xt_i hi)
theorem xp_class_T (hC : ∀ e s x, C e s = .inl x → 8 ≤ x.1) (hN : ∀ i, ok i → 1 ≤ K i ∧ K i ≤ 5 → xt ok sk es (fun j => j) (nx1 i) (hx_next i)) (hE : ∀ i, ok i → K i = K' i) (h7 : ∀ i, sk i → K' i = 6 ∨ K' i = 7) (hS : ∀ i, ok i → (1, P i) = sx2 i) (hS2 : ∀ i, sk i → sx2 i = es) {g st i cn vn sn : Nat} {s : σ} (hi : ok i) : xt ok sk es xq1 (xp_class nx1 (fun i => (1, P i)) K V P C g st i cn vn sn s) (xp_class hx_next sx2 K' V P C g st i cn vn sn s) := by
  unfold xp_class
  refine xt_C fun s0 => xt_b (xt_wd hN hE hS hi _) (fun j hj => ?_) (fun j hj => xk_if (k7 h7 hj (by decide)) (es7 h7 hS2 hj))
  refine xt_ifc (kE hE hj 2) (hS _ hj) (fun c => xt_if Iff.rfl rfl (xt_C fun _ => xt_b (xt_n hN hj (kk c (by decide))) (fun j1 hj1 => xt_b (xt_sg hN hE hS hj1 _) (fun j2 hj2 => xt_C fun _ => xt_b (xp_vars_T hC hN hE h7 hS hS2 _ _ _ _ _ _ hj2) (fun r h => xt_C fun _ => xt_b (xp_subs_T hC hN hE h7 hS hS2 _ _ _ _ _ _ h) (fun r2 h2 => xt_b (xt_sg hN hE hS h2 _) (fun j3 hj3 => xt_i hj3) (fun j3 hj3 => xk_i hj3)) (fun r2 h2 => xk_sg h7 hS2 h2 _)) (fun r h => ?_)) (fun j2 hj2 => xk_C hC fun _ => xk_b (xk_vars h7 hS2 hj2) (fun r h => ?_))) (fun j1 hj1 => xk_sg h7 hS2 hj1 _)))
  · exact xk_C hC fun _ => xk_b (xk_subs h7 hS2 h) (fun r2 h2 => xk_sg h7 hS2 h2 _)
  · exact xk_C hC fun _ => xk_b (xk_subs h7 hS2 h) (fun r2 h2 => xk_sg h7 hS2 h2 _)
abbrev xqs {σ : Type} : σ → Nat := fun _ => 0
theorem xk_classes (hC : ∀ e s x, C e s = .inl x → 8 ≤ x.1) (h7 : ∀ i, sk i → K' i = 6 ∨ K' i = 7) (hS2 : ∀ i, sk i → sx2 i = es) {g f st i cn vn sn : Nat} {s : σ} (hi : sk i) : xk sk es xqs (xp_classes hx_next sx2 K' V P C g f st i cn vn sn s) := by
  cases f with
  | zero => exact Or.inr (Or.inl ⟨_, rfl, by decide⟩)
  | succ f =>
    unfold xp_classes xp_class
    rw [if_neg (k7 h7 hi (by decide)), gx_b_assoc]
    refine xk_C hC fun _ => ?_
    rw [gx_b_assoc]
    exact xk_wd h7 hS2 hi _
theorem xp_classes_T (hC : ∀ e s x, C e s = .inl x → 8 ≤ x.1) (hN : ∀ i, ok i → 1 ≤ K i ∧ K i ≤ 5 → xt ok sk es (fun j => j) (nx1 i) (hx_next i)) (hE : ∀ i, ok i → K i = K' i) (h7 : ∀ i, sk i → K' i = 6 ∨ K' i = 7) (hS : ∀ i, ok i → (1, P i) = sx2 i) (hS2 : ∀ i, sk i → sx2 i = es) (h0 : ok 0) (g : Nat) : ∀ (f st i cn vn sn : Nat) (s : σ), ok i → xt ok sk es xqs (xp_classes nx1 (fun i => (1, P i)) K V P C g f st i cn vn sn s) (xp_classes hx_next sx2 K' V P C g f st i cn vn sn s)
  | 0, _, _, _, _, _, _, _ => xt_e _
  | f + 1, st, i, cn, vn, sn, s, hi => by
    unfold xp_classes
    exact xt_ite (kE hE hi 0) (fun _ => xt_i h0) (fun _ => xt_b (xp_class_T hC hN hE h7 hS hS2 hi) (fun r h => xp_classes_T hC hN hE h7 hS hS2 h0 g f _ _ _ _ _ _ h) (fun r h => xk_classes hC h7 hS2 h))
theorem xp_T (hC : ∀ e s x, C e s = .inl x → 8 ≤ x.1) (hN : ∀ i, ok i → 1 ≤ K i ∧ K i ≤ 5 → xt ok sk es (fun j => j) (nx1 i) (hx_next i)) (hE : ∀ i, ok i → K i = K' i) (h7 : ∀ i, sk i → K' i = 6 ∨ K' i = 7) (hS : ∀ i, ok i → (1, P i) = sx2 i) (hS2 : ∀ i, sk i → sx2 i = es) (h0 : ok 0) (hs0 : ¬ sk 0) (g : Nat) (s : σ) : xp nx1 (fun i => (1, P i)) K V P C g s = xp hx_next sx2 K' V P C g s ∨ ∃ x, xp hx_next sx2 K' V P C g s = .inl x ∧ 8 ≤ x.1 := by
  have t : xt ok sk es xqs (xp nx1 (fun i => (1, P i)) K V P C g s) (xp hx_next sx2 K' V P C g s) := xt_if (by rw [hE 0 h0]) (hS 0 h0) (xp_classes_T hC hN hE h7 hS hS2 h0 g _ _ _ _ _ _ _ h0)
  rcases t with ⟨h, -⟩ | ⟨h1, h2⟩ | ⟨x, h, h8⟩
  · exact Or.inl h
  · rcases h2 with h2 | ⟨x, h2, h8⟩ | ⟨b, h2, hb⟩
    · exact Or.inl (h1.trans h2.symm)
    · exact Or.inr ⟨x, h2, h8⟩
    · exact absurd hb hs0
  · exact Or.inr ⟨x, h, h8⟩
end
