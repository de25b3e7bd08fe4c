/-! PURE LAYER, 89: the model's tables hold tokens of names -/
def rt (K : Nat → Int) (g : am_H) : Prop :=
  (0 ≤ g 254 14 ∧ ∀ k : Nat, (k : Int) < g 254 14 → ∃ t : Nat, g 261 k = t ∧ t < 1000 ∧ K t = 2) ∧
  (0 ≤ g 254 17 ∧ ∀ k : Nat, (k : Int) < g 254 17 → (∃ t : Nat, g 265 k = t ∧ t < 1000 ∧ K t = 2) ∧ (0 ≤ g 263 k ∧ g 263 k < g 254 14) ∧ (g 266 k = -1 ∨ ∃ u : Nat, g 266 k = u ∧ u < 1000 ∧ K u ≠ 0)) ∧
  (0 ≤ g 254 25 ∧ ∀ k : Nat, (k : Int) < g 254 25 → (∃ t : Nat, g 273 k = t ∧ t < 1000 ∧ K t = 2) ∧ (∃ u : Nat, g 274 k = u ∧ u < 1000 ∧ K u ≠ 0)) ∧
  (0 ≤ g 254 33 ∧ ∀ k : Nat, (k : Int) < g 254 33 → (∃ s : Nat, g 281 k = s ∧ (s : Int) < g 254 17) ∧ ((g 277 k = 3 ∨ g 277 k = 4 ∨ g 277 k = 13) → ∃ t : Nat, g 280 k = t ∧ t < 1000 ∧ K t ≠ 0 ∧ (g 277 k ≠ 3 → K t = 2))) ∧
  (0 ≤ g 254 39 ∧ ∀ k : Nat, (k : Int) < g 254 39 → (∃ s : Nat, g 289 k = s ∧ (s : Int) < g 254 17) ∧ (∃ t : Nat, g 283 k = t ∧ t < 1000 ∧ K t = 2) ∧ (g 282 k = -1 ∨ ∃ u : Nat, g 282 k = u ∧ u < 1000 ∧ K u = 2))
section
variable {K : Nat → Int} {g : am_H}
theorem rt.fr {g' : am_H} (R : rt K g) (h : ∀ a c, mx_c a = some c → g' a = g a) (hc : ∀ c, mx_k c → g' 254 c = g 254 c) : rt K g' := by
  unfold rt at *
  rw [hc 14 (by unfold mx_k; omega), hc 17 (by unfold mx_k; omega), hc 25 (by unfold mx_k; omega), hc 33 (by unfold mx_k; omega), hc 39 (by unfold mx_k; omega), h 261 _ rfl, h 265 _ rfl, h 263 _ rfl, h 266 _ rfl, h 273 _ rfl, h 274 _ rfl, h 281 _ rfl, h 277 _ rfl, h 280 _ rfl, h 289 _ rfl, h 283 _ rfl, h 282 _ rfl]
  exact R
theorem rt.up (R : rt K g) {a k : Nat} {v : Int} (ha : a ≠ 254) (h : mx_c a = none) : rt K (am_up g a k v) :=
  R.fr (fun b c hb => p_up_c _ _ _ _ _ (fun z => by rw [z, h] at hb; cases hb)) (fun c hc => by rw [p_up_c _ _ _ _ _ (Ne.symm ha)])
theorem rt.upf (R : rt K g) {k : Nat} {v : Int} (h : ¬ mx_k k) : rt K (am_up g 254 k v) :=
  R.fr (fun b c hb => p_up_c _ _ _ _ _ (mx_ck hb).2) (fun c hc => p_up_n _ _ _ _ _ _ (Or.inr (fun z => h (z ▸ hc))))
theorem mi_put_c (k a b t : Int) (g : am_H) (x : Nat) (h : x ≠ 254 ∧ ¬ (277 ≤ x ∧ x ≤ 281)) : mi_put k a b t g x = g x := by
  unfold mi_put
  rw [p_up_c _ _ _ _ _ (by omega), p_up_c _ _ _ _ _ (by omega), p_up_c _ _ _ _ _ (by omega), p_up_c _ _ _ _ _ (by omega), p_up_c _ _ _ _ _ (by omega), p_up_c _ _ _ _ _ (by omega)]
theorem mi_put_o (k a b t : Int) (g : am_H) (x j : Nat) (h : x ≠ 254) (hj : j ≠ (g 254 33).toNat) : mi_put k a b t g x j = g x j := by
  unfold mi_put
  rw [p_up_c _ _ _ _ _ h, p_up_n _ _ _ _ _ _ (Or.inr hj), p_up_n _ _ _ _ _ _ (Or.inr hj), p_up_n _ _ _ _ _ _ (Or.inr hj), p_up_n _ _ _ _ _ _ (Or.inr hj), p_up_n _ _ _ _ _ _ (Or.inr hj)]
theorem mi_put_at (k a b t : Int) (g : am_H) : mi_put k a b t g 277 (g 254 33).toNat = k ∧ mi_put k a b t g 280 (g 254 33).toNat = t ∧ mi_put k a b t g 281 (g 254 33).toNat = g 254 17 - 1 := by
  unfold mi_put
  refine ⟨?_, ?_, ?_⟩ <;> simp [p_up]
/-- one item more -/
theorem rt.put (R : rt K g) (k a b t : Int) (hs : 1 ≤ g 254 17 ∧ g 254 17 ≤ 60) (hk : (k = 3 ∨ k = 4 ∨ k = 13) → ∃ u : Nat, t = u ∧ u < 1000 ∧ K u ≠ 0 ∧ (k ≠ 3 → K u = 2)) : rt K (mi_put k a b t g) := by
  obtain ⟨r1, r2, r3, ⟨r4, r5⟩, r6⟩ := R
  unfold rt
  rw [mi_put_f _ _ _ _ _ 14 (by decide), mi_put_f _ _ _ _ _ 17 (by decide), mi_put_f _ _ _ _ _ 25 (by decide), mi_put_f _ _ _ _ _ 39 (by decide), mi_put_33, mi_put_c _ _ _ _ _ 261 (by decide), mi_put_c _ _ _ _ _ 265 (by decide), mi_put_c _ _ _ _ _ 263 (by decide), mi_put_c _ _ _ _ _ 266 (by decide), mi_put_c _ _ _ _ _ 273 (by decide), mi_put_c _ _ _ _ _ 274 (by decide), mi_put_c _ _ _ _ _ 289 (by decide), mi_put_c _ _ _ _ _ 283 (by decide), mi_put_c _ _ _ _ _ 282 (by decide)]
  refine ⟨r1, r2, r3, ⟨by omega, fun j hj => ?_⟩, r6⟩
  by_cases e : j = (g 254 33).toNat
  · subst e
    obtain ⟨e1, e2, e3⟩ := mi_put_at k a b t g
    rw [e1, e2, e3]
    exact ⟨⟨(g 254 17 - 1).toNat, by omega, by omega⟩, hk⟩
  · rw [mi_put_o _ _ _ _ _ _ _ (by decide) e, mi_put_o _ _ _ _ _ _ _ (by decide) e, mi_put_o _ _ _ _ _ _ _ (by decide) e]
    exact r5 j (by omega)
theorem rt.put0 (R : rt K g) (k a b t : Int) (hs : 1 ≤ g 254 17 ∧ g 254 17 ≤ 60) (hk : ¬ (k = 3 ∨ k = 4 ∨ k = 13)) : rt K (mi_put k a b t g) := R.put k a b t hs (fun z => absurd z hk)
theorem rt.call (R : rt K g) (x y : Int) (hs : 1 ≤ g 254 17 ∧ g 254 17 ≤ 60) (hy : ∃ t : Nat, y = t ∧ t < 1000 ∧ K t = 2) (hx : x = -1 ∨ ∃ u : Nat, x = u ∧ u < 1000 ∧ K u = 2) : rt K (mi_call x y g) := by
  obtain ⟨r1, r2, r3, r4, ⟨r5, r6⟩⟩ := R
  have f : ∀ j, j ≠ 39 → mi_call x y g 254 j = g 254 j := fun j hj => by unfold mi_call; rw [p_up_c _ _ _ _ _ (by decide), p_up_c _ _ _ _ _ (by decide), p_up_c _ _ _ _ _ (by decide), p_up_c _ _ _ _ _ (by decide), p_up_n _ _ _ _ _ _ (Or.inr hj)]
  have f39 : mi_call x y g 254 39 = g 254 39 + 1 := by unfold mi_call; rw [p_up_c _ _ _ _ _ (by decide), p_up_c _ _ _ _ _ (by decide), p_up_c _ _ _ _ _ (by decide), p_up_c _ _ _ _ _ (by decide), p_up_s]
  have c : ∀ b, b ≠ 254 → ¬ (282 ≤ b ∧ b ≤ 284) → b ≠ 289 → mi_call x y g b = g b := fun b h1 h2 h3 => by unfold mi_call; rw [p_up_c _ _ _ _ _ (by omega), p_up_c _ _ _ _ _ (by omega), p_up_c _ _ _ _ _ (by omega), p_up_c _ _ _ _ _ (by omega), p_up_c _ _ _ _ _ (by omega)]
  have o : ∀ b j, b ≠ 254 → j ≠ (g 254 39).toNat → mi_call x y g b j = g b j := fun b j h1 h2 => by unfold mi_call; rw [p_up_n _ _ _ _ _ _ (Or.inr h2), p_up_n _ _ _ _ _ _ (Or.inr h2), p_up_n _ _ _ _ _ _ (Or.inr h2), p_up_n _ _ _ _ _ _ (Or.inr h2), p_up_c _ _ _ _ _ h1]
  unfold rt
  rw [f 14 (by decide), f 17 (by decide), f 25 (by decide), f 33 (by decide), f39, c 261 (by decide) (by decide) (by decide), c 265 (by decide) (by decide) (by decide), c 263 (by decide) (by decide) (by decide), c 266 (by decide) (by decide) (by decide), c 273 (by decide) (by decide) (by decide), c 274 (by decide) (by decide) (by decide), c 281 (by decide) (by decide) (by decide), c 277 (by decide) (by decide) (by decide), c 280 (by decide) (by decide) (by decide)]
  refine ⟨r1, r2, r3, r4, ⟨by omega, fun j hj => ?_⟩⟩
  by_cases e : j = (g 254 39).toNat
  · subst e
    have e1 : mi_call x y g 282 (g 254 39).toNat = x := by unfold mi_call; simp [p_up]
    have e2 : mi_call x y g 283 (g 254 39).toNat = y := by unfold mi_call; simp [p_up]
    have e3 : mi_call x y g 289 (g 254 39).toNat = g 254 17 - 1 := by unfold mi_call; simp [p_up]
    rw [e1, e2, e3]
    exact ⟨⟨(g 254 17 - 1).toNat, by omega, by omega⟩, hy, hx⟩
  · rw [o _ _ (by decide) e, o _ _ (by decide) e, o _ _ (by decide) e]
    exact r6 j (by omega)
theorem rt.dec (R : rt K g) (x1 x2 x3 x4 x5 x6 : Int) (h4 : ∃ t : Nat, x4 = t ∧ t < 1000 ∧ K t = 2) (h3 : ∃ u : Nat, x3 = u ∧ u < 1000 ∧ K u ≠ 0) : rt K (mi_dec x1 x2 x3 x4 x5 x6 g) := by
  obtain ⟨r1, r2, ⟨r3, r4⟩, r5, r6⟩ := R
  have n : ∀ a, ¬ (270 ≤ a ∧ a ≤ 276) → a ≠ 254 → mi_dec x1 x2 x3 x4 x5 x6 g a = g a := fun a h1 h2 => funext fun k => mi_dec_n _ _ _ _ _ _ _ _ _ h1 (by omega)
  have o : ∀ b j, b ≠ 254 → j ≠ (g 254 25).toNat → mi_dec x1 x2 x3 x4 x5 x6 g b j = g b j := fun b j h1 h2 => by unfold mi_dec; rw [p_up_c _ _ _ _ _ h1, p_up_n _ _ _ _ _ _ (Or.inr h2), p_up_n _ _ _ _ _ _ (Or.inr h2), p_up_n _ _ _ _ _ _ (Or.inr h2), p_up_n _ _ _ _ _ _ (Or.inr h2), p_up_n _ _ _ _ _ _ (Or.inr h2), p_up_n _ _ _ _ _ _ (Or.inr h2), p_up_n _ _ _ _ _ _ (Or.inr h2)]
  unfold rt
  rw [mi_dec_n _ _ _ _ _ _ _ 254 14 (by omega) (by omega), mi_dec_n _ _ _ _ _ _ _ 254 17 (by omega) (by omega), mi_dec_n _ _ _ _ _ _ _ 254 33 (by omega) (by omega), mi_dec_n _ _ _ _ _ _ _ 254 39 (by omega) (by omega), mi_dec_25, n 261 (by decide) (by decide), n 265 (by decide) (by decide), n 263 (by decide) (by decide), n 266 (by decide) (by decide), n 281 (by decide) (by decide), n 277 (by decide) (by decide), n 280 (by decide) (by decide), n 289 (by decide) (by decide), n 283 (by decide) (by decide), n 282 (by decide) (by decide)]
  refine ⟨r1, r2, ⟨by omega, fun j hj => ?_⟩, r5, r6⟩
  by_cases e : j = (g 254 25).toNat
  · subst e
    have e1 : mi_dec x1 x2 x3 x4 x5 x6 g 273 (g 254 25).toNat = x4 := by unfold mi_dec; simp [p_up]
    have e2 : mi_dec x1 x2 x3 x4 x5 x6 g 274 (g 254 25).toNat = x3 := by unfold mi_dec; simp [p_up]
    rw [e1, e2]
    exact ⟨h4, h3⟩
  · rw [o _ _ (by decide) e, o _ _ (by decide) e]
    exact r4 j (by omega)
theorem rt.sub (R : rt K g) (so x ty : Int) (hc : 1 ≤ g 254 14) (hx : ∃ t : Nat, x = t ∧ t < 1000 ∧ K t = 2) (ht : ty = -1 ∨ ∃ u : Nat, ty = u ∧ u < 1000 ∧ K u ≠ 0) : rt K (mi_sub so x ty g) := by
  obtain ⟨r1, ⟨r2, r3⟩, r4, ⟨r5, r5b⟩, ⟨r6, r6b⟩⟩ := R
  have f : ∀ j, j ≠ 17 → j ≠ 50 → mi_sub so x ty g 254 j = g 254 j := by
    intro j h1 h2
    unfold mi_sub
    rw [p_up_n _ _ _ _ _ _ (Or.inr h2), p_up_n _ _ _ _ _ _ (Or.inr h1), p_up_c _ _ _ _ _ (by decide), p_up_c _ _ _ _ _ (by decide), p_up_c _ _ _ _ _ (by decide), p_up_c _ _ _ _ _ (by decide), p_up_c _ _ _ _ _ (by decide), p_up_c _ _ _ _ _ (by decide), p_up_c _ _ _ _ _ (by decide)]
  have f17 : mi_sub so x ty g 254 17 = g 254 17 + 1 := by unfold mi_sub; rw [p_up_n _ _ _ _ _ _ (Or.inr (by decide)), p_up_s]
  have c : ∀ b, b ≠ 254 → ¬ (263 ≤ b ∧ b ≤ 269) → mi_sub so x ty g b = g b := fun b h1 h2 => by unfold mi_sub; rw [p_up_c _ _ _ _ _ h1, p_up_c _ _ _ _ _ h1, p_up_c _ _ _ _ _ (by omega), p_up_c _ _ _ _ _ (by omega), p_up_c _ _ _ _ _ (by omega), p_up_c _ _ _ _ _ (by omega), p_up_c _ _ _ _ _ (by omega), p_up_c _ _ _ _ _ (by omega), p_up_c _ _ _ _ _ (by omega)]
  have o : ∀ b j, b ≠ 254 → j ≠ (g 254 17).toNat → mi_sub so x ty g b j = g b j := fun b j h1 h2 => by unfold mi_sub; rw [p_up_c _ _ _ _ _ h1, p_up_c _ _ _ _ _ h1, p_up_n _ _ _ _ _ _ (Or.inr h2), p_up_n _ _ _ _ _ _ (Or.inr h2), p_up_n _ _ _ _ _ _ (Or.inr h2), p_up_n _ _ _ _ _ _ (Or.inr h2), p_up_n _ _ _ _ _ _ (Or.inr h2), p_up_n _ _ _ _ _ _ (Or.inr h2), p_up_n _ _ _ _ _ _ (Or.inr h2)]
  unfold rt
  rw [f 14 (by decide) (by decide), f 25 (by decide) (by decide), f 33 (by decide) (by decide), f 39 (by decide) (by decide), f17, c 261 (by decide) (by decide), c 273 (by decide) (by decide), c 274 (by decide) (by decide), c 281 (by decide) (by decide), c 277 (by decide) (by decide), c 280 (by decide) (by decide), c 289 (by decide) (by decide), c 283 (by decide) (by decide), c 282 (by decide) (by decide)]
  refine ⟨r1, ⟨by omega, fun j hj => ?_⟩, r4, ⟨r5, fun j hj => ?_⟩, ⟨r6, fun j hj => ?_⟩⟩
  by_cases e : j = (g 254 17).toNat
  · subst e
    have e1 : mi_sub so x ty g 265 (g 254 17).toNat = x := by unfold mi_sub; simp [p_up]
    have e2 : mi_sub so x ty g 263 (g 254 17).toNat = g 254 14 - 1 := by unfold mi_sub; simp [p_up]
    have e3 : mi_sub so x ty g 266 (g 254 17).toNat = ty := by unfold mi_sub; simp [p_up]
    rw [e1, e2, e3]
    exact ⟨hx, by omega, ht⟩
  · rw [o _ _ (by decide) e, o _ _ (by decide) e, o _ _ (by decide) e]
    exact r3 j (by omega)
  · obtain ⟨⟨u, a1, a2⟩, a3⟩ := r5b j hj
    exact ⟨⟨u, a1, by omega⟩, a3⟩
  · obtain ⟨⟨u, a1, a2⟩, a3⟩ := r6b j hj
    exact ⟨⟨u, a1, by omega⟩, a3⟩
theorem rt.cls (R : rt K g) (x : Int) (hx : ∃ t : Nat, x = t ∧ t < 1000 ∧ K t = 2) : rt K (mi_cls x g) := by
  obtain ⟨⟨r1, r2⟩, ⟨r3, r4⟩, r5, r6, r7⟩ := R
  have f : ∀ j, j ≠ 14 → j ≠ 60 → mi_cls x g 254 j = g 254 j := fun j h1 h2 => by unfold mi_cls; rw [p_up_n _ _ _ _ _ _ (Or.inr h2), p_up_n _ _ _ _ _ _ (Or.inr h1), p_up_c _ _ _ _ _ (by decide), p_up_c _ _ _ _ _ (by decide)]
  have f14 : mi_cls x g 254 14 = g 254 14 + 1 := by unfold mi_cls; rw [p_up_n _ _ _ _ _ _ (Or.inr (by decide)), p_up_s]
  have c : ∀ b, b ≠ 254 → b ≠ 261 → b ≠ 262 → mi_cls x g b = g b := fun b h1 h2 h3 => by unfold mi_cls; rw [p_up_c _ _ _ _ _ h1, p_up_c _ _ _ _ _ h1, p_up_c _ _ _ _ _ h3, p_up_c _ _ _ _ _ h2]
  unfold rt
  rw [f 17 (by decide) (by decide), f 25 (by decide) (by decide), f 33 (by decide) (by decide), f 39 (by decide) (by decide), f14, c 265 (by decide) (by decide) (by decide), c 263 (by decide) (by decide) (by decide), c 266 (by decide) (by decide) (by decide), c 273 (by decide) (by decide) (by decide), c 274 (by decide) (by decide) (by decide), c 281 (by decide) (by decide) (by decide), c 277 (by decide) (by decide) (by decide), c 280 (by decide) (by decide) (by decide), c 289 (by decide) (by decide) (by decide), c 283 (by decide) (by decide) (by decide), c 282 (by decide) (by decide) (by decide)]
  refine ⟨⟨by omega, fun j hj => ?_⟩, ⟨r3, fun j hj => ?_⟩, r5, r6, r7⟩
  · by_cases e : j = (g 254 14).toNat
    · subst e
      have e1 : mi_cls x g 261 (g 254 14).toNat = x := by unfold mi_cls; simp [p_up]
      rw [e1]; exact hx
    · have : mi_cls x g 261 j = g 261 j := by unfold mi_cls; rw [p_up_c _ _ _ _ _ (by decide), p_up_c _ _ _ _ _ (by decide), p_up_c _ _ _ _ _ (by decide), p_up_n _ _ _ _ _ _ (Or.inr e)]
      rw [this]; exact r2 j (by omega)
  · obtain ⟨a1, a2, a3⟩ := r4 j hj
    exact ⟨a1, by omega, a3⟩
end
