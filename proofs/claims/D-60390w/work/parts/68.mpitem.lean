/-! PURE LAYER, 38: items; levels -/
section
variable {K V P : Nat → Int} {Z : Nat} {g0 : am_H} {oc : List Int} {i deep st : Nat} {g h : am_H} (d L : Nat) {β : Type}
theorem mp_ok.upc {g : am_H} (ok : mp_ok g) {a k : Nat} {v : Int} (ha : a ≠ 254) : mp_ok (am_up g a k v) := by
  unfold mp_ok at ok ⊢
  rw [p_up_c _ _ _ _ 254 (fun z => ha z.symm)]
  exact ok
/-- the heaps behind an item -/
theorem mp_N.put (N : mp_N K V P Z g0 oc i deep st g h) (hi : g 254 33 < 4900) (k a b t t2 : Int) (ht : mp_rel k → t2 = t) (hr : 0 ≤ t2 ∧ t2 ≤ 1001) :
    mp_N K V P Z g0 oc i deep st (mi_put k a b t g) (am_up (am_up (am_up (am_up (am_up (am_up h 277 (g 254 33).toNat k) 278 (g 254 33).toNat a) 279 (g 254 33).toNat b) 280 (g 254 33).toNat t2) 281 (g 254 33).toNat (g 254 17 - 1)) 254 33 (g 254 33 + 1)) := by
  obtain ⟨f1, f2, ⟨n1, n2, n3, n4, n5⟩, tk, it, ok, bd, a1, a2, a3⟩ := N
  have o1 := ok.1
  refine ⟨?_, ?_, ⟨?_, ?_, ?_, ?_, ?_⟩, ?_, it, ?_, bd, ?_, ?_, ?_⟩
  · unfold mi_put
    refine pc_fr_both (pc_fr_both ?_ _ _ _) _ _ _
    have := pc_fr_both (pc_fr_both (pc_fr_both f1 277 (g 254 33).toNat k) 278 (g 254 33).toNat a) 279 (g 254 33).toNat b
    intro c j hc hj
    rw [p_up_c _ 280 _ t2 c (fun z => by rw [z] at hc; exact absurd hc (by decide)), p_up_c _ 280 _ t c (fun z => by rw [z] at hc; exact absurd hc (by decide))]
    exact this c j hc hj
  · unfold mi_put
    exact ((((((f2.upc _ _ _ rfl).upc _ _ _ rfl).upc _ _ _ rfl).upc _ _ _ rfl).upc _ _ _ rfl).upf _ _ _ rfl)
  · simp [p_up, n1]
  · simp [p_up, n2]
  · simp [p_up, n3]
  · simp [p_up, n4]
  · simp [p_up]; exact n5
  · unfold mi_put mp_T at *
    rw [p_up_c _ _ _ _ 257 (by decide), p_up_c _ _ _ _ 257 (by decide), p_up_c _ _ _ _ 257 (by decide), p_up_c _ _ _ _ 257 (by decide), p_up_c _ _ _ _ 257 (by decide), p_up_c _ _ _ _ 257 (by decide), p_up_c _ _ _ _ 258 (by decide), p_up_c _ _ _ _ 258 (by decide), p_up_c _ _ _ _ 258 (by decide), p_up_c _ _ _ _ 258 (by decide), p_up_c _ _ _ _ 258 (by decide), p_up_c _ _ _ _ 258 (by decide), p_up_c _ _ _ _ 260 (by decide), p_up_c _ _ _ _ 260 (by decide), p_up_c _ _ _ _ 260 (by decide), p_up_c _ _ _ _ 260 (by decide), p_up_c _ _ _ _ 260 (by decide), p_up_c _ _ _ _ 260 (by decide)]
    exact tk
  · unfold mi_put mp_ok at *
    simp only [p_up]
    simp
    omega
  · intro q hq
    have hq : (q : Int) < g 254 33 + 1 := by
      have : (q : Int) < mi_put k a b t g 254 33 := hq
      unfold mi_put at this
      rwa [p_up_s] at this
    have e277 : mi_put k a b t g 277 q = if q = (g 254 33).toNat then k else g 277 q := by
      unfold mi_put; simp [p_up]
    have e280 : mi_put k a b t g 280 q = if q = (g 254 33).toNat then t else g 280 q := by
      unfold mi_put; simp [p_up]
    rw [e277, e280]
    have eh : am_up (am_up (am_up (am_up (am_up (am_up h 277 (g 254 33).toNat k) 278 (g 254 33).toNat a) 279 (g 254 33).toNat b) 280 (g 254 33).toNat t2) 281 (g 254 33).toNat (g 254 17 - 1)) 254 33 (g 254 33 + 1) 280 q = if q = (g 254 33).toNat then t2 else h 280 q := by simp [p_up]
    rw [eh]
    by_cases c : q = (g 254 33).toNat
    · rw [if_pos c, if_pos c, if_pos c]; exact ⟨ht, hr.1, hr.2⟩
    · rw [if_neg c, if_neg c, if_neg c]; exact a1 q (by omega)
  · intro q hq hn
    have e1 : mi_put k a b t g 284 q = g 284 q := by unfold mi_put; simp [p_up]
    have e2 : mi_put k a b t g 254 39 = g 254 39 := by unfold mi_put; simp [p_up]
    rw [e2] at hq
    rw [e1, ← a2 q hq hn]
    simp [p_up]
  · have e2 : mi_put k a b t g 254 39 = g 254 39 := by unfold mi_put; simp [p_up]
    have e3 : mi_put k a b t g 283 = g 283 := by
      unfold mi_put
      rw [p_up_c _ _ _ _ 283 (by decide), p_up_c _ _ _ _ 283 (by decide), p_up_c _ _ _ _ 283 (by decide), p_up_c _ _ _ _ 283 (by decide), p_up_c _ _ _ _ 283 (by decide), p_up_c _ _ _ _ 283 (by decide)]
    rw [e2, e3]; exact a3
/-- add(): its answer is the item's number -/
theorem mp_add (N : mp_N K V P Z g0 oc i deep st g h) (hi : g 254 33 < 4900) (k a b t t2 : Int) (ht : mp_rel k → t2 = t) (hr : 0 ≤ t2 ∧ t2 ≤ 1001) : ∃ h', am_D (d + 1) 17 25 [am_r (am_a 254), am_i k, am_i a, am_i b, am_i t2] (zS L, h) = pI L (g 254 33) h' ∧ mp_N K V P Z g0 oc i deep st (mi_put k a b t g) h' ∧ (∀ c j, c ≠ 277 → c ≠ 278 → c ≠ 279 → c ≠ 280 → c ≠ 281 → ¬ (c = 254 ∧ j = 33) → h' c j = h c j) := by
  have o := N.ok
  have o1 := o.1
  have o3 := o.2.2.1
  rw [D_17_25, N.eq 254 33 rfl rfl, p_idx (by omega) (by omega), p_idx (by omega) (by omega), p_idx (by omega) (by omega), p_idx (by omega) (by omega), p_idx (by omega) (by omega), N.eq 254 17 rfl rfl, p_w (x := g 254 33 + 1) (by omega) (by omega), p_w (x := g 254 17 - 1) (by omega) (by omega), p_w (by omega) (by omega), show g 254 33 + 1 - 1 = g 254 33 by omega]
  refine ⟨_, rfl, N.put hi k a b t t2 ht hr, fun c j c1 c2 c3 c4 c5 c6 => ?_⟩
  rw [p_up_n _ _ _ _ _ _ (by by_cases e : c = 254; exact Or.inr (fun z => c6 ⟨e, z⟩); exact Or.inl e), p_up_c _ _ _ _ _ c5, p_up_c _ _ _ _ _ c4, p_up_c _ _ _ _ _ c3, p_up_c _ _ _ _ _ c2, p_up_c _ _ _ _ _ c1]
theorem mb_add {m : Nat} {e : Int × Int} (B : mp_B g0 m e h) (hm : m ≤ 4990) (k a b t : Int) : ∃ h', am_D (d + 1) 17 25 [am_r (am_a 254), am_i k, am_i a, am_i b, am_i t] (zS L, h) = pI L (h 254 33) h' ∧ mp_B g0 (m + 1) e h' ∧ (∀ c j, c ≠ 277 → c ≠ 278 → c ≠ 279 → c ≠ 280 → c ≠ 281 → ¬ (c = 254 ∧ j = 33) → h' c j = h c j) := by
  obtain ⟨b1, b2, b3, b4, b5, b6, b7, b8, b9, b10, b11, b12⟩ := B
  rw [D_17_25, p_idx (by omega) (by omega), p_idx (by omega) (by omega), p_idx (by omega) (by omega), p_idx (by omega) (by omega), p_idx (by omega) (by omega), p_w (x := h 254 33 + 1) (by omega) (by omega), p_w (x := h 254 17 - 1) (by omega) (by omega), p_w (by omega) (by omega), show h 254 33 + 1 - 1 = h 254 33 by omega]
  have eq : ∀ c j, c ≠ 277 → c ≠ 278 → c ≠ 279 → c ≠ 280 → c ≠ 281 → ¬ (c = 254 ∧ j = 33) → am_up (am_up (am_up (am_up (am_up (am_up h 277 (h 254 33).toNat k) 278 (h 254 33).toNat a) 279 (h 254 33).toNat b) 280 (h 254 33).toNat t) 281 (h 254 33).toNat (h 254 17 - 1)) 254 33 (h 254 33 + 1) c j = h c j := by
    intro c j c1 c2 c3 c4 c5 c6
    rw [p_up_n _ _ _ _ _ _ (by by_cases e : c = 254; exact Or.inr (fun z => c6 ⟨e, z⟩); exact Or.inl e), p_up_c _ _ _ _ _ c5, p_up_c _ _ _ _ _ c4, p_up_c _ _ _ _ _ c3, p_up_c _ _ _ _ _ c2, p_up_c _ _ _ _ _ c1]
  refine ⟨_, rfl, ⟨((((((b1.upc _ _ _ rfl).upc _ _ _ rfl).upc _ _ _ rfl).upc _ _ _ rfl).upc _ _ _ rfl).upf _ _ _ rfl), b2, ?_⟩, eq⟩
  have q : ∀ j, j ≠ 33 → am_up (am_up (am_up (am_up (am_up (am_up h 277 (h 254 33).toNat k) 278 (h 254 33).toNat a) 279 (h 254 33).toNat b) 280 (h 254 33).toNat t) 281 (h 254 33).toNat (h 254 17 - 1)) 254 33 (h 254 33 + 1) 254 j = h 254 j := fun j hj => eq 254 j (by decide) (by decide) (by decide) (by decide) (by decide) (fun z => hj z.2)
  rw [q 11 (by decide), q 12 (by decide), q 10 (by decide), p_up_s, q 39 (by decide), q 48 (by decide), q 51 (by decide), q 17 (by decide), q 14 (by decide), q 25 (by decide)]
  exact ⟨b3, b4, b5, by omega, b7, by omega, by omega, b10, b11, by omega⟩
/-- levels, the highest first -/
def mp_Ls : List (Int × Int × Int) → am_H → Prop
  | [], _ => True
  | x :: ls, h => h 290 ls.length = x.1 ∧ h 291 ls.length = x.2.1 ∧ h 292 ls.length = x.2.2 ∧ mp_Ls ls h
theorem mp_Ls.same {h2 : am_H} : ∀ {ls : List (Int × Int × Int)}, mp_Ls ls h → (∀ k, k < ls.length → h2 290 k = h 290 k ∧ h2 291 k = h 291 k ∧ h2 292 k = h 292 k) → mp_Ls ls h2
  | [], _, _ => trivial
  | x :: ls, s, e => by
    obtain ⟨s1, s2, s3, s4⟩ := s
    obtain ⟨e1, e2, e3⟩ := e ls.length (by simp)
    exact ⟨e1.trans s1, e2.trans s2, e3.trans s3, s4.same fun k hk => e k (by simp; omega)⟩
theorem mp_Ls.cell {h2 : am_H} {ls : List (Int × Int × Int)} (s : mp_Ls ls h) (e1 : h2 290 = h 290) (e2 : h2 291 = h 291) (e3 : h2 292 = h 292) : mp_Ls ls h2 := s.same fun k _ => ⟨by rw [e1], by rw [e2], by rw [e3]⟩
end
