/-! PURE LAYER, 101: lines of code and commands that are put behind -/
/-- vs lines of code and ls commands have been put behind; labels aside nothing else changes -/
def AP (vs ls : List (Int × Int × Int)) (g g' : am_H) : Prop :=
  (∀ a, a ≠ 8 → ¬ (9 ≤ a ∧ a ≤ 11) → ¬ (235 ≤ a ∧ a ≤ 238) → g' a = g a) ∧
  (∀ k, k ≠ 3 → k ≠ 4 → g' 8 k = g 8 k ∧ g' 235 k = g 235 k) ∧
  (g' 8 3 = g 8 3 + vs.length ∧ g' 235 3 = g 235 3 + ls.length) ∧
  (∀ k : Nat, (k : Int) < g 8 3 → g' 9 k = g 9 k ∧ g' 10 k = g 10 k ∧ g' 11 k = g 11 k) ∧
  (∀ k : Nat, (k : Int) < g 235 3 → g' 236 k = g 236 k ∧ g' 237 k = g 237 k ∧ g' 238 k = g 238 k) ∧
  (∀ j v, vs[j]? = some v → g' 9 ((g 8 3).toNat + j) = v.1 ∧ g' 10 ((g 8 3).toNat + j) = am_s16 v.2.1 ∧ g' 11 ((g 8 3).toNat + j) = am_s16 v.2.2) ∧
  (∀ j v, ls[j]? = some v → g' 236 ((g 235 3).toNat + j) = v.1 ∧ g' 237 ((g 235 3).toNat + j) = am_s16 v.2.1 ∧ g' 238 ((g 235 3).toNat + j) = am_s16 v.2.2)
/-- room for so many lines and commands -/
def cap (g : am_H) (a b : Nat) : Prop := 0 ≤ g 8 3 ∧ g 8 3 + (a : Int) ≤ 9000 ∧ 0 ≤ g 235 3 ∧ g 235 3 + (b : Int) ≤ 8000
/-- that is what a piece of the emission does -/
def EM (vs ls : List (Int × Int × Int)) (g : am_H) (r : gx_R am_H) : Prop := ∃ g', r = .inr g' ∧ AP vs ls g g' ∧ g' 8 4 = g 8 4 ∧ g' 235 4 = g 235 4
section
variable {vs ls vs' ls' : List (Int × Int × Int)} {g g' g2 : am_H} {n m : Nat}
theorem AP.refl (g : am_H) : AP [] [] g g := ⟨fun _ _ _ _ => rfl, fun _ _ _ => ⟨rfl, rfl⟩, ⟨by show _ = _ + ((0 : Nat) : Int); omega, by show _ = _ + ((0 : Nat) : Int); omega⟩, fun _ _ => ⟨rfl, rfl, rfl⟩, fun _ _ => ⟨rfl, rfl, rfl⟩, fun j v h => (by cases h), fun j v h => (by cases h)⟩
theorem AP.trans (A : AP vs ls g g') (B : AP vs' ls' g' g2) (h8 : 0 ≤ g 8 3) (h5 : 0 ≤ g 235 3) : AP (vs ++ vs') (ls ++ ls') g g2 := by
  obtain ⟨a1, a2, ⟨a3, a4⟩, a5, a6, a7, a8⟩ := A
  obtain ⟨b1, b2, ⟨b3, b4⟩, b5, b6, b7, b8⟩ := B
  refine ⟨fun a h1 h2 h3 => (b1 a h1 h2 h3).trans (a1 a h1 h2 h3), fun k h1 h2 => ⟨(b2 k h1 h2).1.trans (a2 k h1 h2).1, (b2 k h1 h2).2.trans (a2 k h1 h2).2⟩, ⟨by rw [b3, a3, List.length_append]; omega, by rw [b4, a4, List.length_append]; omega⟩, fun k hk => ?_, fun k hk => ?_, fun j v hj => ?_, fun j v hj => ?_⟩
  · have x := a5 k hk
    have y := b5 k (by omega)
    exact ⟨y.1.trans x.1, y.2.1.trans x.2.1, y.2.2.trans x.2.2⟩
  · have x := a6 k hk
    have y := b6 k (by omega)
    exact ⟨y.1.trans x.1, y.2.1.trans x.2.1, y.2.2.trans x.2.2⟩
  · by_cases c : j < vs.length
    · rw [List.getElem?_append_left c] at hj
      have x := a7 j v hj
      have y := b5 ((g 8 3).toNat + j) (by omega)
      exact ⟨y.1.trans x.1, y.2.1.trans x.2.1, y.2.2.trans x.2.2⟩
    · rw [List.getElem?_append_right (by omega)] at hj
      have y := b7 _ v hj
      rw [show (g' 8 3).toNat + (j - vs.length) = (g 8 3).toNat + j by omega] at y
      exact y
  · by_cases c : j < ls.length
    · rw [List.getElem?_append_left c] at hj
      have x := a8 j v hj
      have y := b6 ((g 235 3).toNat + j) (by omega)
      exact ⟨y.1.trans x.1, y.2.1.trans x.2.1, y.2.2.trans x.2.2⟩
    · rw [List.getElem?_append_right (by omega)] at hj
      have y := b8 _ v hj
      rw [show (g' 235 3).toNat + (j - ls.length) = (g 235 3).toNat + j by omega] at y
      exact y
theorem AP.fr (A : AP vs ls g g') (a : Nat) (h1 : a ≠ 8) (h2 : ¬ (9 ≤ a ∧ a ≤ 11)) (h3 : ¬ (235 ≤ a ∧ a ≤ 238)) : g' a = g a := A.1 a h1 h2 h3
theorem AP.add (op a b : Int) (g : am_H) : AP [(op, a, b)] [] g (ce_add op a b g) := by
  unfold ce_add
  refine ⟨fun x h1 h2 h3 => ?_, fun k h1 h2 => ⟨?_, ?_⟩, ⟨p_up_s _ _ _ _, ?_⟩, fun k hk => ⟨?_, ?_, ?_⟩, fun k hk => ⟨?_, ?_, ?_⟩, fun j v hj => ?_, fun j v h => (by cases h)⟩
  · rw [p_up_c _ _ _ _ _ (by omega), p_up_c _ _ _ _ _ (by omega), p_up_c _ _ _ _ _ (by omega), p_up_c _ _ _ _ _ (by omega)]
  · rw [p_up_n _ _ _ _ _ _ (Or.inr h1), p_up_c _ _ _ _ _ (by decide), p_up_c _ _ _ _ _ (by decide), p_up_c _ _ _ _ _ (by decide)]
  · rw [p_up_c _ _ _ _ _ (by decide), p_up_c _ _ _ _ _ (by decide), p_up_c _ _ _ _ _ (by decide), p_up_c _ _ _ _ _ (by decide)]
  · rw [p_up_c _ _ _ _ _ (by decide), p_up_c _ _ _ _ _ (by decide), p_up_c _ _ _ _ _ (by decide), p_up_c _ _ _ _ _ (by decide)]
    show _ = _ + ((0 : Nat) : Int); omega
  · rw [p_up_c _ _ _ _ _ (by decide), p_up_c _ _ _ _ _ (by decide), p_up_c _ _ _ _ _ (by decide), p_up_n _ _ _ _ _ _ (Or.inr (by omega))]
  · rw [p_up_c _ _ _ _ _ (by decide), p_up_c _ _ _ _ _ (by decide), p_up_n _ _ _ _ _ _ (Or.inr (by omega)), p_up_c _ _ _ _ _ (by decide)]
  · rw [p_up_c _ _ _ _ _ (by decide), p_up_n _ _ _ _ _ _ (Or.inr (by omega)), p_up_c _ _ _ _ _ (by decide), p_up_c _ _ _ _ _ (by decide)]
  · rw [p_up_c _ _ _ _ _ (by decide), p_up_c _ _ _ _ _ (by decide), p_up_c _ _ _ _ _ (by decide), p_up_c _ _ _ _ _ (by decide)]
  · rw [p_up_c _ _ _ _ _ (by decide), p_up_c _ _ _ _ _ (by decide), p_up_c _ _ _ _ _ (by decide), p_up_c _ _ _ _ _ (by decide)]
  · rw [p_up_c _ _ _ _ _ (by decide), p_up_c _ _ _ _ _ (by decide), p_up_c _ _ _ _ _ (by decide), p_up_c _ _ _ _ _ (by decide)]
  · cases j with
    | zero =>
      cases hj
      refine ⟨?_, ?_, ?_⟩
      · rw [p_up_c _ _ _ _ _ (by decide), p_up_c _ _ _ _ _ (by decide), p_up_c _ _ _ _ _ (by decide)]; exact p_up_s _ _ _ _
      · rw [p_up_c _ _ _ _ _ (by decide), p_up_c _ _ _ _ _ (by decide)]; exact p_up_s _ _ _ _
      · rw [p_up_c _ _ _ _ _ (by decide)]; exact p_up_s _ _ _ _
    | succ j => cases hj
theorem AP.tel (op a b : Int) (g : am_H) : AP [] [(op, a, b)] g (ce_tel op a b g) := by
  unfold ce_tel
  refine ⟨fun x h1 h2 h3 => ?_, fun k h1 h2 => ⟨?_, ?_⟩, ⟨?_, p_up_s _ _ _ _⟩, fun k hk => ⟨?_, ?_, ?_⟩, fun k hk => ⟨?_, ?_, ?_⟩, fun j v h => (by cases h), fun j v hj => ?_⟩
  · rw [p_up_c _ _ _ _ _ (by omega), p_up_c _ _ _ _ _ (by omega), p_up_c _ _ _ _ _ (by omega), p_up_c _ _ _ _ _ (by omega)]
  · rw [p_up_c _ _ _ _ _ (by decide), p_up_c _ _ _ _ _ (by decide), p_up_c _ _ _ _ _ (by decide), p_up_c _ _ _ _ _ (by decide)]
  · rw [p_up_n _ _ _ _ _ _ (Or.inr h1), p_up_c _ _ _ _ _ (by decide), p_up_c _ _ _ _ _ (by decide), p_up_c _ _ _ _ _ (by decide)]
  · rw [p_up_c _ _ _ _ _ (by decide), p_up_c _ _ _ _ _ (by decide), p_up_c _ _ _ _ _ (by decide), p_up_c _ _ _ _ _ (by decide)]
    show _ = _ + ((0 : Nat) : Int); omega
  · rw [p_up_c _ _ _ _ _ (by decide), p_up_c _ _ _ _ _ (by decide), p_up_c _ _ _ _ _ (by decide), p_up_c _ _ _ _ _ (by decide)]
  · rw [p_up_c _ _ _ _ _ (by decide), p_up_c _ _ _ _ _ (by decide), p_up_c _ _ _ _ _ (by decide), p_up_c _ _ _ _ _ (by decide)]
  · rw [p_up_c _ _ _ _ _ (by decide), p_up_c _ _ _ _ _ (by decide), p_up_c _ _ _ _ _ (by decide), p_up_c _ _ _ _ _ (by decide)]
  · rw [p_up_c _ _ _ _ _ (by decide), p_up_c _ _ _ _ _ (by decide), p_up_c _ _ _ _ _ (by decide), p_up_n _ _ _ _ _ _ (Or.inr (by omega))]
  · rw [p_up_c _ _ _ _ _ (by decide), p_up_c _ _ _ _ _ (by decide), p_up_n _ _ _ _ _ _ (Or.inr (by omega)), p_up_c _ _ _ _ _ (by decide)]
  · rw [p_up_c _ _ _ _ _ (by decide), p_up_n _ _ _ _ _ _ (Or.inr (by omega)), p_up_c _ _ _ _ _ (by decide), p_up_c _ _ _ _ _ (by decide)]
  · cases j with
    | zero =>
      cases hj
      refine ⟨?_, ?_, ?_⟩
      · rw [p_up_c _ _ _ _ _ (by decide), p_up_c _ _ _ _ _ (by decide), p_up_c _ _ _ _ _ (by decide)]; exact p_up_s _ _ _ _
      · rw [p_up_c _ _ _ _ _ (by decide), p_up_c _ _ _ _ _ (by decide)]; exact p_up_s _ _ _ _
      · rw [p_up_c _ _ _ _ _ (by decide)]; exact p_up_s _ _ _ _
    | succ j => cases hj
/-- a label is taken -/
theorem AP.lab (v : Int) (g : am_H) : AP [] [] g (am_up g 8 4 v) := by
  refine ⟨fun a h1 h2 h3 => p_up_c _ _ _ _ _ h1, fun k h1 h2 => ⟨p_up_n _ _ _ _ _ _ (Or.inr h2), p_up_n _ _ _ _ _ _ (Or.inl (by decide))⟩, ⟨?_, ?_⟩, fun k hk => ⟨?_, ?_, ?_⟩, fun k hk => ⟨?_, ?_, ?_⟩, fun j v h => (by cases h), fun j v h => (by cases h)⟩
  · rw [p_up_n _ _ _ _ _ _ (Or.inr (by decide))]; show _ = _ + ((0 : Nat) : Int); omega
  · rw [p_up_n _ _ _ _ _ _ (Or.inl (by decide))]; show _ = _ + ((0 : Nat) : Int); omega
  all_goals exact p_up_n _ _ _ _ _ _ (Or.inl (by decide))
theorem AP.lab2 (v : Int) (g : am_H) : AP [] [] g (am_up g 235 4 v) := by
  refine ⟨fun a h1 h2 h3 => p_up_c _ _ _ _ _ (by omega), fun k h1 h2 => ⟨p_up_n _ _ _ _ _ _ (Or.inl (by decide)), p_up_n _ _ _ _ _ _ (Or.inr h2)⟩, ⟨?_, ?_⟩, fun k hk => ⟨?_, ?_, ?_⟩, fun k hk => ⟨?_, ?_, ?_⟩, fun j v h => (by cases h), fun j v h => (by cases h)⟩
  · rw [p_up_n _ _ _ _ _ _ (Or.inl (by decide))]; show _ = _ + ((0 : Nat) : Int); omega
  · rw [p_up_n _ _ _ _ _ _ (Or.inr (by decide))]; show _ = _ + ((0 : Nat) : Int); omega
  all_goals exact p_up_n _ _ _ _ _ _ (Or.inl (by decide))
theorem cap.ap (hc : cap g (vs.length + n) (ls.length + m)) (A : AP vs ls g g') : cap g' n m := by
  obtain ⟨h1, h2, h3, h4⟩ := hc
  obtain ⟨-, -, ⟨a3, a4⟩, -⟩ := A
  exact ⟨by omega, by omega, by omega, by omega⟩
theorem cap.le {a b : Nat} (hc : cap g a b) (h1 : n ≤ a) (h2 : m ≤ b) : cap g n m := ⟨hc.1, by have := hc.2.1; omega, hc.2.2.1, by have := hc.2.2.2; omega⟩
theorem EM.nil (g : am_H) : EM [] [] g (.inr g) := ⟨g, rfl, AP.refl g, rfl, rfl⟩
theorem ce_vm_t {op a b : Int} (h : g 8 3 < 9000) : ce_vm true op a b g = .inr (ce_add op a b g) := by
  unfold ce_vm ce_q
  rw [if_pos rfl, if_pos h]
theorem ce_li_t {op a b : Int} (h : g 235 3 < 8000) : ce_li true false op a b g = .inr (ce_tel op a b g) := by
  unfold ce_li ce_q
  rw [if_pos ⟨rfl, rfl⟩, if_pos h]
theorem ce_add_l (op a b : Int) (g : am_H) : ce_add op a b g 8 4 = g 8 4 ∧ ce_add op a b g 235 4 = g 235 4 := by
  unfold ce_add
  constructor
  · rw [p_up_n _ _ _ _ _ _ (Or.inr (by decide)), p_up_c _ _ _ _ _ (by decide), p_up_c _ _ _ _ _ (by decide), p_up_c _ _ _ _ _ (by decide)]
  · rw [p_up_c _ _ _ _ _ (by decide), p_up_c _ _ _ _ _ (by decide), p_up_c _ _ _ _ _ (by decide), p_up_c _ _ _ _ _ (by decide)]
theorem ce_tel_l (op a b : Int) (g : am_H) : ce_tel op a b g 8 4 = g 8 4 ∧ ce_tel op a b g 235 4 = g 235 4 := by
  unfold ce_tel
  constructor
  · rw [p_up_c _ _ _ _ _ (by decide), p_up_c _ _ _ _ _ (by decide), p_up_c _ _ _ _ _ (by decide), p_up_c _ _ _ _ _ (by decide)]
  · rw [p_up_n _ _ _ _ _ _ (Or.inr (by decide)), p_up_c _ _ _ _ _ (by decide), p_up_c _ _ _ _ _ (by decide), p_up_c _ _ _ _ _ (by decide)]
theorem EM.v1 {op a b : Int} (hc : cap g 1 0) : EM [(op, a, b)] [] g (ce_vm true op a b g) := ⟨_, ce_vm_t (by have := hc.2.1; omega), AP.add op a b g, (ce_add_l op a b g).1, (ce_add_l op a b g).2⟩
theorem EM.l1 {op a b : Int} (hc : cap g 0 1) : EM [] [(op, a, b)] g (ce_li true false op a b g) := ⟨_, ce_li_t (by have := hc.2.2.2; omega), AP.tel op a b g, (ce_tel_l op a b g).1, (ce_tel_l op a b g).2⟩
theorem EM.b {r : gx_R am_H} {f : am_H → gx_R am_H} (hc : cap g (vs.length + n) (ls.length + m)) (h1 : EM vs ls g r) (h2 : ∀ g', AP vs ls g g' → cap g' n m → EM vs' ls' g' (f g')) : EM (vs ++ vs') (ls ++ ls') g (gx_b r f) := by
  obtain ⟨g1, e1, A, l1, l2⟩ := h1
  obtain ⟨g2, e2, B, k1, k2⟩ := h2 g1 A (hc.ap A)
  exact ⟨g2, by rw [e1]; exact e2, A.trans B hc.1 hc.2.2.1, k1.trans l1, k2.trans l2⟩
theorem EM.v {op a b : Int} {f : am_H → gx_R am_H} (hc : cap g (n + 1) m) (h2 : ∀ g', AP [(op, a, b)] [] g g' → cap g' n m → EM vs ls g' (f g')) : EM ((op, a, b) :: vs) ls g (gx_b (ce_vm true op a b g) f) :=
  EM.b (vs := [(op, a, b)]) (ls := []) (n := n) (m := m) (hc.le (by show 1 + n ≤ n + 1; omega) (by show 0 + m ≤ m; omega)) (EM.v1 (hc.le (by omega) (by omega))) h2
theorem EM.l {op a b : Int} {f : am_H → gx_R am_H} (hc : cap g n (m + 1)) (h2 : ∀ g', AP [] [(op, a, b)] g g' → cap g' n m → EM vs ls g' (f g')) : EM vs ((op, a, b) :: ls) g (gx_b (ce_li true false op a b g) f) :=
  EM.b (vs := []) (ls := [(op, a, b)]) (n := n) (m := m) (hc.le (by show 0 + n ≤ n; omega) (by show 1 + m ≤ m + 1; omega)) (EM.l1 (hc.le (by omega) (by omega))) h2
theorem EM.both {op told : Int} (hc : cap g 1 1) : EM [(op, 0, 0)] [(told, 0, 0)] g (ce_both true false op told g) :=
  EM.v (n := 0) (m := 1) hc (fun g' A hc' => EM.l1 hc')
end
