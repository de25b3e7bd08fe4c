/-! PURE LAYER, 141: how many words the code has -/
def cvl (v : Int × Int × Int) : Nat × Nat × Nat := (v.1.toNat, (am_s16 v.2.1).toNat, (am_s16 v.2.2).toNat)
/-- words of a line, at most -/
def wnl (l : Nat × Nat × Nat) : Nat := match l.1 with
  | 0 => (match l.2.1 with
    | 0 => 6
    | 1 => 9
    | 2 => 9
    | _ => 6)
  | 1 => (match l.2.1 with
    | 1 => 12
    | 2 => 12
    | _ => 5)
  | 2 => 5 | 3 => 5 | 4 => 3 | 5 => 5 | 6 => 5 | 7 => 3 | 8 => 6 | 9 => 6 | 10 => 6 | 12 => 2 | 13 => 5 | 14 => 12 + 5 * l.2.2 | 15 => 4 | 16 => 2 | 17 => 6 | 18 => 6 | 19 => 8 | 20 => 1
  | _ => 0
def wns : List (Nat × Nat × Nat) → Nat
  | [] => 0
  | l :: r => wnl l + wns r
theorem wns_app : ∀ (a b : List (Nat × Nat × Nat)), wns (a ++ b) = wns a + wns b
  | [], b => (Nat.zero_add _).symm
  | l :: a, b => by show wnl l + wns (a ++ b) = wnl l + wns a + wns b; rw [wns_app a b]; omega
/-- lines as they stand -/
def hrw (g : am_H) (k : Nat) : Nat × Nat × Nat := ((g 9 k).toNat, (g 10 k).toNat, (g 11 k).toNat)
def HR (g : am_H) (b n : Nat) : List (Nat × Nat × Nat) := (List.range n).map (fun j => hrw g (b + j))
theorem HR_add (g : am_H) (b n m : Nat) : HR g b (n + m) = HR g b n ++ HR g (b + n) m := by
  unfold HR
  rw [List.range_add, List.map_append, List.map_map]
  congr 1
  refine List.map_congr_left (fun j _ => ?_)
  show hrw g (b + (n + j)) = hrw g (b + n + j)
  rw [Nat.add_assoc]
theorem HR_eq {g g' : am_H} {b n : Nat} (h : ∀ k, b ≤ k → k < b + n → hrw g' k = hrw g k) : HR g' b n = HR g b n := by
  unfold HR
  refine List.map_congr_left (fun j hj => h _ (by omega) ?_)
  have := List.mem_range.1 hj; omega
theorem HR_list {g : am_H} {b : Nat} {l : List (Int × Int × Int)} (h : ∀ j v, l[j]? = some v → g 9 (b + j) = v.1 ∧ g 10 (b + j) = am_s16 v.2.1 ∧ g 11 (b + j) = am_s16 v.2.2) : HR g b l.length = l.map cvl := by
  unfold HR
  apply List.ext_getElem?
  intro j
  rw [List.getElem?_map, List.getElem?_map]
  by_cases hj : j < l.length
  · rw [List.getElem?_range hj, List.getElem?_eq_getElem hj]
    obtain ⟨h1, h2, h3⟩ := h j _ (List.getElem?_eq_getElem hj)
    show some (hrw g (b + j)) = some (cvl l[j])
    unfold hrw cvl
    rw [h1, h2, h3]
  · rw [List.getElem?_eq_none (by rw [List.length_range]; omega), List.getElem?_eq_none (by omega)]; rfl
theorem wnl_0 (a b : Nat) : wnl (0, a, b) ≤ 9 := by
  show (match a with | 0 => 6 | 1 => 9 | 2 => 9 | _ => 6) ≤ 9
  split <;> omega
theorem wnl_1 (a b : Nat) : wnl (1, a, b) ≤ 12 := by
  show (match a with | 1 => 12 | 2 => 12 | _ => 5) ≤ 12
  split <;> omega
theorem wns_ld (k pl : Int) : wns ((ldk k pl).map cvl) ≤ 14 := by
  unfold ldk
  split
  · exact Nat.le_refl 14
  · show wnl (0, _, _) + 0 ≤ 14
    have := wnl_0 (am_s16 (ce_seg k)).toNat (am_s16 pl).toNat
    exact Nat.le_trans (Nat.le_of_eq (Nat.add_zero _)) (Nat.le_trans this (by decide))
theorem wns_st (k pl : Int) : wns ((stk k pl).map cvl) ≤ 21 := by
  unfold stk
  split
  · show 5 + (8 + (6 + 0)) ≤ 21
    decide
  · show wnl (1, _, _) + 0 ≤ 21
    have := wnl_1 (am_s16 (ce_seg k)).toNat (am_s16 pl).toNat
    exact Nat.le_trans (Nat.le_of_eq (Nat.add_zero _)) (Nat.le_trans this (by decide))
theorem wns_op (g : am_H) (x : Int) : wns ((opE g x false).map cvl) ≤ 7 := by
  unfold opE
  by_cases c : opk x = 0
  · rw [if_neg (fun z => z c)]
    show 4 + 0 ≤ 7
    decide
  · rw [if_pos c]
    unfold opk
    repeat' split
    all_goals (show _ + 0 ≤ 7; decide)
theorem wns_ch (g : am_H) (sa : Int) (fr : Nat) : ∀ m k, wns ((chE g sa fr false m k).map cvl) = 10 * m
  | 0, _ => rfl
  | m + 1, k => by
    show 6 + (4 + wns ((chE g sa fr false m (k + 1)).map cvl)) = 10 * (m + 1)
    rw [wns_ch g sa fr m (k + 1)]; omega
/-- words so far -/
def WI (bv : Nat) (p : pr_S) (c : ce_S) : Prop := (bv : Int) ≤ c.1 8 3 ∧ wns (HR c.1 bv (c.1 8 3 - (bv : Int)).toNat) + (if p.1 9 = 4 ∨ p.1 9 = 5 then 5 * p.1 5 else 0) ≤ 7 * p.2.2.2 7 + 10 * p.1 8
section
variable {K P V sc ss : Nat → Int} {cs : Nat → Nat} {b21 b15 bv : Nat} {c0 : am_H} {pE : pr_S} {S : mi_S} {e : gx_V} {es : List gx_V} {p p1 : pr_S} {s s1 : mi_S} {c c1 : ce_S}
theorem WI_ev (hp : pr pw K V e p = .inr p1) (hc : CO (oE K P V sc ss cs b21 b15 S.1 c0 e p (c.1 8 4) (c.1 235 4) c.2.2.2.2.2.2) c c1) (h5 : p.1 5 ≤ 12) (H : WI bv p c) : WI bv p1 c1 := by
  obtain ⟨⟨⟨x1, -⟩, x2, -, x3, -⟩, -⟩ := hc
  obtain ⟨H1, H2⟩ := H
  have w7 := pr_wt hp 7
  have key : wns (((oE K P V sc ss cs b21 b15 S.1 c0 e p (c.1 8 4) (c.1 235 4) c.2.2.2.2.2.2).1).map cvl) + (if p1.1 9 = 4 ∨ p1.1 9 = 5 then 5 * p1.1 5 else 0) + 10 * p.1 8 ≤ (if p.1 9 = 4 ∨ p.1 9 = 5 then 5 * p.1 5 else 0) + 7 * pw 7 e.1 + 10 * p1.1 8 := by
    clear x1 x2 x3 H2 w7
    have body : ∀ N, wns (((oE K P V sc ss cs b21 b15 S.1 c0 e p (c.1 8 4) (c.1 235 4) c.2.2.2.2.2.2).1).map cvl) ≤ N → p.1 9 = 6 → p1.1 9 ≠ 4 → p1.1 9 ≠ 5 → p1.1 8 = p.1 8 → N ≤ 7 * pw 7 e.1 → wns (((oE K P V sc ss cs b21 b15 S.1 c0 e p (c.1 8 4) (c.1 235 4) c.2.2.2.2.2.2).1).map cvl) + (if p1.1 9 = 4 ∨ p1.1 9 = 5 then 5 * p1.1 5 else 0) + 10 * p.1 8 ≤ (if p.1 9 = 4 ∨ p.1 9 = 5 then 5 * p.1 5 else 0) + 7 * pw 7 e.1 + 10 * p1.1 8 := by
      intro N q1 q2 q3 q4 q5 q6
      rw [if_neg (by omega), if_neg (by omega), q5]; omega
    have decl : wns (((oE K P V sc ss cs b21 b15 S.1 c0 e p (c.1 8 4) (c.1 235 4) c.2.2.2.2.2.2).1).map cvl) = 0 → p1.1 8 = p.1 8 → (p1.1 9 = 4 ∨ p1.1 9 = 5 → (p.1 9 = 4 ∨ p.1 9 = 5) ∧ p1.1 5 = p.1 5 ∨ p1.1 5 = 0) → wns (((oE K P V sc ss cs b21 b15 S.1 c0 e p (c.1 8 4) (c.1 235 4) c.2.2.2.2.2.2).1).map cvl) + (if p1.1 9 = 4 ∨ p1.1 9 = 5 then 5 * p1.1 5 else 0) + 10 * p.1 8 ≤ (if p.1 9 = 4 ∨ p.1 9 = 5 then 5 * p.1 5 else 0) + 7 * pw 7 e.1 + 10 * p1.1 8 := by
      intro q1 q2 q3
      rw [q1, q2]
      by_cases z : p1.1 9 = 4 ∨ p1.1 9 = 5
      · rw [if_pos z]
        rcases q3 z with ⟨z1, z2⟩ | z1
        · rw [if_pos z1, z2]; omega
        · rw [z1]; omega
      · rw [if_neg z]; omega
    obtain ⟨n, x, y, z⟩ := e
    have hp' := hp
    unfold pr at hp'
    split at hp'
    all_goals first
      | (cases hp'; done)
      | (rename_i hn; have hn : n = _ := hn; subst hn)
    · obtain ⟨cc, -, q⟩ := pr_q_in hp'
      exact body 6 (Nat.le_refl 6) cc.1.1 (by rw [q]; show p.1 9 ≠ _; rw [cc.1.1]; decide) (by rw [q]; show p.1 9 ≠ _; rw [cc.1.1]; decide) (by rw [q] <;> rfl) (Nat.le_of_ble_eq_true rfl)
    · obtain ⟨cc, -, q⟩ := pr_q_in hp'
      exact body 9 (Nat.le_refl 9) cc.1.1 (by rw [q]; show p.1 9 ≠ _; rw [cc.1.1]; decide) (by rw [q]; show p.1 9 ≠ _; rw [cc.1.1]; decide) (by rw [q] <;> rfl) (Nat.le_of_ble_eq_true rfl)
    · obtain ⟨cc, -, q⟩ := pr_q_in hp'
      exact body 6 (Nat.le_refl 6) cc.1.1 (by rw [q]; show p.1 9 ≠ _; rw [cc.1.1]; decide) (by rw [q]; show p.1 9 ≠ _; rw [cc.1.1]; decide) (by rw [q] <;> rfl) (Nat.le_of_ble_eq_true rfl)
    · obtain ⟨cc, -, q⟩ := pr_q_in hp'
      exact body 6 (Nat.le_refl 6) cc.1.1 (by rw [q]; show p.1 9 ≠ _; rw [cc.1.1]; decide) (by rw [q]; show p.1 9 ≠ _; rw [cc.1.1]; decide) (by rw [q] <;> rfl) (Nat.le_of_ble_eq_true rfl)
    · obtain ⟨cc, -, q⟩ := pr_q_in hp'
      have o : wns (((oE K P V sc ss cs b21 b15 S.1 c0 (5, x, y, z) p (c.1 8 4) (c.1 235 4) c.2.2.2.2.2.2).1).map cvl) = 10 + 10 * (V x.toNat).toNat := by
        show 6 + (4 + wns ((chE c0 (sysS c0 30 32) (P x.toNat + 1).toNat false (V x.toNat).toNat 0).map cvl)) = _
        rw [wns_ch]; omega
      have q9 : p1.1 9 = 6 := by rw [q]; exact cc.1.1
      have q8 : p1.1 8 = p.1 8 + (V x.toNat).toNat := by rw [q]; rfl
      rw [if_neg (by omega), if_neg (by rw [cc.1.1]; decide), o, q8]
      show _ ≤ 0 + 7 * 2 + _
      omega
    · obtain ⟨cc, -, q⟩ := pr_q_in hp'
      exact body 14 (wns_ld _ _) cc.1.1 (by rw [q]; show p.1 9 ≠ _; rw [cc.1.1]; decide) (by rw [q]; show p.1 9 ≠ _; rw [cc.1.1]; decide) (by rw [q] <;> rfl) (Nat.le_of_ble_eq_true rfl)
    · obtain ⟨cc, -, q⟩ := pr_q_in hp'
      exact body 11 (Nat.le_refl 11) cc.1.1 (by rw [q]; show p.1 9 ≠ _; rw [cc.1.1]; decide) (by rw [q]; show p.1 9 ≠ _; rw [cc.1.1]; decide) (by rw [q] <;> rfl) (Nat.le_of_ble_eq_true rfl)
    · obtain ⟨cc, -, q⟩ := pr_q_in hp'
      exact body 7 (wns_op _ _) cc.1.1 (by rw [q]; show p.1 9 ≠ _; rw [cc.1.1]; decide) (by rw [q]; show p.1 9 ≠ _; rw [cc.1.1]; decide) (by rw [q] <;> rfl) (Nat.le_of_ble_eq_true rfl)
    · obtain ⟨cc, -, q⟩ := pr_q_in hp'
      exact body 3 (Nat.le_refl 3) cc.1.1 (by rw [q]; show p.1 9 ≠ _; rw [cc.1.1]; decide) (by rw [q]; show p.1 9 ≠ _; rw [cc.1.1]; decide) (by rw [q] <;> rfl) (Nat.le_of_ble_eq_true rfl)
    · obtain ⟨cc, -, q⟩ := pr_q_in hp'
      exact body 3 (Nat.le_refl 3) cc.1.1 (by rw [q]; show p.1 9 ≠ _; rw [cc.1.1]; decide) (by rw [q]; show p.1 9 ≠ _; rw [cc.1.1]; decide) (by rw [q] <;> rfl) (Nat.le_of_ble_eq_true rfl)
    · obtain ⟨cc, -, q⟩ := pr_q_in hp'
      have k1 : wns (((oE K P V sc ss cs b21 b15 S.1 c0 (11, x, y, z) p (c.1 8 4) (c.1 235 4) c.2.2.2.2.2.2).1).map cvl) ≤ 14 := by
        show wns (((if x.toNat = y.toNat then ([(0, 4, 0)], [(0, 6, 0)], c.2.2.2.2.2.2, c.1 8 4, c.1 235 4) else if m_var V S.1 ((p.1 3 : Int) - 1) x.toNat = -1 then ([], [], c.2.2.2.2.2.2, c.1 8 4, c.1 235 4) else (ldk (kdv S.1 (m_var V S.1 ((p.1 3 : Int) - 1) x.toNat).toNat) (plv b15 S.1 (m_var V S.1 ((p.1 3 : Int) - 1) x.toNat).toNat), [(0, ce_lseg (kdv S.1 (m_var V S.1 ((p.1 3 : Int) - 1) x.toNat).toNat), nov S.1 (m_var V S.1 ((p.1 3 : Int) - 1) x.toNat).toNat)], c.2.2.2.2.2.2, c.1 8 4, c.1 235 4)) : List (Int × Int × Int) × List (Int × Int × Int) × List (Int × Int × Int × Int) × Int × Int).1.map cvl) ≤ 14
        split
        · show 6 + 0 ≤ 14; decide
        · split
          · exact Nat.zero_le _
          · exact wns_ld _ _
      exact body 14 k1 cc.1.1 (by rw [q]; show p.1 9 ≠ _; rw [cc.1.1]; decide) (by rw [q]; show p.1 9 ≠ _; rw [cc.1.1]; decide) (by rw [q] <;> rfl) (Nat.le_of_ble_eq_true rfl)
    · cases hq : p.2.2.1 with
      | nil => rw [hq] at hp'; cases hp'
      | cons o l =>
        rw [hq] at hp'
        obtain ⟨cc, -, q⟩ := pr_q_in hp'
        exact body 4 (Nat.le_refl 4) cc.1.1 (by rw [q]; show p.1 9 ≠ _; rw [cc.1.1]; decide) (by rw [q]; show p.1 9 ≠ _; rw [cc.1.1]; decide) (by rw [q] <;> rfl) (Nat.le_of_ble_eq_true rfl)
    · obtain ⟨cc, -, q⟩ := pr_q_in hp'
      exact body 1 (Nat.le_refl 1) cc.1 (by rw [q]; show p.1 9 ≠ _; rw [cc.1]; decide) (by rw [q]; show p.1 9 ≠ _; rw [cc.1]; decide) (by rw [q] <;> rfl) (Nat.le_of_ble_eq_true rfl)
    · obtain ⟨cc, -, q⟩ := pr_q_in hp'
      exact body 0 (Nat.le_refl 0) cc.1.1 (by rw [q]; show p.1 9 ≠ _; rw [cc.1.1]; decide) (by rw [q]; show p.1 9 ≠ _; rw [cc.1.1]; decide) (by rw [q] <;> rfl) (Nat.le_of_ble_eq_true rfl)
    · obtain ⟨cc, -, q⟩ := pr_q_in hp'
      exact body 21 (wns_st _ _) cc.1.1 (by rw [q]; show p.1 9 ≠ _; rw [cc.1.1]; decide) (by rw [q]; show p.1 9 ≠ _; rw [cc.1.1]; decide) (by rw [q] <;> rfl) (Nat.le_of_ble_eq_true rfl)
    · obtain ⟨cc, -, q⟩ := pr_q_in hp'
      exact body 11 (Nat.le_refl 11) cc.1.1 (by rw [q]; show p.1 9 ≠ _; rw [cc.1.1]; decide) (by rw [q]; show p.1 9 ≠ _; rw [cc.1.1]; decide) (by rw [q] <;> rfl) (Nat.le_of_ble_eq_true rfl)
    · obtain ⟨cc, -, q⟩ := pr_q_in hp'
      exact body 0 (Nat.le_refl 0) cc.1.1 (by rw [q]; show p.1 9 ≠ _; rw [cc.1.1]; decide) (by rw [q]; show p.1 9 ≠ _; rw [cc.1.1]; decide) (by rw [q] <;> rfl) (Nat.le_of_ble_eq_true rfl)
    · obtain ⟨cc, -, q⟩ := pr_q_in hp'
      exact body 7 (Nat.le_refl 7) cc.1.1 (by rw [q]; show p.1 9 ≠ _; rw [cc.1.1]; decide) (by rw [q]; show p.1 9 ≠ _; rw [cc.1.1]; decide) (by rw [q] <;> rfl) (Nat.le_of_ble_eq_true rfl)
    · obtain ⟨cc, -, q⟩ := pr_q_in hp'
      exact body 2 (Nat.le_refl 2) cc.1 (by rw [q]; show p.1 9 ≠ _; rw [cc.1]; decide) (by rw [q]; show p.1 9 ≠ _; rw [cc.1]; decide) (by rw [q] <;> rfl) (Nat.le_of_ble_eq_true rfl)
    · obtain ⟨cc, -, q⟩ := pr_q_in hp'
      exact body 0 (Nat.le_refl 0) cc.1 (by rw [q]; show p.1 9 ≠ _; rw [cc.1]; decide) (by rw [q]; show p.1 9 ≠ _; rw [cc.1]; decide) (by rw [q] <;> rfl) (Nat.le_of_ble_eq_true rfl)
    · obtain ⟨cc, -, q⟩ := pr_q_in hp'
      exact body 0 (Nat.le_refl 0) cc.1 (by rw [q]; show p.1 9 ≠ _; rw [cc.1]; decide) (by rw [q]; show p.1 9 ≠ _; rw [cc.1]; decide) (by rw [q] <;> rfl) (Nat.le_of_ble_eq_true rfl)
    · obtain ⟨cc, -, q⟩ := pr_q_in hp'
      exact body 1 (Nat.le_refl 1) cc.1.1 (by rw [q]; show p.1 9 ≠ _; rw [cc.1.1]; decide) (by rw [q]; show p.1 9 ≠ _; rw [cc.1.1]; decide) (by rw [q] <;> rfl) (Nat.le_of_ble_eq_true rfl)
    · obtain ⟨cc, -, q⟩ := pr_q_in hp'
      exact body 7 (Nat.le_refl 7) cc.1.1 (by rw [q]; show p.1 9 ≠ _; rw [cc.1.1]; decide) (by rw [q]; show p.1 9 ≠ _; rw [cc.1.1]; decide) (by rw [q] <;> rfl) (Nat.le_of_ble_eq_true rfl)
    · obtain ⟨cc, -, q⟩ := pr_q_in hp'
      exact body 2 (Nat.le_refl 2) cc.1 (by rw [q]; show p.1 9 ≠ _; rw [cc.1]; decide) (by rw [q]; show p.1 9 ≠ _; rw [cc.1]; decide) (by rw [q] <;> rfl) (Nat.le_of_ble_eq_true rfl)
    · obtain ⟨cc, -, q⟩ := pr_q_in hp'
      exact body 2 (Nat.le_refl 2) cc.1.1 (by rw [q]; show p.1 9 ≠ _; rw [cc.1.1]; decide) (by rw [q]; show p.1 9 ≠ _; rw [cc.1.1]; decide) (by rw [q] <;> rfl) (Nat.le_of_ble_eq_true rfl)
    · obtain ⟨cc, -, q⟩ := pr_q_in hp'
      exact body 5 (Nat.le_refl 5) cc.1.1 (by rw [q]; show p.1 9 ≠ _; rw [cc.1.1]; decide) (by rw [q]; show p.1 9 ≠ _; rw [cc.1.1]; decide) (by rw [q] <;> rfl) (Nat.le_of_ble_eq_true rfl)
    · obtain ⟨cc, -, q⟩ := pr_q_in hp'
      exact decl rfl (by rw [q] <;> rfl) (fun w => by exfalso; rw [q] at w; have w : (1 : Nat) = 4 ∨ (1 : Nat) = 5 := w; omega)
    · obtain ⟨cc, -, q⟩ := pr_q_in hp'
      exact decl rfl (by rw [q] <;> rfl) (fun w => by exfalso; rw [q] at w; have w : (2 : Nat) = 4 ∨ (2 : Nat) = 5 := w; omega)
    · obtain ⟨cc, -, q⟩ := pr_q_in hp'
      exact decl rfl (by rw [q] <;> rfl) (fun w => Or.inl ⟨by rw [q] at w; exact w, by rw [q]; rfl⟩)
    · obtain ⟨cc, -, q⟩ := pr_q_in hp'
      exact decl rfl (by rw [q] <;> rfl) (fun w => Or.inl ⟨by rw [q] at w; exact w, by rw [q]; rfl⟩)
    · obtain ⟨cc, -, q⟩ := pr_q_in hp'
      exact decl rfl (by rw [q]; show (if y = 1 then pu p.1 2 (p.1 2 + 1) else pu p.1 1 (p.1 1 + 1)) 8 = p.1 8; split <;> rfl) (fun w => by
        exfalso
        have e9 : p1.1 9 = 2 := by rw [q]; show (if y = 1 then pu p.1 2 (p.1 2 + 1) else pu p.1 1 (p.1 1 + 1)) 9 = 2; split <;> exact cc.1
        omega)
    · obtain ⟨cc, -, q⟩ := pr_q_in hp'
      exact decl rfl (by rw [q] <;> rfl) (fun w => by exfalso; rw [q] at w; have w : (3 : Nat) = 4 ∨ (3 : Nat) = 5 := w; omega)
    · obtain ⟨cc, -, q⟩ := pr_q_in hp'
      exact decl rfl (by rw [q] <;> rfl) (fun w => Or.inl ⟨by rw [q] at w; exact w, by rw [q]; rfl⟩)
    · obtain ⟨cc, -, q⟩ := pr_q_in hp'
      exact decl rfl (by rw [q] <;> rfl) (fun w => Or.inr (by rw [q]; rfl))
    · obtain ⟨cc, -, q⟩ := pr_q_in hp'
      exact decl rfl (by rw [q] <;> rfl) (fun w => Or.inl ⟨by rw [q] at w; exact w, by rw [q]; rfl⟩)
    · obtain ⟨cc, -, q⟩ := pr_q_in hp'
      exact decl rfl (by rw [q] <;> rfl) (fun w => Or.inl ⟨by rw [q] at w; exact w, by rw [q]; rfl⟩)
    · obtain ⟨cc, -, q⟩ := pr_q_in hp'
      exact decl rfl (by rw [q] <;> rfl) (fun w => Or.inl ⟨Or.inl cc.1, by rw [q]; rfl⟩)
    · -- 50
      obtain ⟨cc, -, q⟩ := pr_q_in hp'
      have q9 : p1.1 9 = 5 := by rw [q]; exact cc.1
      have q5 : p1.1 5 = p.1 5 + 1 := by rw [q]; rfl
      have q8 : p1.1 8 = p.1 8 := by rw [q]; rfl
      rw [if_pos (Or.inr q9), if_pos (Or.inr cc.1), q5, q8]
      show 0 + 5 * (p.1 5 + 1) + 10 * p.1 8 ≤ 5 * p.1 5 + 7 * 1 + 10 * p.1 8
      omega
    · -- 48
      obtain ⟨cc, -, q⟩ := pr_q_in hp'
      have e5 : (am_s16 (p.1 5 : Int)).toNat = p.1 5 := by
        rw [p_s16 (by omega) (by omega)]; rfl
      have q9 : p1.1 9 = 6 := by rw [q]; rfl
      have q8 : p1.1 8 = p.1 8 := by rw [q]; rfl
      have o : wns (((oE K P V sc ss cs b21 b15 S.1 c0 (48, x, y, z) p (c.1 8 4) (c.1 235 4) c.2.2.2.2.2.2).1).map cvl) ≤ 27 + 5 * p.1 5 := by
        have o1 : (oE K P V sc ss cs b21 b15 S.1 c0 (48, x, y, z) p (c.1 8 4) (c.1 235 4) c.2.2.2.2.2.2).1 = (14, (b21 : Int) + ((p.1 3 : Int) - 1), (p.1 5 : Int)) :: (if S.1 264 ((p.1 3 : Int) - 1).toNat = 3 then [((0 : Int), (1 : Int), (0 : Int)), (1, 4, 0)] else if S.1 264 ((p.1 3 : Int) - 1).toNat = 1 then [(0, 0, if S.1 262 (p.1 0 - 1) ≤ 1 then 1 else S.1 262 (p.1 0 - 1)), (15, sysS c0 28 29, 1), (1, 4, 0)] else []) := rfl
        have w14 : ∀ a b : Nat, wnl (14, a, b) = 12 + 5 * b := fun _ _ => rfl
        rw [o1, List.map_cons]
        show wnl (14, (am_s16 ((b21 : Int) + ((p.1 3 : Int) - 1))).toNat, (am_s16 (p.1 5 : Int)).toNat) + wns _ ≤ _
        rw [w14]
        rw [e5]
        have : wns ((if S.1 264 ((p.1 3 : Int) - 1).toNat = 3 then [((0 : Int), (1 : Int), (0 : Int)), (1, 4, 0)] else if S.1 264 ((p.1 3 : Int) - 1).toNat = 1 then [(0, 0, if S.1 262 (p.1 0 - 1) ≤ 1 then 1 else S.1 262 (p.1 0 - 1)), (15, sysS c0 28 29, 1), (1, 4, 0)] else []).map cvl) ≤ 15 := by
          split
          · show 9 + (5 + 0) ≤ 15; decide
          · split
            · show 6 + (4 + (5 + 0)) ≤ 15; decide
            · exact Nat.zero_le _
        omega
      rw [if_neg (by omega), if_pos (Or.inr cc.1), q8]
      show _ ≤ 5 * p.1 5 + 7 * 4 + 10 * p.1 8
      omega
    · -- 49
      obtain ⟨cc, -, q⟩ := pr_q_in hp'
      exact body 8 (Nat.le_refl 8) cc.1 (by rw [q]; exact show (3 : Nat) ≠ 4 by decide) (by rw [q]; exact show (3 : Nat) ≠ 5 by decide) (by rw [q] <;> rfl) (Nat.le_of_ble_eq_true rfl)
  refine ⟨by omega, ?_⟩
  have e1 : (c1.1 8 3 - (bv : Int)).toNat = (c.1 8 3 - (bv : Int)).toNat + (oE K P V sc ss cs b21 b15 S.1 c0 e p (c.1 8 4) (c.1 235 4) c.2.2.2.2.2.2).1.length := by omega
  have e2 : bv + (c.1 8 3 - (bv : Int)).toNat = (c.1 8 3).toNat := by omega
  rw [e1, HR_add, e2, HR_list x3, HR_eq (g := c.1) (fun k h1 h2 => by
    obtain ⟨y1, y2, y3⟩ := x2 k (by omega)
    unfold hrw
    rw [y1, y2, y3]), wns_app]
  rw [w7]
  omega
end
