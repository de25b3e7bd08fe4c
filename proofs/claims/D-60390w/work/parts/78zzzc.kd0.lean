/-! LOAD, 2: items as they stand behind load(), without their places -/
def SKv (c : am_H) : Prop := (sysS c 28 29 = 3 ∧ sysS c 30 31 = 15 ∧ sysS c 30 32 = 20 ∧ sysS c 33 34 = 10 ∧ sysS c 33 35 = 11) ∧ c 222 3 = 102 ∧ c 222 15 = 300 ∧ c 222 20 = 304 ∧ c 222 10 = 3 ∧ c 222 11 = 4
def SYn (cs : Nat → Nat) (h : am_H) : Prop := ∀ c s : Nat, c < 8 → h 297 c ≤ (s : Int) → (s : Int) < h 297 (c + 1) → ∃ li n : Nat, (c, li, cs s, n) ∈ sysT ∧ (s : Int) - h 297 c = (li : Int) ∧ h 300 s + h 301 s = (n : Int) ∧ (0 ≤ h 301 s ∧ h 301 s ≤ 12) ∧ s < 60
/-- what a text's tokens are, for its items -/
def TXF (K P V t : Nat → Int) (n : Nat) (c0 : am_H) : Prop := n ≤ 4000 ∧ (∀ i, 0 ≤ P i ∧ P i ≤ 16000) ∧ (∀ i, i < 1000 → K i = 3 → 0 ≤ V i ∧ V i ≤ 32767) ∧ ∀ i, i < 1000 → K i = 4 → V i ≤ 60 ∧ P i + 1 + V i ≤ (n : Int) ∧ ∀ j, j < (V i).toNat → c0 3 ((P i + 1).toNat + j) = t ((P i + 1).toNat + j) ∧ 0 ≤ t ((P i + 1).toNat + j) ∧ t ((P i + 1).toNat + j) ≤ 255
/-- what an item is, by its kind -/
def KD0 (gv : Nat → Nat) (g0 : am_H) (at' : Nat → Nat × List Nat) (P : Nat → Int) (fr : Nat → Prop) (fl : Nat → List vl) (N n3 k s : Nat) (vs : List vl) : Prop :=
  (g0 277 k = 0 ∧ (g0 278 k = -1 ∨ 0 ≤ g0 278 k ∧ g0 278 k ≤ 32767) ∧ vs = (if g0 278 k < 0 then [(0, 0, 0), (7, 0, 0)] else [(0, 0, (g0 278 k).toNat)]) ∧ hmv at' k 0 1) ∨
  (g0 277 k = 1 ∧ fr k ∧ hmv at' k 0 1 ∧ ∃ cl pl, vs = strN cl ∧ cl.length ≤ 60 ∧ g0 279 k = (cl.length : Int) ∧ g0 303 k = pl ∧ (0 ≤ pl ∧ pl + 1 + cl.length ≤ 4000) ∧ ∀ (j c : Nat), cl[j]? = some c → g0 304 (pl.toNat + 1 + j) = (c : Int) ∧ c ≤ 255) ∨
  (g0 277 k = 3 ∧ fr k ∧ vs = [(0, 4, 0)] ∧ g0 264 s ≠ 2 ∧ hmv at' k 0 1) ∨
  (g0 277 k = 4 ∧ fr k ∧ hmv at' k 0 1 ∧ ∃ v : Nat, g0 278 k = (v : Int) ∧ VK g0 s v ∧ vs = ldN g0 s v) ∨
  (g0 277 k = 5 ∧ fr k ∧ vs = [(2, 0, 0), (17, 1, 0)] ∧ hmv at' k 2 1) ∨
  (g0 277 k = 6 ∧ fr k ∧ vs = opN (g0 278 k) ∧ hmv at' k 2 1 ∧ (g0 278 k = 43 ∨ g0 278 k = 45 ∨ g0 278 k = 38 ∨ g0 278 k = 124 ∨ g0 278 k = 60 ∨ g0 278 k = 62 ∨ g0 278 k = 61 ∨ g0 278 k = 42 ∨ g0 278 k = 47)) ∨
  (g0 277 k = 7 ∧ fr k ∧ vs = [(4, 0, 0)] ∧ hmv at' k 1 1) ∨
  (g0 277 k = 8 ∧ fr k ∧ vs = [(7, 0, 0)] ∧ hmv at' k 1 1) ∨
  (g0 277 k = 9 ∧ fr k ∧ ∃ c : Nat, g0 278 k = (c : Int) ∧ c < 1000 ∧ (g0 285 c = 1 → 0 ≤ g0 286 c ∧ VK g0 s (g0 286 c).toNat) ∧ (g0 285 c = 2 → g0 264 s ≠ 2) ∧ vs = obN g0 s c ∧ hmv at' k 0 (if g0 285 c = 1 ∨ g0 285 c = 2 then 1 else 0)) ∨
  (g0 277 k = 10 ∧ fr k ∧ ∃ c : Nat, g0 278 k = (c : Int) ∧ c < 1000 ∧ ((∃ ci li u n : Nat, g0 287 c = (ci : Int) ∧ (ci, li, u, n) ∈ sysT ∧ g0 288 c - g0 297 ci = (li : Int) ∧ (0 ≤ g0 288 c ∧ g0 288 c ≤ 1000) ∧ g0 284 c + (if 0 < g0 285 c then 1 else 0) = (n : Int) ∧ (0 ≤ g0 284 c ∧ g0 284 c ≤ 100) ∧ vs = [(15, u, n)] ∧ hmv at' k n 1) ∨ (∃ u : Nat, 8 ≤ g0 287 c ∧ g0 288 c = (u : Int) ∧ u < n3 ∧ vs = [(15, 49 + u, gv (49 + u))] ∧ hmv at' k (gv (49 + u)) 1))) ∨
  (g0 277 k = 11 ∧ ∃ p t : Nat, vs = [(20, p, 0)] ∧ p ≤ 16000 ∧ g0 303 k = (p : Int) ∧ P t = (p : Int) ∧ at' (k + 1) = ((at' k).1, t :: (at' k).2) ∧ (at' k).1 = 0) ∨
  (g0 277 k = 12 ∧ vs = [] ∧ (at' k).2 ≠ [] ∧ at' (k + 1) = ((at' k).1, (at' k).2.tail) ∧ ¬ fr (k + 1) ∧ (at' k).1 = 0) ∨
  (g0 277 k = 13 ∧ fr k ∧ hmv at' k 1 0 ∧ ∃ v : Nat, g0 278 k = (v : Int) ∧ VK g0 s v ∧ vs = stN g0 s v) ∨
  (g0 277 k = 14 ∧ fr k ∧ vs = [(1, 5, 0), (18, 1, 0)] ∧ hmv at' k 2 0) ∨
  (g0 277 k = 15 ∧ hmv at' k 1 0 ∧ ∃ x y t : Nat, vs = [(13, x, 0), (12, y, 0), (11, x, 0)] ∧ g0 278 k = (t : Int) ∧ t < 5000 ∧ g0 277 t = 20 ∧ t + 1 < N ∧ g0 281 t = (s : Int) ∧ g0 281 (t + 1) = (s : Int) ∧ fl t = [(11, y, 0)] ∧ at' (t + 1) = ((at' k).1 - 1, (at' k).2) ∧ ¬ fr (t + 1) ∧ k < t + 1) ∨
  (g0 277 k = 16 ∧ ∃ y t : Nat, vs = [(12, y, 0)] ∧ g0 278 k = (t : Int) ∧ t < 5000 ∧ g0 277 t = 20 ∧ t + 1 < N ∧ g0 281 t = (s : Int) ∧ g0 281 (t + 1) = (s : Int) ∧ fl t = [(11, y, 0)] ∧ at' (t + 1) = at' k ∧ ¬ fr (t + 1) ∧ (k < t + 1 ∨ g0 277 (t + 1) = 17)) ∨
  (g0 277 k = 17 ∧ ∃ (p t : Nat) (tl : List Nat), vs = [(20, p, 0)] ∧ p ≤ 16000 ∧ P t = (p : Int) ∧ (at' k).2 = t :: tl ∧ at' (k + 1) = at' k ∧ (at' k).1 = 0) ∨
  (g0 277 k = 18 ∧ vs = [(16, 0, 0)] ∧ (at' k).1 = 1) ∨
  (g0 277 k = 19 ∧ fr k ∧ vs = [(1, 5, 0)] ∧ hmv at' k 1 0) ∨
  (g0 277 k = 20 ∧ (∃ x : Nat, vs = [(11, x, 0)]) ∧ at' (k + 1) = at' k ∧ ¬ fr (k + 1) ∧ (at' k).1 = 0)
section
theorem cvl_n (a : Int) {b c : Int} (hb : 0 ≤ b ∧ b ≤ 32767) (hc : 0 ≤ c ∧ c ≤ 32767) : cvl (a, b, c) = (a.toNat, b.toNat, c.toNat) := by
  unfold cvl
  rw [p_s16 (by show -32768 ≤ b; omega) hb.2, p_s16 (by show -32768 ≤ c; omega) hc.2]
variable {K P V sc ss t : Nat → Int} {cs : Nat → Nat} {gv : Nat → Nat} {n : Nat} {S g0 c0 : am_H} {s v : Nat} {x : Int}
theorem VK_of (M : ∀ c, c = 264 ∨ c = 267 ∨ c = 268 ∨ c = 272 ∨ c = 275 ∨ c = 276 → g0 c = S c) (H : vkS S s x v) : VK g0 s v := by
  obtain ⟨h1, h2, h3, h4, h5, h6, h7, h8, h9⟩ := H
  unfold VK
  rw [M 264 (by omega), M 267 (by omega), M 268 (by omega), M 272 (by omega), M 275 (by omega), M 276 (by omega)]
  exact ⟨h2, h3, fun _ => ⟨h5.1, by omega⟩, fun z => ⟨h6 z, h4⟩, fun z => ⟨h4.1, h8 z⟩, fun z => ⟨h4.1, h9 z⟩⟩
theorem ld_cv (M : ∀ c, c = 264 ∨ c = 267 ∨ c = 268 ∨ c = 272 ∨ c = 275 ∨ c = 276 → g0 c = S c) (H : vkS S s x v) : (ldk (kdv S v) (plv 4 S v)).map cvl = ldN g0 s v ∧ (stk (kdv S v) (plv 4 S v)).map cvl = stN g0 s v := by
  obtain ⟨h1, h2, h3, h4, h5, h6, h7, h8, h9⟩ := H
  unfold ldN stN
  rw [M 264 (by omega), M 272 (by omega), M 275 (by omega), M 276 (by omega)]
  by_cases z0 : S 272 v = 0
  · have ek : kdv S v = 3 := by unfold kdv; rw [if_pos z0]
    have ep : plv 4 S v = 4 + S 276 v := by unfold plv; rw [if_pos z0]; rfl
    rw [if_pos z0, if_pos z0, ek, ep]
    unfold ldk stk
    rw [if_neg (by decide), if_neg (by decide)]
    show [cvl (0, 3, 4 + S 276 v)] = _ ∧ [cvl (1, 3, 4 + S 276 v)] = _
    rw [cvl_n _ (by omega) (by omega), cvl_n _ (by omega) (by omega)]
    have : (4 + S 276 v).toNat = 4 + (S 276 v).toNat := by omega
    rw [this]; exact ⟨rfl, rfl⟩
  · rw [if_neg z0, if_neg z0]
    have ep : plv 4 S v = nov S v := by unfold plv; rw [if_neg z0]
    by_cases z1 : S 272 v = 1
    · have ek : kdv S v = 4 := by unfold kdv; rw [if_neg z0, if_pos z1]
      have en : nov S v = S 275 v := by unfold nov; rw [if_neg (by omega)]
      rw [if_pos z1, if_pos z1, ek, ep, en]
      unfold ldk stk
      rw [if_pos rfl, if_pos rfl]
      show [cvl (19, S 275 v, 0), cvl (17, 1, 0)] = _ ∧ [cvl (1, 5, 0), cvl (19, S 275 v, 0), cvl (18, 1, 0)] = _
      rw [cvl_n 19 (by omega) (by omega)]
      exact ⟨rfl, rfl⟩
    · rw [if_neg z1, if_neg z1]
      by_cases z2 : S 272 v = 2
      · have ek : kdv S v = 1 := by unfold kdv; rw [if_neg z0, if_neg z1, if_pos z2]
        have e71 := h7 (by omega)
        have en : nov S v = S 275 v + (if S 264 s = 3 then 1 else 0) := by
          unfold nov
          rw [e71, Int.toNat_natCast]
          by_cases z3 : S 264 s = 3
          · rw [if_pos ⟨z2, z3⟩, if_pos z3]
          · rw [if_neg (fun w => z3 w.2), if_neg z3, Int.add_zero]
        have e3 : (0 : Int) ≤ (if S 264 s = 3 then 1 else 0) ∧ (if S 264 s = 3 then (1 : Int) else 0) ≤ 1 := by split <;> omega
        have e4 : (S 275 v + (if S 264 s = 3 then (1 : Int) else 0)).toNat = (S 275 v).toNat + (if S 264 s = 3 then 1 else 0) := by split <;> omega
        rw [if_pos z2, if_pos z2, ek, ep, en]
        unfold ldk stk
        rw [if_neg (show ¬ (1 : Int) = 4 by decide), if_neg (show ¬ (1 : Int) = 4 by decide)]
        show [cvl (0, 1, S 275 v + (if S 264 s = 3 then 1 else 0))] = _ ∧ [cvl (1, 1, S 275 v + (if S 264 s = 3 then 1 else 0))] = _
        rw [cvl_n _ (by omega) (by omega), cvl_n _ (by omega) (by omega), e4]
        exact ⟨rfl, rfl⟩
      · have ek : kdv S v = 2 := by unfold kdv; rw [if_neg z0, if_neg z1, if_neg z2]
        have en : nov S v = S 275 v := by unfold nov; rw [if_neg (fun w => z2 w.1)]
        rw [if_neg z2, if_neg z2, ek, ep, en]
        unfold ldk stk
        rw [if_neg (by decide), if_neg (by decide)]
        show [cvl (0, 2, S 275 v)] = _ ∧ [cvl (1, 2, S 275 v)] = _
        rw [cvl_n _ (by omega) (by omega), cvl_n _ (by omega) (by omega)]
        exact ⟨rfl, rfl⟩
theorem op_cv (Sk : SKv c0) {x : Int} (hx : pr_o x) : (opE c0 x false).map cvl = opN x := by
  obtain ⟨⟨-, -, -, k4, k5⟩, -⟩ := Sk
  unfold sysS at k4 k5
  unfold opE opk opN
  rcases hx with rfl | rfl | rfl | rfl | rfl | rfl | rfl | rfl | rfl
  · rfl
  · rfl
  · rw [show (if (42 : Int) = 43 then (2 : Int) else if (42 : Int) = 45 then 3 else if (42 : Int) = 38 then 5 else if (42 : Int) = 124 then 6 else if (42 : Int) = 60 then 9 else if (42 : Int) = 62 then 10 else if (42 : Int) = 61 then 8 else 0) = 0 from rfl, if_neg (by decide), if_pos (show (42 : Int) = 42 from rfl), if_neg (by decide), k4]
    rfl
  · rw [show (if (47 : Int) = 43 then (2 : Int) else if (47 : Int) = 45 then 3 else if (47 : Int) = 38 then 5 else if (47 : Int) = 124 then 6 else if (47 : Int) = 60 then 9 else if (47 : Int) = 62 then 10 else if (47 : Int) = 61 then 8 else 0) = 0 from rfl, if_neg (by decide), if_neg (show ¬ (47 : Int) = 42 by decide), if_neg (by decide), k5]
    rfl
  · rfl
  · rfl
  · rfl
  · rfl
  · rfl
theorem ch_cv (Sk : sysS c0 30 32 = 20) (fr : Nat) : ∀ (m k : Nat), (∀ j, k ≤ j → j < k + m → 0 ≤ c0 3 (fr + j) ∧ c0 3 (fr + j) ≤ 255) → (chE c0 (sysS c0 30 32) fr false m k).map cvl = chN ((List.range m).map (fun j => (c0 3 (fr + (k + j))).toNat))
  | 0, _, _ => rfl
  | m + 1, k, h => by
    have h0 := h k (Nat.le_refl _) (by omega)
    unfold chE
    rw [List.map_cons, List.map_cons, ch_cv Sk fr m (k + 1) (fun j h1 h2 => h j (by omega) (by omega)), List.range_succ_eq_map, List.map_cons, List.map_map, cvl_n _ (by omega) (by omega), if_neg (by decide), Sk]
    show _ = (0, 0, (c0 3 (fr + (k + 0))).toNat) :: (15, 20, 2) :: chN _
    rw [Nat.add_zero]
    congr 3
    refine List.map_congr_left (fun j _ => ?_)
    show (c0 3 (fr + (k + 1 + j))).toNat = (c0 3 (fr + (k + (j + 1)))).toNat
    rw [show k + 1 + j = k + (j + 1) by omega]
end
