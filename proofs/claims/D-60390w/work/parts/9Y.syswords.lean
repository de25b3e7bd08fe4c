/-! CONSTRUCTORS, 17: the system's lines as words -/
def syVs : List vl := syCd.reverse.map fun e => (e.1.toNat, e.2.1.toNat, e.2.2.toNat)
def gvS (s : Nat) : Nat := (vtab.getD s (0, 0, [], 0)).1
/-- the lines of some of the system's subs, from s on -/
def pcs : Nat → Nat → List vl
  | 0, _ => []
  | m + 1, s => ((14, s, (vtab.getD s (0, 0, [], 0)).2.1) :: (vtab.getD s (0, 0, [], 0)).2.2.1) ++ pcs m (s + 1)
set_option maxRecDepth 100000 in
theorem sy_vs : syVs = pcs 49 0 := by decide +kernel
set_option maxRecDepth 100000 in
theorem sy_vsl : syVs.length = 1572 ∧ lfold (229, 0) syVs = (9623, 0) ∧ vtab.length = 49 := by decide +kernel
def lgB (l : vl) : Bool := decide ((l.1 ≤ 20 ∧ (l.1 = 0 → l.2.1 ≤ 4) ∧ (l.1 = 1 → 1 ≤ l.2.1 ∧ l.2.1 ≤ 5) ∧ l.2.1 ≤ 32000) ∧ (l.2.2 ≤ 32767 ∧ (3 ≤ l.2.1 → l.2.2 ≤ 32000)) ∧ (l.1 = 15 → l.2.1 < 49) ∧ (l.1 = 11 ∨ l.1 = 12 ∨ l.1 = 13 → l.2.1 < 152) ∧ (l.1 = 14 → l.2.1 < 49 ∧ l.2.2 ≤ 100 ∧ gvS l.2.1 ≤ 32767) ∧ (l.1 = 17 ∨ l.1 = 18 → l.2.1 ≤ 1) ∧ (l.1 = 0 ∨ l.1 = 1 → 4 ≤ l.2.1 → l.2.2 = 0) ∧ (l.1 = 0 ∨ l.1 = 1 → l.2.1 = 3 → l.2.2 < 16000) ∧ l.1 ≠ 20)
set_option maxRecDepth 100000 in
theorem sy_lgb : syVs.all lgB = true := by decide +kernel
set_option maxRecDepth 100000 in
theorem sy_nd : (tgts syVs).Nodup := by decide +kernel
set_option maxRecDepth 100000 in
theorem sy_tg : ((tgts syVs).all fun x => Nat.blt x 152 || (Nat.ble 1500 x && Nat.blt x 1549)) = true := by decide +kernel
set_option maxRecDepth 100000 in
theorem sy_c14 : ((List.range 49).all fun s => (vtab.getD s (0, 0, [], 0)).2.2.1.all fun l => !(Nat.beq l.1 14)) = true := by decide +kernel
theorem sy_lg {l : vl} (hl : l ∈ syVs) : lgo gvS 0 l ∧ l.1 ≠ 20 ∧ (l.1 = 15 → l.2.1 < 49) ∧ (l.1 = 11 ∨ l.1 = 12 ∨ l.1 = 13 → l.2.1 < 152) ∧ (l.1 = 14 → l.2.1 < 49) := by
  have := of_decide_eq_true (List.all_eq_true.1 sy_lgb l hl)
  obtain ⟨a1, a2, a3, a4, a5, a6, a7, a8, a9⟩ := this
  exact ⟨⟨a1, a2, fun h => by have := a3 h; omega, fun h => by have := a4 h; omega, fun h => ⟨by have := (a5 h).1; omega, (a5 h).2.1, (a5 h).2.2, rfl⟩, a6, a7, a8⟩, a9, a3, a4, fun h => (a5 h).1⟩
theorem LGo_ev {gv : Nat → Nat} : ∀ {vs : List vl}, (∀ l ∈ vs, lgo gv 0 l ∧ l.1 ≠ 20) → LGo gv 0 vs
  | [], _ => trivial
  | l :: vs, h => by
    refine ⟨(h l (List.mem_cons_self ..)).1, ?_⟩
    have e : npd l = 0 := by unfold npd; rw [if_neg (h l (List.mem_cons_self ..)).2]
    rw [e]
    exact LGo_ev fun x hx => h x (List.mem_cons_of_mem _ hx)
set_option maxRecDepth 100000 in
theorem sy_LGo : LGo gvS 0 syVs := LGo_ev fun l hl => ⟨(sy_lg hl).1, (sy_lg hl).2.1⟩
theorem LU_app {h : am_H} {lab fs gv : Nat → Nat} {wd : Nat} : ∀ {a b : List vl} {q : Nat × Nat}, LU h lab fs gv wd q (a ++ b) → LU h lab fs gv wd q a ∧ LU h lab fs gv wd (lfold q a) b
  | [], b, q, H => ⟨trivial, H⟩
  | l :: a, b, q, ⟨h1, h2, h3, H⟩ => by
    obtain ⟨x, y⟩ := LU_app H
    exact ⟨⟨h1, h2, h3, x⟩, y⟩
theorem lw_ag {lab fs lab' fs' : Nat → Nat} {w : Nat} {l : vl} (h1 : l.1 = 11 ∨ l.1 = 12 ∨ l.1 = 13 → lab l.2.1 = lab' l.2.1) (h2 : l.1 = 15 → fs l.2.1 = fs' l.2.1) : lw lab fs w l = lw lab' fs' w l := by
  obtain ⟨op, sg, k⟩ := l
  dsimp only at h1 h2
  match op with
  | 0 => match sg with
    | 0 | 1 | 2 | 3 | _ + 4 => rfl
  | 1 => match sg with
    | 0 | 1 | 2 | 3 | 4 | _ + 5 => rfl
  | 2 | 3 | 4 | 5 | 6 | 7 | 8 | 9 | 10 | 11 | 14 | 16 | 19 => rfl
  | 12 =>
    show [(lab sg : Int), -5497] = [(lab' sg : Int), -5497]
    rw [h1 (by omega)]
  | 13 =>
    show wPop ++ [(lab sg : Int), -7419] = wPop ++ [(lab' sg : Int), -7419]
    rw [h1 (by omega)]
  | 15 =>
    show [((w + 4 : Nat) : Int), -5104] ++ [(fs sg : Int), -5497] = [((w + 4 : Nat) : Int), -5104] ++ [(fs' sg : Int), -5497]
    rw [h2 rfl]
  | 17 => match sg with
    | 0 | _ + 1 => rfl
  | 18 => match sg with
    | 0 | _ + 1 => rfl
  | _ + 20 => rfl
section
variable {h h' : am_H} {lab fs lab' fs' gv : Nat → Nat} {M : Nat}
theorem cmw_ag {p : Nat} {ws : List Int} (A : ∀ k, 6 ≤ k → k < M → h' 13 k = h 13 k ∧ h' 16 k = h 16 k) (h6 : 6 ≤ p) (hM : p + ws.length ≤ M) (c : cd h p ws) (c0 : h 16 p = 0) : cmw h' p ws := fun j x hj => by
  have jl := (List.getElem?_eq_some_iff.1 hj).1
  obtain ⟨a1, a2, a3⟩ := c j x hj
  obtain ⟨b1, b2⟩ := A (p + j) (by omega) (by omega)
  refine ⟨by rw [b1]; exact a1, a2, ?_⟩
  rw [b2]
  by_cases z : j = 0
  · rw [z, Nat.add_zero]; exact c0
  · exact a3 z
theorem lstp_g {w : Nat} {l : vl} (n14 : l.1 ≠ 14) (n20 : l.1 ≠ 20) : lstp (w, 0) l = (w + lwn l, 0) := by
  obtain ⟨op, sg, k⟩ := l
  dsimp only at n14 n20
  by_cases e : op = 11
  · subst e; rfl
  · unfold lstp
    split
    · rename_i z; exact absurd z n20
    · rename_i z; exact absurd z e
    · rename_i z; exact absurd z n14
    · rfl
theorem LU_LYx (A : ∀ k, 6 ≤ k → k < M → h' 13 k = h 13 k ∧ h' 16 k = h 16 k) : ∀ (ls : List vl) (w : Nat), 6 ≤ w → (∀ l ∈ ls, (l.1 ≠ 14 ∧ l.1 ≠ 20) ∧ (l.1 = 11 ∨ l.1 = 12 ∨ l.1 = 13 → lab l.2.1 = lab' l.2.1) ∧ (l.1 = 15 → fs l.2.1 = fs' l.2.1)) → LU h lab fs gv 0 (w, 0) ls → (lfold (w, 0) ls).1 ≤ M → LY h' lab' fs' w ls ∧ (lfold (w, 0) ls).2 = 0
  | [], w, _, _, _, _ => ⟨trivial, rfl⟩
  | l :: ls, w, h6, hl, ⟨a1, a2, a3, a4⟩, hM => by
    obtain ⟨⟨n14, n20⟩, g1, g2⟩ := hl l (List.mem_cons_self ..)
    have sp := lstp_g (w := w) n14 n20
    rw [sp] at a3 a4
    have hM : (lfold (lstp (w, 0) l) ls).1 ≤ M := hM
    rw [sp] at hM
    have le : (w + lwn l, 0).1 ≤ (lfold (w + lwn l, 0) ls).1 := lfold_le
    have le : w + lwn l ≤ (lfold (w + lwn l, 0) ls).1 := le
    obtain ⟨i1, i2⟩ := LU_LYx A ls (w + lwn l) (by omega) (fun x hx => hl x (List.mem_cons_of_mem _ hx)) a4 hM
    have ln := lw_len lab' fs' w l
    have ag : lw lab fs w l = lw lab' fs' w l := lw_ag g1 g2
    have la : cmw h' w (lw lab' fs' w l) ∧ (l.1 = 11 → lab' l.2.1 = w) := by
      by_cases e11 : l.1 = 11
      · obtain ⟨op, sg, k⟩ := l
        dsimp only at e11
        subst e11
        refine ⟨fun j x hj => by (cases hj), fun _ => ?_⟩
        have a1 : ((0 : Nat) ≠ 0 → _) ∧ lab sg = w := a1
        rw [← g1 (Or.inl rfl)]; exact a1.2
      · refine ⟨?_, fun z => absurd z e11⟩
        have b : cd h w (lw lab fs w l) ∧ h 16 w = 0 := by
          unfold lat at a1
          split at a1
          · rename_i z; exact absurd z n20
          · rename_i z; exact absurd z e11
          · rename_i z; exact absurd z n14
          · refine ⟨a1.1, ?_⟩
            rw [a1.2, if_neg (show ¬ ((w, 0) : Nat × Nat).2 ≠ 0 from fun z => z rfl), if_neg (fun z => absurd z.2 (by decide))]
        rw [← ag]
        exact cmw_ag A h6 (by rw [lw_len]; omega) b.1 b.2
    refine ⟨⟨la.1, by rw [ln]; exact a3, la.2, a2, by rw [ln]; exact i1⟩, ?_⟩
    show (lfold (lstp (w, 0) l) ls).2 = 0
    rw [sp]; exact i2
/-- all subs -/
theorem LU_SYS (A : ∀ k, 6 ≤ k → k < M → h' 13 k = h 13 k ∧ h' 16 k = h 16 k) (hla : ∀ a, a < 152 → lab a = lab' a) (hfs : ∀ s, s < 49 → fs s = fs' s) : ∀ (m s w : Nat), s + m = 49 → 6 ≤ w → (∀ l ∈ pcs m s, l ∈ syVs) → LU h lab fs gvS 0 (w, 0) (pcs m s) → (lfold (w, 0) (pcs m s)).1 ≤ M → M ≤ 32767 → ∀ i, s ≤ i → i < 49 → cmw h' (fs' i) (wFn (fs' i) (vtab.getD i (0, 0, [], 0)).1 ++ wLoc (vtab.getD i (0, 0, [], 0)).2.1) ∧ fs' i + 12 + 5 * (vtab.getD i (0, 0, [], 0)).2.1 < 32768 ∧ LY h' lab' fs' (fs' i + 12 + 5 * (vtab.getD i (0, 0, [], 0)).2.1) (vtab.getD i (0, 0, [], 0)).2.2.1
  | 0, s, w, hm, _, _, _, _, _, i, h1, h2 => by omega
  | m + 1, s, w, hm, h6, hin, H, hM, hM2, i, h1, h2 => by
    obtain ⟨q, hq⟩ : ∃ q, q = vtab.getD s (0, 0, [], 0) := ⟨_, rfl⟩
    have ep : pcs (m + 1) s = ((14, s, q.2.1) :: q.2.2.1) ++ pcs m (s + 1) := by rw [hq]; rfl
    rw [ep] at H hM hin
    obtain ⟨⟨a1, a2, a3, a4⟩, H2⟩ := LU_app H
    have st : lstp (w, 0) (14, s, q.2.1) = (w + 12 + 5 * q.2.1, 0) := rfl
    rw [st] at a3 a4
    rw [lfold_app] at hM
    have hM : (lfold (lfold (lstp (w, 0) (14, s, q.2.1)) q.2.2.1) (pcs m (s + 1))).1 ≤ M := hM
    have H2 : LU h lab fs gvS 0 (lfold (lstp (w, 0) (14, s, q.2.1)) q.2.2.1) (pcs m (s + 1)) := H2
    rw [st] at hM H2
    have le1 : (lfold (w + 12 + 5 * q.2.1, 0) q.2.2.1).1 ≤ (lfold (lfold (w + 12 + 5 * q.2.1, 0) q.2.2.1) (pcs m (s + 1))).1 := lfold_le
    have le0 : (w + 12 + 5 * q.2.1, 0).1 ≤ (lfold (w + 12 + 5 * q.2.1, 0) q.2.2.1).1 := lfold_le
    have le0 : w + 12 + 5 * q.2.1 ≤ (lfold (w + 12 + 5 * q.2.1, 0) q.2.2.1).1 := le0
    have nin : ∀ l ∈ q.2.2.1, (l.1 ≠ 14 ∧ l.1 ≠ 20) ∧ (l.1 = 11 ∨ l.1 = 12 ∨ l.1 = 13 → lab l.2.1 = lab' l.2.1) ∧ (l.1 = 15 → fs l.2.1 = fs' l.2.1) := fun l hl => by
      have hm := hin l (List.mem_append_left _ (List.mem_cons_of_mem _ hl))
      obtain ⟨-, b1, b2, b3, -⟩ := sy_lg hm
      refine ⟨⟨fun z => ?_, b1⟩, fun z => hla _ (b3 z), fun z => hfs _ (b2 z)⟩
      rw [hq] at hl
      have := List.all_eq_true.1 (List.all_eq_true.1 sy_c14 s (List.mem_range.2 (by omega))) l hl
      rw [z] at this
      cases this
    obtain ⟨i1, i2⟩ := LU_LYx (lab' := lab') (fs' := fs') A q.2.2.1 (w + 12 + 5 * q.2.1) (by omega) nin a4 (by omega)
    have a1 : cd h w (wFn w (gvS s) ++ wLoc q.2.1) ∧ h 16 w = (if (0 : Nat) ≠ 0 then ((0 : Nat) : Int) else ((0 : Nat) : Int)) ∧ fs s = w := a1
    obtain ⟨b1, b2, b3⟩ := a1
    have efs : fs' s = w := by rw [← hfs s (by omega)]; exact b3
    by_cases e : i = s
    · subst e
      rw [← hq, efs]
      refine ⟨?_, a3, i1⟩
      have eg : gvS i = q.1 := by rw [hq]; rfl
      rw [eg] at b1
      refine cmw_ag A h6 ?_ b1 (by rw [b2]; rfl)
      have l1 : (wFn w q.1).length = 12 := rfl
      have l2 : ∀ n, (wLoc n).length = 5 * n := by
        intro n
        induction n with
        | zero => rfl
        | succ n ih => show ([-5488] ++ wPush ++ wLoc n).length = _; rw [List.length_append, ih]; show 5 + 5 * n = _; omega
      rw [List.length_append, l1, l2]; omega
    · obtain ⟨w2, hw2⟩ : ∃ w2, w2 = (lfold (w + 12 + 5 * q.2.1, 0) q.2.2.1).1 := ⟨_, rfl⟩
      have ew : lfold (w + 12 + 5 * q.2.1, 0) q.2.2.1 = (w2, 0) := by
        rw [hw2]
        exact Prod.ext rfl i2
      rw [ew] at H2 hM
      exact LU_SYS A hla hfs m (s + 1) w2 (by omega) (by omega) (fun l hl => hin l (List.mem_append_right _ hl)) H2 hM hM2 i (by omega) h2
end
