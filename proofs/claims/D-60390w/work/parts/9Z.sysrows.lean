/-! CONSTRUCTORS, 18: the system's rows; what the translator has of the system -/
def rgS (x : Int) : Prop := x < 1645 ∧ (x < 0 ∨ x < 152 ∨ 1500 ≤ x) ∧ (x < 1549 ∨ 1630 ≤ x)
theorem rgS_m : rgS (-1) := by unfold rgS; omega
section
variable {h h' : am_H} {gv lab fs : Nat → Nat} {wd : Nat}
/-- labels in rows -/
theorem row_rxz (ws : List Int) : ∀ e ∈ rx ws, e.2.1 = -1 := by
  intro e he
  obtain ⟨y, -, rfl⟩ := List.mem_map.1 he
  rfl
theorem row_locz : ∀ nl, ∀ e ∈ rloc nl, e.2.1 = -1
  | 0, e, he => by cases he
  | k + 1, e, he => by
    rcases List.mem_append.1 he with z | z
    · exact row_rxz _ e z
    · exact row_locz k e z
theorem row_trlz {w : Nat} {l : vl} {pd : Nat} (G : lgo gv pd l) (B : (l.1 = 12 ∨ l.1 = 13 → l.2.1 < 152) ∧ (l.1 = 15 → l.2.1 < 49)) : ∀ e ∈ trl (w : Int) (wd : Int) l, rgS e.2.1 := by
  obtain ⟨⟨g1, g2, g3, g4⟩, g5, g6, g7, g8, g9, g10, g11⟩ := G
  obtain ⟨op, sg, b⟩ := l
  dsimp only at *
  have rr : ∀ ws, ∀ e ∈ rx ws, rgS e.2.1 := fun ws e he => by rw [row_rxz ws e he]; exact rgS_m
  have rt : ∀ k, k < 15 → ∀ e ∈ rrt (w : Int) k, rgS e.2.1 := by
    intro k hk e he
    simp only [rrt, List.mem_cons, List.not_mem_nil, or_false] at he
    rcases he with rfl | rfl | rfl | rfl | rfl | rfl <;> (dsimp only; unfold rgS; omega)
  match op with
  | 0 => match sg with
    | 0 | 1 | 2 | 3 | _ + 4 => exact rr _
  | 1 => match sg with
    | 0 | 1 | 2 | 3 | 4 | _ + 5 => exact rr _
  | 2 | 3 | 4 | 5 | 6 | 7 | 19 => exact rr _
  | 8 => exact rt 2 (by decide)
  | 9 => exact rt 3 (by decide)
  | 10 => exact rt 4 (by decide)
  | 11 => intro e he; cases he
  | 12 =>
    have := B.1 (by omega)
    intro e he
    have he : e ∈ [((0 : Int), (sg : Int), (0 : Int)), (-5497, -1, 0)] := he
    simp only [List.mem_cons, List.not_mem_nil, or_false] at he
    rcases he with rfl | rfl <;> (dsimp only; unfold rgS; omega)
  | 13 =>
    have := B.1 (by omega)
    intro e he
    rcases List.mem_append.1 he with z | z
    · exact rr _ e z
    · have z : e ∈ [((0 : Int), (sg : Int), (0 : Int)), (-7419, -1, 0)] := z
      simp only [List.mem_cons, List.not_mem_nil, or_false] at z
      rcases z with rfl | rfl <;> (dsimp only; unfold rgS; omega)
  | 14 => intro e he; cases he
  | 15 =>
    have := B.2 rfl
    intro e he
    have he : e ∈ [((w : Int) + 4, (-1 : Int), (0 : Int)), (-5104, -1, 0), (0, 1500 + (sg : Int), 0), (-5497, -1, 0)] := he
    simp only [List.mem_cons, List.not_mem_nil, or_false] at he
    rcases he with rfl | rfl | rfl | rfl <;> (dsimp only; unfold rgS; omega)
  | 16 =>
    intro e he
    have he : e ∈ [((0 : Int), (1631 : Int), (if (wd : Int) = 0 then (0 : Int) else 2)), (-5497, -1, 0)] := he
    simp only [List.mem_cons, List.not_mem_nil, or_false] at he
    rcases he with rfl | rfl <;> (dsimp only; unfold rgS; omega)
  | 17 =>
    show ∀ e ∈ (if sg = 1 then rrt (w : Int) 5 else rrt (w : Int) 7), rgS e.2.1
    split
    · exact rt 5 (by decide)
    · exact rt 7 (by decide)
  | 18 =>
    show ∀ e ∈ (if sg = 1 then rrt (w : Int) 6 else rrt (w : Int) 8), rgS e.2.1
    split
    · exact rt 6 (by decide)
    · exact rt 8 (by decide)
  | _ + 20 => intro e he; cases he
theorem row_fmkz {pd : Nat} {r : List (Int × Int × Int)} (H : ∀ e ∈ r, rgS e.2.1) : ∀ e ∈ fmk pd r, rgS e.2.1 := by
  cases r with
  | nil => intro e he; cases he
  | cons x r =>
    intro e he
    have he : e ∈ (if pd = 0 then x :: r else (x.1, x.2.1, (pd : Int)) :: r) := he
    split at he
    · exact H e he
    · rcases List.mem_cons.1 he with rfl | he
      · exact H x (List.mem_cons_self ..)
      · exact H e (List.mem_cons_of_mem _ he)
theorem RW_ltz {w k : Nat} {rows : List (Int × Int × Int)} (R : RW h w rows) (H : ∀ e ∈ rows, rgS e.2.1) (h1 : w ≤ k) (h2 : k < w + rows.length) : rgS (h 14 k) := by
  have hj : k - w < rows.length := by omega
  have := (R (k - w) _ (List.getElem?_eq_getElem hj)).2.1
  rw [show w + (k - w) = k by omega] at this
  rw [this]
  exact H _ (List.getElem_mem hj)
theorem rat_ltz {q : Nat × Nat} {l : vl} (G : lgo gv q.2 l) (B : (l.1 = 12 ∨ l.1 = 13 → l.2.1 < 152) ∧ (l.1 = 15 → l.2.1 < 49)) (R : rat h gv wd q l) {k : Nat} (h1 : q.1 ≤ k) (h2 : k < (lstp q l).1) : rgS (h 14 k) := by
  have oo : RW h q.1 (ownr q.2) → k < (if q.2 = 0 then q.1 else q.1 + 1) → rgS (h 14 k) := by
    intro R hk
    refine RW_ltz R (fun e he => ?_) h1 (by rw [own_len]; split at hk <;> split <;> omega)
    unfold ownr at he
    split at he
    · cases he
    · rw [List.mem_singleton] at he; rw [he]; exact rgS_m
  by_cases n20 : l.1 = 20
  · obtain ⟨op, sg, b⟩ := l
    dsimp only at n20
    subst n20
    exact oo R h2
  · by_cases n11 : l.1 = 11
    · obtain ⟨op, sg, b⟩ := l
      dsimp only at n11
      subst n11
      exact oo R.1 h2
    · by_cases n14 : l.1 = 14
      · obtain ⟨op, sg, b⟩ := l
        dsimp only at n14
        subst n14
        have h2 : k < q.1 + 12 + 5 * b := h2
        refine RW_ltz R.1 (fun e he => ?_) h1 (by rw [rfun_len]; dsimp only; omega)
        have he : e ∈ ((15 : Int), (-1 : Int), (wd : Int)) :: ((-7416 : Int), (-1 : Int), (0 : Int)) :: (rx ([(gv sg : Int), -5104] ++ wKeep ((13 : Nat) : Int) ++ [(q.1 : Int) + 12, -5104] ++ wKeep ((14 : Nat) : Int)) ++ ([(0, 1630, 0), (-5497, -1, 0)] ++ rloc b)) := he
        rcases List.mem_cons.1 he with rfl | he
        · exact rgS_m
        · rcases List.mem_cons.1 he with rfl | he
          · exact rgS_m
          · rcases List.mem_append.1 he with z | z
            · rw [row_rxz _ e z]; exact rgS_m
            · rcases List.mem_append.1 z with z | z
              · simp only [List.mem_cons, List.not_mem_nil, or_false] at z
                rcases z with rfl | rfl <;> (dsimp only; unfold rgS; omega)
              · rw [row_locz b e z]; exact rgS_m
      · have rn := rat_n (h := h) (gv := gv) (wd := wd) (q := q) n20 n11 n14
        rw [rn.1] at R
        rw [rn.2] at h2
        exact RW_ltz R (row_fmkz (row_trlz G B)) h1 (by rw [fmk_len, trl_len n11 n14 (by have := G.1.1; omega)]; exact h2)
theorem UL_ltz : ∀ {vs : List vl} {q : Nat × Nat}, (∀ l ∈ vs, (l.1 = 12 ∨ l.1 = 13 → l.2.1 < 152) ∧ (l.1 = 15 → l.2.1 < 49)) → LGo gv q.2 vs → UL h gv wd q vs → ∀ k, q.1 ≤ k → k < (lfold q vs).1 → rgS (h 14 k)
  | [], q, _, _, _, k, h1, h2 => by
    have h2 : k < q.1 := h2
    omega
  | l :: vs, q, B, ⟨G, GG⟩, ⟨R, RR⟩, k, h1, h2 => by
    by_cases z : k < (lstp q l).1
    · exact rat_ltz G (B l (List.mem_cons_self ..)) R h1 z
    · exact UL_ltz (fun x hx => B x (List.mem_cons_of_mem _ hx)) (by rw [lstp_npd]; exact GG) RR k (by omega) h2
end
