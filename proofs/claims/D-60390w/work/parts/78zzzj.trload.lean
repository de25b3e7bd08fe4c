/-! LOAD, 9: the translator at a load -/
section
variable {h h' : am_H} {gv lab fs : Nat → Nat} {wd : Nat}
theorem UL_eq : ∀ {vs : List vl} {q : Nat × Nat}, (∀ l ∈ vs, l.1 ≤ 20) → UL h gv wd q vs → (∀ c k, c = 13 ∨ c = 14 ∨ c = 16 → k < (lfold q vs).1 → h' c k = h c k) → (∀ x ∈ tgts vs, h' 15 x = h 15 x) → UL h' gv wd q vs
  | [], _, _, _, _, _ => trivial
  | l :: vs, q, hl, ⟨R, RR⟩, e, e15 => by
    have e : ∀ c k, c = 13 ∨ c = 14 ∨ c = 16 → k < (lfold (lstp q l) vs).1 → h' c k = h c k := e
    have e15 : ∀ x ∈ tgt l ++ tgts vs, h' 15 x = h 15 x := e15
    exact ⟨R.eq (hl l (List.mem_cons_self ..)) (fun c k hc hk => e c k hc (Nat.lt_of_lt_of_le hk lfold_le)) (fun x hx => e15 x (List.mem_append_left _ hx)), UL_eq (fun x hx => hl x (List.mem_cons_of_mem _ hx)) RR e (fun x hx => e15 x (List.mem_append_right _ hx))⟩
/-- labels in rows -/
theorem row_rx (ws : List Int) : ∀ e ∈ rx ws, e.2.1 = -1 := by
  intro e he
  obtain ⟨y, -, rfl⟩ := List.mem_map.1 he
  rfl
theorem row_loc : ∀ nl, ∀ e ∈ rloc nl, e.2.1 = -1
  | 0, e, he => by cases he
  | k + 1, e, he => by
    rcases List.mem_append.1 he with z | z
    · exact row_rx _ e z
    · exact row_loc k e z
theorem row_trl {w : Nat} {l : vl} {pd : Nat} (G : lgo gv pd l) : ∀ e ∈ trl (w : Int) (wd : Int) l, e.2.1 < 1645 := by
  obtain ⟨⟨g1, g2, g3, g4⟩, g5, g6, g7, g8, g9, g10, g11⟩ := G
  obtain ⟨op, sg, b⟩ := l
  dsimp only at *
  have rr : ∀ ws, ∀ e ∈ rx ws, e.2.1 < 1645 := fun ws e he => by rw [row_rx ws e he]; decide
  have rt : ∀ k, k < 15 → ∀ e ∈ rrt (w : Int) k, e.2.1 < 1645 := by
    intro k hk e he
    simp only [rrt, List.mem_cons, List.not_mem_nil, or_false] at he
    rcases he with rfl | rfl | rfl | rfl | rfl | rfl <;> dsimp only <;> omega
  match op with
  | 0 => match sg with
    | 0 | 1 | 2 | 3 | _ + 4 => exact rr _
  | 1 => match sg with
    | 0 | 1 | 2 | 3 | 4 | _ + 5 => exact rr _
  | 2 | 3 | 4 | 5 | 6 | 7 | 19 => exact rr _
  | 8 => exact rt 2 (by decide)
  | 9 => exact rt 3 (by decide)
  | 10 => exact rt 4 (by decide)
  | 11 => intro e he; cases he
  | 12 =>
    have := g7 (by omega)
    intro e he
    have he : e ∈ [((0 : Int), (sg : Int), (0 : Int)), (-5497, -1, 0)] := he
    simp only [List.mem_cons, List.not_mem_nil, or_false] at he
    rcases he with rfl | rfl <;> dsimp only <;> omega
  | 13 =>
    have := g7 (by omega)
    intro e he
    rcases List.mem_append.1 he with z | z
    · exact rr _ e z
    · have z : e ∈ [((0 : Int), (sg : Int), (0 : Int)), (-7419, -1, 0)] := z
      simp only [List.mem_cons, List.not_mem_nil, or_false] at z
      rcases z with rfl | rfl <;> dsimp only <;> omega
  | 14 => intro e he; cases he
  | 15 =>
    have := g6 rfl
    intro e he
    have he : e ∈ [((w : Int) + 4, (-1 : Int), (0 : Int)), (-5104, -1, 0), (0, 1500 + (sg : Int), 0), (-5497, -1, 0)] := he
    simp only [List.mem_cons, List.not_mem_nil, or_false] at he
    rcases he with rfl | rfl | rfl | rfl <;> dsimp only <;> omega
  | 16 =>
    intro e he
    have he : e ∈ [((0 : Int), (1631 : Int), (if (wd : Int) = 0 then (0 : Int) else 2)), (-5497, -1, 0)] := he
    simp only [List.mem_cons, List.not_mem_nil, or_false] at he
    rcases he with rfl | rfl <;> dsimp only <;> omega
  | 17 =>
    show ∀ e ∈ (if sg = 1 then rrt (w : Int) 5 else rrt (w : Int) 7), e.2.1 < 1645
    split
    · exact rt 5 (by decide)
    · exact rt 7 (by decide)
  | 18 =>
    show ∀ e ∈ (if sg = 1 then rrt (w : Int) 6 else rrt (w : Int) 8), e.2.1 < 1645
    split
    · exact rt 6 (by decide)
    · exact rt 8 (by decide)
  | _ + 20 => intro e he; cases he
theorem row_fmk {pd : Nat} {r : List (Int × Int × Int)} (H : ∀ e ∈ r, e.2.1 < 1645) : ∀ e ∈ fmk pd r, e.2.1 < 1645 := by
  cases r with
  | nil => intro e he; cases he
  | cons x r =>
    intro e he
    have he : e ∈ (if pd = 0 then x :: r else (x.1, x.2.1, (pd : Int)) :: r) := he
    split at he
    · exact H e he
    · rcases List.mem_cons.1 he with rfl | he
      · exact H x (List.mem_cons_self ..)
      · exact H e (List.mem_cons_of_mem _ he)
theorem RW_lt {w k : Nat} {rows : List (Int × Int × Int)} (R : RW h w rows) (H : ∀ e ∈ rows, e.2.1 < 1645) (h1 : w ≤ k) (h2 : k < w + rows.length) : h 14 k < 1645 := by
  have hj : k - w < rows.length := by omega
  have := (R (k - w) _ (List.getElem?_eq_getElem hj)).2.1
  rw [show w + (k - w) = k by omega] at this
  rw [this]
  exact H _ (List.getElem_mem hj)
theorem rat_lt {q : Nat × Nat} {l : vl} (G : lgo gv q.2 l) (R : rat h gv wd q l) {k : Nat} (h1 : q.1 ≤ k) (h2 : k < (lstp q l).1) : h 14 k < 1645 := by
  have oo : RW h q.1 (ownr q.2) → k < (if q.2 = 0 then q.1 else q.1 + 1) → h 14 k < 1645 := by
    intro R hk
    refine RW_lt R (fun e he => ?_) h1 (by rw [own_len]; split at hk <;> split <;> omega)
    unfold ownr at he
    split at he
    · cases he
    · rw [List.mem_singleton] at he; rw [he]; exact show (-1 : Int) < 1645 by decide
  by_cases n20 : l.1 = 20
  · obtain ⟨op, sg, b⟩ := l
    dsimp only at n20
    subst n20
    exact oo R h2
  · by_cases n11 : l.1 = 11
    · obtain ⟨op, sg, b⟩ := l
      dsimp only at n11
      subst n11
      exact oo R.1 h2
    · by_cases n14 : l.1 = 14
      · obtain ⟨op, sg, b⟩ := l
        dsimp only at n14
        subst n14
        have h2 : k < q.1 + 12 + 5 * b := h2
        refine RW_lt R.1 (fun e he => ?_) h1 (by rw [rfun_len]; dsimp only; omega)
        have he : e ∈ ((15 : Int), (-1 : Int), (wd : Int)) :: ((-7416 : Int), (-1 : Int), (0 : Int)) :: (rx ([(gv sg : Int), -5104] ++ wKeep ((13 : Nat) : Int) ++ [(q.1 : Int) + 12, -5104] ++ wKeep ((14 : Nat) : Int)) ++ ([(0, 1630, 0), (-5497, -1, 0)] ++ rloc b)) := he
        rcases List.mem_cons.1 he with rfl | he
        · exact show (-1 : Int) < 1645 by decide
        · rcases List.mem_cons.1 he with rfl | he
          · exact show (-1 : Int) < 1645 by decide
          · rcases List.mem_append.1 he with z | z
            · rw [row_rx _ e z]; decide
            · rcases List.mem_append.1 z with z | z
              · simp only [List.mem_cons, List.not_mem_nil, or_false] at z
                rcases z with rfl | rfl <;> dsimp only <;> omega
              · rw [row_loc b e z]; decide
      · have rn := rat_n (h := h) (gv := gv) (wd := wd) (q := q) n20 n11 n14
        rw [rn.1] at R
        rw [rn.2] at h2
        exact RW_lt R (row_fmk (row_trl G)) h1 (by rw [fmk_len, trl_len n11 n14 (by have := G.1.1; omega)]; exact h2)
theorem UL_lt : ∀ {vs : List vl} {q : Nat × Nat}, LGo gv q.2 vs → UL h gv wd q vs → ∀ k, q.1 ≤ k → k < (lfold q vs).1 → h 14 k < 1645
  | [], q, _, _, k, h1, h2 => by
    have h2 : k < q.1 := h2
    omega
  | l :: vs, q, ⟨G, GG⟩, ⟨R, RR⟩, k, h1, h2 => by
    by_cases z : k < (lstp q l).1
    · exact rat_lt G R h1 z
    · exact UL_lt (by rw [lstp_npd]; exact GG) RR k (by omega) h2
theorem UL_tg : ∀ {vs : List vl} {q : Nat × Nat}, UL h gv wd q vs → ∀ x ∈ tgts vs, 0 ≤ h 15 x ∧ h 15 x ≤ ((lfold q vs).1 : Int)
  | [], _, _, x, hx => by cases hx
  | l :: vs, q, ⟨R, RR⟩, x, hx => by
    have hx : x ∈ tgt l ++ tgts vs := hx
    have ll : (lstp q l).1 ≤ (lfold (lstp q l) vs).1 := lfold_le
    have lq := lstp_le (q := q) (l := l)
    show 0 ≤ h 15 x ∧ h 15 x ≤ ((lfold (lstp q l) vs).1 : Int)
    rcases List.mem_append.1 hx with z | z
    · unfold tgt at z
      by_cases n11 : l.1 = 11
      · rw [if_pos n11, List.mem_singleton] at z
        obtain ⟨op, sg, b⟩ := l
        dsimp only at n11
        subst n11
        have := R.2
        rw [z]
        dsimp only at this ⊢
        omega
      · rw [if_neg n11] at z
        by_cases n14 : l.1 = 14
        · rw [if_pos n14, List.mem_singleton] at z
          obtain ⟨op, sg, b⟩ := l
          dsimp only at n14
          subst n14
          have := R.2
          rw [z]
          dsimp only at this ⊢
          omega
        · rw [if_neg n14] at z; cases z
    · exact UL_tg RR x z
end
/-- what the system's words need -/
def SYSC (h : am_H) : Prop := ∀ (h' : am_H) (lab fs : Nat → Nat), (∀ k, 6 ≤ k → k < 9623 → h' 13 k = sttl h k ∧ h' 16 k = h 16 k) → (∀ a, a < 152 → lab a = (h 15 a).toNat) → (∀ s, s < 49 → fs s = (h 15 (1500 + s)).toNat) → SYS h' lab fs ∧ cmw h' 6 shL
/-- the system's words stand -/
def TRS (h : am_H) : Prop :=
  (∀ a, 0 ≤ h 15 a ∧ h 15 a ≤ 32767) ∧ (∀ k, k < 15 → h 15 (1630 + k) = (shT k : Int)) ∧
  (∀ k, k < 9623 → k ≠ 4 → (h 14 k < 0 ∨ (0 ≤ h 14 k ∧ h 14 k < 152) ∨ (1500 ≤ h 14 k ∧ h 14 k < 1549) ∨ (1630 ≤ h 14 k ∧ h 14 k < 1645))) ∧
  h 14 4 = 1629 ∧ SYSC h ∧ (h 13 0 = 17000 ∧ h 13 1 = -5104 ∧ h 13 2 = 0 ∧ h 13 3 = -7416 ∧ h 13 5 = -5497) ∧ ∀ k, k < 6 → h 16 k = 0 ∧ (k ≠ 4 → h 14 k < 0)
section
variable {h : am_H} {gv : Nat → Nat} {L d m : Nat}
/-- what the translator and the lines of a beginning change -/
def tlC : List Nat := [9, 10, 11, 13, 14, 15, 16]
def tlF : List (Nat × Nat) := [(1, 18), (1, 3), (1, 17), (8, 3), (12, 3), (212, 24)]
theorem tr_load {ls : List vl} {u1 u3 : Option am_V} {x2 : Int} (T : TRS h) (e12 : h 12 3 = 9623) (e14 : h 1 4 = 1572) (rows : ∀ j l, ls[j]? = some l → h 9 (1572 + j) = (l.1 : Int) ∧ h 10 (1572 + j) = (l.2.1 : Int) ∧ h 11 (1572 + j) = (l.2.2 : Int)) (e8 : h 8 3 = ((1572 + ls.length : Nat) : Int)) (hl : ls.length ≤ 3000) (G : LGo gv 0 ls) (nd : (tgts ls).Nodup) (tr : ∀ x ∈ tgts ls, (152 ≤ x ∧ x < 1500) ∨ (1549 ≤ x ∧ x < 1629)) (wn : wns ls ≤ 17700) (eg : ∀ l ∈ ls, l.1 = 14 → h 221 l.2.1 + (if h 220 l.2.1 = 3 then 1 else 0) = (gv l.2.1 : Int)) (B : BGN (am_up h 212 24 1) m) (hm : m < 130) (h3 : 0 ≤ h 213 3 ∧ h 213 3 ≤ 24) (h20 : 0 ≤ h 212 20 ∧ h 212 20 ≤ h 213 3) (h5 : 0 ≤ h 217 5 ∧ h 217 5 ≤ 130) :
    ∃ (h' : am_H) (lab fs : Nat → Nat) (ws : Nat), am_E (am_D (d + 7)) m_0_7 (.inl 7) [some (am_r (am_a 1)), u1, some (am_i x2), u3] [am_i 1, am_r (am_a 1)] (zS L, h) = pI L 0 h' ∧ LU h' lab fs gv 1 (9623, 0) ls ∧ LU h' lab fs gv 0 (ws, 0) (begN m) ∧ (cmw h' 6 shL ∧ SYS h' lab fs ∧ ∀ q, lab q < 32768 ∧ fs q < 32768) ∧ cmw h' 0 (([((17000 : Nat) : Int), -5104] ++ wKeep ((0 : Nat) : Int)) ++ [(ws : Int), -5497]) ∧ TRS h' ∧ (h' 1 18 = 1 ∧ h' 1 3 = h 212 10 ∧ h' 1 17 = h 243 0) ∧ (∀ c k, c = 9 ∨ c = 10 ∨ c = 11 → k < 1572 → h' c k = h c k) ∧ p_fr tlC tlF h h' := by
  have T0 := T
  obtain ⟨t1, t2, t3, t4, t5, ⟨w0, w1, w2, w3, w5⟩, t7⟩ := T
  obtain ⟨hA, ehA⟩ : ∃ hA, hA = am_up (am_up (am_up h 1 18 1) 1 3 (h 212 10)) 1 17 (h 243 0) := ⟨_, rfl⟩
  have aC : ∀ c, c ≠ 1 → hA c = h c := fun c hc => by rw [ehA, p_up_c _ _ _ _ _ hc, p_up_c _ _ _ _ _ hc, p_up_c _ _ _ _ _ hc]
  have fw := lfold_wn ls (9623, 0)
  have fw : (lfold (9623, 0) ls).1 + (if (lfold (9623, 0) ls).2 = 0 then 0 else 1) ≤ 9623 + 0 + wns ls := fw
  have fs1 : (lfold (9623, 0) ls).1 ≤ 27323 := by omega
  obtain ⟨h2, r2, a1, a2, a3, a4, a5, a6⟩ := t_loop (L := L) (d := d + 1) (gv := gv) (u2 := some (am_i 1572)) (wd := 1) (by decide) ls (q := (9623, 0)) (k := 1572) (u7 := none) (u8 := none) (u9 := none) (h := hA) (by rw [aC 9 (by decide), aC 10 (by decide), aC 11 (by decide)]; exact rows) (by rw [aC 8 (by decide)]; exact e8) (by omega) G (by rw [aC 221 (by decide), aC 220 (by decide)]; exact eg) (by rw [aC 12 (by decide)]; exact e12) (by decide) (by omega) nd
  have c2 : ∀ c, c ≠ 1 → c ≠ 12 → c ≠ 13 → c ≠ 14 → c ≠ 15 → c ≠ 16 → h2 c = h c := fun c q1 q2 q3 q4 q5 q6 => by rw [a6 c q2 q3 q4 q5 q6, aC c q1]
  -- the lines of a beginning
  have B2 : BGN (am_up h2 212 24 1) m := by
    have e : ∀ c, c = 211 ∨ c = 212 ∨ c = 213 ∨ c = 214 ∨ c = 217 ∨ c = 218 ∨ c = 219 → am_up h2 212 24 1 c = am_up h 212 24 1 c := fun c hc => by
      by_cases z : c = 212
      · subst z
        funext j
        by_cases zj : j = 24
        · rw [zj, p_up_s, p_up_s]
        · rw [p_up_n _ _ _ _ _ _ (Or.inr zj), p_up_n _ _ _ _ _ _ (Or.inr zj), c2 212 (by decide) (by decide) (by decide) (by decide) (by decide) (by decide)]
      · rw [p_up_c _ _ _ _ _ z, p_up_c _ _ _ _ _ z, c2 c (by omega) (by omega) (by omega) (by omega) (by omega) (by omega)]
    unfold BGN ce_sub ce_cls ce_own at *
    rw [e 211 (by omega), e 212 (by omega), e 213 (by omega), e 214 (by omega), e 217 (by omega), e 218 (by omega), e 219 (by omega)]
    exact B
  obtain ⟨h3', r3, V3⟩ := c_beg (L := L) (d := d + 3) (h := h2) B2 (by omega) (by rw [c2 213 (by decide) (by decide) (by decide) (by decide) (by decide) (by decide)]; exact h3) (by rw [c2 213 (by decide) (by decide) (by decide) (by decide) (by decide) (by decide), c2 212 (by decide) (by decide) (by decide) (by decide) (by decide) (by decide)]; exact h20) (by rw [c2 217 (by decide) (by decide) (by decide) (by decide) (by decide) (by decide)]; exact h5) (by rw [c2 8 (by decide) (by decide) (by decide) (by decide) (by decide) (by decide), e8]; omega) (by rw [c2 8 (by decide) (by decide) (by decide) (by decide) (by decide) (by decide), e8]; omega)
  obtain ⟨v1, v2, v3, v4, v5⟩ := V3
  have u8 : am_up h2 212 24 1 8 = h2 8 := p_up_c _ _ _ _ _ (by decide)
  have e28 : h2 8 3 = ((1572 + ls.length : Nat) : Int) := by rw [c2 8 (by decide) (by decide) (by decide) (by decide) (by decide) (by decide)]; exact e8
  rw [u8, e28] at v1 v2 v3
  rw [u8] at v4
  have d3 : ∀ c, c ≠ 8 → c ≠ 9 → c ≠ 10 → c ≠ 11 → c ≠ 212 → h3' c = h2 c := fun c q1 q2 q3 q4 q5 => by rw [v5 c q1 q2 q3 q4, p_up_c _ _ _ _ _ q5]
  obtain ⟨ws, hws⟩ : ∃ ws, ws = (lfold (9623, 0) ls).1 := ⟨_, rfl⟩
  have e312 : h3' 12 3 = (ws : Int) := by rw [d3 12 (by decide) (by decide) (by decide) (by decide) (by decide), a1, hws]
  obtain ⟨h4, eh4⟩ : ∃ h4, h4 = am_up h3' 15 1629 (h3' 12 3) := ⟨_, rfl⟩
  have c4 : ∀ c, c ≠ 15 → h4 c = h3' c := fun c hc => by rw [eh4, p_up_c _ _ _ _ _ hc]
  have begG : LGo gv 0 (begN m) := by
    have o15 : ∀ u, u < 130 → ∀ pd, lgo gv pd (15, u, 0) := fun u hu pd => by
      unfold lgo; dsimp only
      exact ⟨⟨by omega, by omega, by omega, by omega⟩, ⟨by omega, by omega⟩, fun _ => hu, by omega, fun z => by omega, by omega, by omega, by omega⟩
    have o1 : ∀ pd, lgo gv pd (1, 5, 0) := fun pd => by
      unfold lgo; dsimp only
      exact ⟨⟨by omega, by omega, by omega, by omega⟩, ⟨by omega, by omega⟩, by omega, by omega, fun z => by omega, by omega, by omega, by omega⟩
    exact ⟨o15 0 (by decide) _, o1 _, o15 37 (by decide) _, o1 _, o15 m hm _, o1 _, o15 46 (by decide) _, trivial⟩
  have lb1 : lfold (ws, 0) (begN m) = (ws + 31, 0) := rfl
  obtain ⟨h7, r7, b1, b2, b3, b4, b5, b6⟩ := t_loop (L := L) (d := d + 1) (gv := gv) (u2 := some (am_i (h2 8 3))) (wd := 0) (by decide) (begN m) (q := (ws, 0)) (k := 1572 + ls.length) (u7 := none) (u8 := none) (u9 := none) (h := h4) (by
      rw [c4 9 (by decide), c4 10 (by decide), c4 11 (by decide)]
      intro j l hj
      have := v2 j l hj
      rw [Int.toNat_natCast] at this
      exact this) (by rw [c4 8 (by decide), v1]; rfl) (by show 1572 + ls.length + 7 ≤ 9000; omega) begG (fun l hl h14 => by
      exfalso
      simp only [begN, List.mem_cons, List.not_mem_nil, or_false] at hl
      rcases hl with rfl | rfl | rfl | rfl | rfl | rfl | rfl <;> dsimp only at h14 <;> omega) (by rw [c4 12 (by decide), e312]) (Nat.zero_le _) (by rw [lb1]; show ws + 31 ≤ 32750; omega) (by
      show ([] : List Nat).Nodup
      exact List.nodup_nil)
  rw [lb1] at b1
  have b1 : h7 12 3 = ((ws + 31 : Nat) : Int) := b1
  have b4 : ∀ x, h7 15 x = h4 15 x := fun x => b4 x (by show x ∉ ([] : List Nat); exact fun z => by cases z)
  -- rows and targets in the end
  have row7 : ∀ c k, c = 13 ∨ c = 14 ∨ c = 16 → k < ws → h7 c k = h2 c k := fun c k hc hk => by rw [b3 c k hc hk, c4 c (by omega), d3 c (by omega) (by omega) (by omega) (by omega) (by omega)]
  have row0 : ∀ c k, c = 13 ∨ c = 14 ∨ c = 16 → k < 9623 → h7 c k = h c k := fun c k hc hk => by
    have : 9623 ≤ ws := by rw [hws]; exact lfold_le (q := (9623, 0))
    rw [row7 c k hc (by omega), a3 c k hc hk, aC c (by omega)]
  have tg7 : ∀ x, x ≠ 1629 → h7 15 x = h2 15 x := fun x hx => by rw [b4, eh4, p_up_n _ _ _ _ _ _ (Or.inr hx), d3 15 (by decide) (by decide) (by decide) (by decide) (by decide)]
  have tgS : h7 15 1629 = (ws : Int) := by rw [b4, eh4, p_up_s, e312]
  have tg0 : ∀ x, x ≠ 1629 → x ∉ tgts ls → h7 15 x = h 15 x := fun x h1 h2 => by rw [tg7 x h1, a4 x h2, aC 15 (by decide)]
  have tsys : ∀ x, x < 152 ∨ (1500 ≤ x ∧ x < 1549) ∨ (1630 ≤ x ∧ x < 1645) → h7 15 x = h 15 x := fun x hx => tg0 x (by omega) (fun z => by have := tr x z; omega)
  have wsb : 9623 ≤ ws ∧ ws ≤ 27323 := ⟨by rw [hws]; exact lfold_le (q := (9623, 0)), by omega⟩
  have trg : ∀ x, 0 ≤ h7 15 x ∧ h7 15 x ≤ 32767 := by
    intro x
    by_cases z : x = 1629
    · rw [z, tgS]; omega
    · by_cases z2 : x ∈ tgts ls
      · have := UL_tg a2 x z2
        rw [tg7 x z]; omega
      · rw [tg0 x z z2]; exact t1 x
  have U7 : UL h7 gv 1 (9623, 0) ls := by
    refine UL_eq (fun l hl => ?_) a2 (fun c k hc hk => row7 c k hc (by omega)) (fun x hx => tg7 x (by have := tr x hx; omega))
    have key : ∀ (vs : List vl) (pd : Nat), LGo gv pd vs → ∀ l ∈ vs, l.1 ≤ 20 := by
      intro vs
      induction vs with
      | nil => intro _ _ l hl; cases hl
      | cons x vs ih =>
        intro pd ⟨g1, g2⟩ l hl
        rcases List.mem_cons.1 hl with rfl | hl
        · exact g1.1.1
        · exact ih _ g2 l hl
    exact key ls 0 G l hl
  have r14 : ∀ k, k < ws + 31 → h7 14 k < 1645 := by
    intro k hk
    by_cases z : k < 9623
    · rw [row0 14 k (by omega) z]
      by_cases z4 : k = 4
      · rw [z4, t4]; decide
      · have := t3 k z z4; omega
    · by_cases z2 : k < ws
      · exact UL_lt G U7 k (by show 9623 ≤ k; omega) (by omega)
      · exact UL_lt begG b2 k (by show ws ≤ k; omega) (by rw [lb1]; exact hk)
  obtain ⟨h', r8, s1, s2, s3⟩ := t_settle (L := L) (d := d + 6) (u1 := some (am_i 0)) (N := ws + 31) (by omega) (ws + 31) 0 (h := h7) (by omega) b1 r14
  have s13 : ∀ k, k < ws + 31 → h' 13 k = sttl h7 k := fun k hk => s2 k (by omega) hk
  obtain ⟨lab, hlab⟩ : ∃ lab : Nat → Nat, lab = fun a => (h7 15 a).toNat := ⟨_, rfl⟩
  obtain ⟨fs, hfs⟩ : ∃ fs : Nat → Nat, fs = fun s => (h7 15 (1500 + s)).toNat := ⟨_, rfl⟩
  have TG7 : TG h7 lab fs := by
    refine ⟨fun k hk => by rw [tsys _ (by omega)]; exact t2 k hk, fun a _ => ?_, fun s _ => ?_, fun a => ⟨?_, ?_⟩⟩
    · rw [hlab]; have := trg a; dsimp only; omega
    · rw [hfs]; have := trg (1500 + s); dsimp only; omega
    · rw [hlab]; have := trg a; dsimp only; omega
    · rw [hfs]; have := trg (1500 + a); dsimp only; omega
  have e16 : h' 16 = h7 16 := s1 16 (by decide)
  have e15 : h' 15 = h7 15 := s1 15 (by decide)
  have e14' : h' 14 = h7 14 := s1 14 (by decide)
  -- the system's words are as they were
  have sy13 : ∀ k, k < 9623 → k ≠ 4 → h' 13 k = sttl h k := by
    intro k hk h4
    have q2 := t3 k hk h4
    rw [s13 k (by omega)]
    unfold sttl
    rw [row0 14 k (by omega) hk, row0 13 k (by omega) hk]
    by_cases z : h 14 k < 0
    · rw [if_pos z, if_pos z]
    · rw [if_neg z, if_neg z, tsys _ (by omega)]
  have s06 : ∀ k, k < 6 → k ≠ 4 → h' 13 k = h 13 k := by
    intro k hk h4
    rw [sy13 k (by omega) h4]
    unfold sttl
    rw [if_pos ((t7 k hk).2 h4)]
  have sy4 : h' 13 4 = (ws : Int) := by
    rw [s13 4 (by omega)]
    unfold sttl
    rw [row0 14 4 (by omega) (by decide), t4, if_neg (by decide)]
    show am_s16 (h7 15 1629) = _
    rw [tgS, s16_id ⟨by omega, by omega⟩]
  have sy16 : ∀ k, k < 9623 → h' 16 k = h 16 k := fun k hk => by rw [e16, row0 16 k (by omega) hk]
  have SC := t5 h' lab fs (fun k h1 h2 => ⟨sy13 k h2 (by omega), sy16 k h2⟩) (fun a ha => by rw [hlab]; dsimp only; rw [tsys a (by omega)]) (fun s hs => by rw [hfs]; dsimp only; rw [tsys (1500 + s) (by omega)])
  have fr : p_fr tlC tlF h h' := by
    intro c k hc hf
    have nc : c ≠ 9 ∧ c ≠ 10 ∧ c ≠ 11 ∧ c ≠ 13 ∧ c ≠ 14 ∧ c ≠ 15 ∧ c ≠ 16 := by
      refine ⟨?_, ?_, ?_, ?_, ?_, ?_, ?_⟩ <;> (rintro rfl; revert hc; decide)
    have nf : ∀ q ∈ tlF, q ≠ (c, k) := fun q hq e => by
      rw [e] at hq
      rw [List.contains_iff_mem.2 hq] at hf
      cases hf
    rw [s1 c nc.2.2.2.1]
    by_cases z12 : c = 12
    · subst z12
      have k3 : k ≠ 3 := fun e => nf (12, 3) (by decide) (by rw [e])
      rw [b5 k k3, c4 12 (by decide), d3 12 (by decide) (by decide) (by decide) (by decide) (by decide), a5 k k3, aC 12 (by decide)]
    · rw [b6 c z12 nc.2.2.2.1 nc.2.2.2.2.1 nc.2.2.2.2.2.1 nc.2.2.2.2.2.2, c4 c nc.2.2.2.2.2.1]
      by_cases z8 : c = 8
      · subst z8
        have k3 : k ≠ 3 := fun e => nf (8, 3) (by decide) (by rw [e])
        rw [v4 k k3, c2 8 (by decide) (by decide) (by decide) (by decide) (by decide) (by decide)]
      · rw [v5 c z8 nc.1 nc.2.1 nc.2.2.1]
        by_cases z212 : c = 212
        · subst z212
          have k24 : k ≠ 24 := fun e => nf (212, 24) (by decide) (by rw [e])
          rw [p_up_n _ _ _ _ _ _ (Or.inr k24), c2 212 (by decide) (by decide) (by decide) (by decide) (by decide) (by decide)]
        · rw [p_up_c _ _ _ _ _ z212, a6 c z12 nc.2.2.2.1 nc.2.2.2.2.1 nc.2.2.2.2.2.1 nc.2.2.2.2.2.2, ehA]
          by_cases z1 : c = 1
          · subst z1
            have k18 : k ≠ 18 := fun e => nf (1, 18) (by decide) (by rw [e])
            have k3 : k ≠ 3 := fun e => nf (1, 3) (by decide) (by rw [e])
            have k17 : k ≠ 17 := fun e => nf (1, 17) (by decide) (by rw [e])
            rw [p_up_n _ _ _ _ _ _ (Or.inr k17), p_up_n _ _ _ _ _ _ (Or.inr k3), p_up_n _ _ _ _ _ _ (Or.inr k18)]
          · rw [p_up_c _ _ _ _ _ z1, p_up_c _ _ _ _ _ z1, p_up_c _ _ _ _ _ z1]
  have one1 : ∀ j, h' 1 j = hA 1 j := fun j => by rw [s1 1 (by decide), b6 1 (by decide) (by decide) (by decide) (by decide) (by decide), c4 1 (by decide), d3 1 (by decide) (by decide) (by decide) (by decide) (by decide), a6 1 (by decide) (by decide) (by decide) (by decide) (by decide)]
  refine ⟨h', lab, fs, ws, ?_, UL_LU TG7 (by decide) s13 e16 (by omega) G U7 (by omega), UL_LU TG7 (by decide) s13 e16 (by omega) begG b2 (by rw [lb1]; exact Nat.le_refl _), ⟨SC.2, SC.1, TG7.2.2.2⟩, ?_, ⟨fun a => by rw [e15]; exact trg a, fun k hk => by rw [e15, tsys _ (by omega)]; exact t2 k hk, fun k hk h4 => by rw [e14', row0 14 k (by omega) hk]; exact t3 k hk h4, by rw [e14', row0 14 4 (by omega) (by decide)]; exact t4, ?_, ⟨by rw [s06 0 (by decide) (by decide)]; exact w0, by rw [s06 1 (by decide) (by decide)]; exact w1, by rw [s06 2 (by decide) (by decide)]; exact w2, by rw [s06 3 (by decide) (by decide)]; exact w3, by rw [s06 5 (by decide) (by decide)]; exact w5⟩, fun k hk => ⟨by rw [sy16 k (by omega)]; exact (t7 k hk).1, fun h4 => by rw [e14', row0 14 k (by omega) (by omega)]; exact (t7 k hk).2 h4⟩⟩, ⟨?_, ?_, ?_⟩, ?_, fr⟩
  · have e2 : (if (1 : Int) = 0 then (some (.inl (some (am_i x2)), (zS L, hA)) : Option am_O) else am_xV (zS L) (am_D (d + 7) 14 29 [am_r (am_a 12), am_r (am_a 8), am_i (h 1 4), am_r (am_a 217), am_i 1] (zS L, hA)) (am_up1 (zS L)) fun h2 => am_xV (zS L) (am_D (d + 7) 7 27 [am_r (am_a 212), am_r (am_a 211)] (zS L, h2)) (am_up1 (zS L)) fun h3 => am_xI (zS L) (am_D (d + 7) 14 2 [am_r (am_a 12), am_i 129] (zS L, h3)) (am_up1 (zS L)) fun v5 h4 => am_xV (zS L) (am_D (d + 7) 14 9 [am_r (am_a 12), am_i v5] (zS L, h4)) (am_up1 (zS L)) fun h6 => am_xV (zS L) (am_D (d + 7) 14 29 [am_r (am_a 12), am_r (am_a 8), am_i (h2 8 3), am_r (am_a 217), am_i 0] (zS L, h6)) (am_up1 (zS L)) fun h7 => am_xV (zS L) (am_D (d + 7) 14 30 [am_r (am_a 12), am_i 0] (zS L, h7)) (am_up1 (zS L)) fun h8 => some (.inl (some (am_i 0)), (zS L, h8))) = pI L 0 h' := by
      have r2' : am_E (am_D (d + 6)) m_14_29 (.inl 1) [some (am_r (am_a 12)), some (am_r (am_a 8)), some (am_i 1572), some (am_r (am_a 217)), some (am_i 1), some (am_i 0), some (am_i 1572), none, none, none] [] (zS L, hA) = pV L h2 := r2
      have r7' : am_E (am_D (d + 6)) m_14_29 (.inl 1) [some (am_r (am_a 12)), some (am_r (am_a 8)), some (am_i (h2 8 3)), some (am_r (am_a 217)), some (am_i 0), some (am_i 0), some (am_i (h2 8 3)), none, none, none] [] (zS L, h4) = pV L h7 := by rw [e28] at r7 ⊢; exact r7
      have r8' : am_E (am_D (d + 6)) m_14_30 (.inl 1) [some (am_r (am_a 12)), some (am_i 0), some (am_i 0)] [] (zS L, h7) = pV L h' := r8
      rw [if_neg (by decide), e14, D_14_29, r2', p_xV, r3, p_xV, D_14_2, p_w (by decide) (by decide)]
      show am_xI (zS L) (pI L 1629 h3') _ _ = _
      rw [p_xI, D_14_9, p_idx (by decide) (by decide)]
      show am_xV (zS L) (pV L (am_up h3' 15 1629 (h3' 12 3))) _ _ = _
      rw [p_xV, ← eh4, D_14_29, r7', p_xV, D_14_30, r8', p_xV]
    rw [q_0_7_7, p_bit1, p_idx (by decide) (by decide)]
    show (if (1 : Int) = 0 then _ else _) = _
    rw [show (Int.toNat 0) = 0 from rfl, ← ehA]
    have e114 : hA 1 4 = h 1 4 := by rw [ehA, p_up_n _ _ _ _ _ _ (Or.inr (by decide)), p_up_n _ _ _ _ _ _ (Or.inr (by decide)), p_up_n _ _ _ _ _ _ (Or.inr (by decide))]
    exact e2
  · intro j v hj
    have b : ∀ k, k < 6 → h' 16 k = 0 := fun k hk => by rw [sy16 k (by omega)]; exact (t7 k hk).1
    match j with
    | 0 => cases hj; exact ⟨by rw [Nat.zero_add, s06 0 (by decide) (by decide)]; exact w0, by decide, by rw [Nat.zero_add]; exact b 0 (by decide)⟩
    | 1 => cases hj; exact ⟨by rw [Nat.zero_add, s06 1 (by decide) (by decide)]; exact w1, by decide, by rw [Nat.zero_add]; exact b 1 (by decide)⟩
    | 2 => cases hj; exact ⟨by rw [Nat.zero_add, s06 2 (by decide) (by decide)]; exact w2, by decide, by rw [Nat.zero_add]; exact b 2 (by decide)⟩
    | 3 => cases hj; exact ⟨by rw [Nat.zero_add, s06 3 (by decide) (by decide)]; exact w3, by decide, by rw [Nat.zero_add]; exact b 3 (by decide)⟩
    | 4 => cases hj; exact ⟨by rw [Nat.zero_add]; exact sy4, by decide, by rw [Nat.zero_add]; exact b 4 (by decide)⟩
    | 5 => cases hj; exact ⟨by rw [Nat.zero_add, s06 5 (by decide) (by decide)]; exact w5, by decide, by rw [Nat.zero_add]; exact b 5 (by decide)⟩
    | j + 6 => exact absurd hj (by simp [wKeep])
  · -- the system's words, from now on
    intro g lab2 fs2 q1 q2 q3
    refine t5 g lab2 fs2 (fun k h1 h2 => ?_) (fun a ha => by rw [q2 a ha, e15, tsys a (by omega)]) (fun s hs => by rw [q3 s hs, e15, tsys _ (by omega)])
    rw [(q1 k h1 h2).1, (q1 k h1 h2).2, sy16 k h2]
    refine ⟨?_, rfl⟩
    have q2 := t3 k h2 (by omega)
    have s1' := sy13 k h2 (by omega)
    unfold sttl at s1' ⊢
    rw [e14', row0 14 k (by omega) h2, e15]
    by_cases z : h 14 k < 0
    · rw [if_pos z, if_pos z]; rw [if_pos z] at s1'; exact s1'
    · rw [if_neg z, if_neg z, tsys _ (by omega)]
  · rw [one1, ehA, p_up_n _ _ _ _ _ _ (Or.inr (by decide)), p_up_n _ _ _ _ _ _ (Or.inr (by decide)), p_up_s]
  · rw [one1, ehA, p_up_n _ _ _ _ _ _ (Or.inr (by decide)), p_up_s]
  · rw [one1, ehA, p_up_s]
  · intro c k hc hk
    rw [s1 c (by omega), b6 c (by omega) (by omega) (by omega) (by omega) (by omega), c4 c (by omega), v3 c k hc (by omega), p_up_c _ _ _ _ _ (by omega), c2 c (by omega) (by omega) (by omega) (by omega) (by omega) (by omega)]
end
