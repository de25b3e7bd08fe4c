/-! HACK, 4: what all lines share: comparing, reading, writing -/
/-- the words that all share, from the sixth on (printed from gen/shared.py) -/
def shL : List Int := [15, -1008, 0, -536, -4960, -7416, 1, -1008, 0, -536, -4960, -7416, 2, -1008, 0, -536, -4960, -7416, 3, -1008, 0, -536, -4960, -7416, 4, -1008, 0, -536, -4960, -7416, 0, -1008, 1, -7416, 5, -6960, 13, -2864, 2, -7416, 14, -992, -5497, 1, -1008, 13, -7416, 5, -6944, -1008, 14, -7416, 0, -856, -1008, 2, -992, -7416, 2, -1008, 0, -6200, 13, -856, -1008, 4, -7416, 13, -856, -1008, 3, -7416, 13, -856, -1008, 2, -7416, 13, -856, -1008, 1, -7416, 14, -992, -5497, 0, -864, -4472, 15, -992, -5497, 0, -864, -5496, 15, -992, -5497, 0, -856, -1008, -4960, -3632, 91, -7422, 97, -5497, 0, -856, -1008, 14, -7416, 0, -864, -1008, 13, -7416, 134, -5497, 0, -856, -1008, 13, -7416, 0, -864, -1008, 14, -7416, 14, -1008, 144, -7420, 13, -1008, 97, -7420, 148, -5497, 13, -1008, 91, -7421, 14, -1008, 13, -2864, 91, -7420, 97, -5497, 20, -5104, 32004, -7416, 0, -864, -1008, 156, -7420, 2048, -6960, 156, -7420, 12288, -6960, 183, -7420, 2048, -6960, 156, -7420, 128, -6960, 183, -7420, 156, -5497, 0, -864, -992, -1008, 0, -864, -7416, 15, -992, -5497, 0, -864, -1008, 156, -7420, 2048, -6960, 156, -7420, 12288, -6960, 216, -7420, 2048, -6960, 156, -7420, 128, -6960, 216, -7420, 156, -5497, 0, -856, -1008, 13, -7416, 5, -1008, 13, -992, -7416, 15, -992, -5497]
section
variable {L n : Nat} {h : am_H} {r : Nat → Int} {ab lb : Nat} {as ls : List Int} {th tm : Option Int} {st : List Int} {G : vG} {a d : Int}
theorem cmw.sub (c : cmw h 6 shL) (i : Nat) (ws : List Int) (e : (shL.drop i).take ws.length = ws) : cmw h (6 + i) ws := fun j w hj => by
  have hl := (List.getElem?_eq_some_iff.1 hj).1
  have := c (i + j) w (by
    rw [← e, List.getElem?_take_of_lt hl, List.getElem?_drop] at hj
    exact hj)
  rw [show 6 + (i + j) = 6 + i + j by omega] at this
  exact this
/-- back to where the routine was called -/
theorem r_come {p q : Nat} (c : cmw h p [15, -992, -5497]) (E : h 17 14 ≠ 0) (h15 : r 15 = (q : Int)) (hq : q < 32768) : Hq L n h ((p : Int), a, d, r) ((q : Int), (q : Int), d, r) := by
  have m0 := c 0 _ rfl
  have m1 := c 1 _ rfl
  have m2 := c 2 _ rfl
  rw [Nat.add_zero] at m0
  have b0 := hAw (L := L) (n := n) (a := a) (d := d) (r := r) E m0.2.1 m0.1 (by decide) (by decide)
  rw [show (p : Int) + 1 = ((p + 1 : Nat) : Int) by omega] at b0
  have b1 : Hq L n h (((p + 1 : Nat) : Int), ((15 : Nat) : Int), d, r) _ := c_AeM E (by decide) m1.2.1 m1.1
  rw [h15, show ((p + 1 : Nat) : Int) + 1 = ((p + 2 : Nat) : Int) by omega] at b1
  exact b0.then E m1.2.1 m1.2.2 (b1.then E m2.2.1 m2.2.2 (c_jmp E m2.2.1 hq m2.1))
/-- a value takes the place of the one on top; back -/
theorem r_tell {p q : Nat} {w x v : Int} (c : cmw h p ([0, -864, w] ++ [15, -992, -5497])) (E : h 17 14 ≠ 0) (X : VX r ab lb (as, ls, th, tm, x :: st, G)) (h15 : r 15 = (q : Int)) (hq : q < 32768) (hw : ∀ (k : Nat), k < 32000 → r k = x → QS L n h [w] ((k : Int), d, r) ((k : Int), d, p_set r k v)) : ∃ r2, Hq L n h ((p : Int), a, d, r) ((q : Int), (q : Int), d, r2) ∧ VX r2 ab lb (as, ls, th, tm, v :: st, G) ∧ KP r r2 ab as.length lb := by
  obtain ⟨⟨x1, x2, x3⟩, x4, x5, ⟨x6, x6'⟩, x7, x8, x9, x10, x11, x12⟩ := id X
  dsimp only at *
  have x12 : lb + ls.length + (st.length + 1) ≤ 31990 := x12
  rw [List.length_cons] at x1
  have a2 : QS L n h [-864] (((0 : Nat) : Int), d, r) _ := q_AeMd (by decide)
  rw [x1, show am_s16 (((lb + ls.length + (st.length + 1) : Nat) : Int) - 1) = ((lb + ls.length + st.length : Nat) : Int) by rw [s16_id ⟨by omega, by omega⟩]; omega] at a2
  have a3 := hw (lb + ls.length + st.length) (by omega) x6
  have A : QS L n h [0, -864, w] (a, d, r) _ := (q_at 0 (by decide) (by decide)).cons (a2.cons a3 (List.cons_ne_nil _ _)) (List.cons_ne_nil _ _)
  have s : ∀ j, j ≠ lb + ls.length + st.length → p_set r (lb + ls.length + st.length) v j = r j := fun j h1 => p_set_n _ _ _ _ h1
  have B := r_come (L := L) (n := n) (a := ((lb + ls.length + st.length : Nat) : Int)) (d := d) (r := p_set r (lb + ls.length + st.length) v) c.app_r E (by rw [s 15 (by omega)]; exact h15) hq
  have m := c.app_r 0 _ rfl
  rw [Nat.add_zero] at m
  refine ⟨_, (A p c.app_l.cd E).then E m.2.1 m.2.2 B, ?_, ?_⟩
  · refine ⟨⟨by rw [s 0 (by omega)]; exact x1, by rw [s 1 (by omega)]; exact x2, by rw [s 2 (by omega)]; exact x3⟩, x4.fr (fun j h1 h2 => s j (by omega)), x5.fr (fun j h1 h2 => s j (by omega)), ⟨p_set_s _ _ _, x6'.fr (fun j h1 h2 => s j (by omega))⟩, fun w hw => by rw [s 3 (by omega)]; exact x7 w hw, fun w hw => by rw [s 5 (by omega)]; exact x8 w hw, fun j h1 h2 => by rw [s j (by omega)]; exact x9 j h1 h2, x10, x11, x12⟩
  · intro j hj
    exact p_set_n _ _ _ _ (by omega)
theorem r_yes {q : Nat} {x : Int} (S : cmw h 6 shL) (E : h 17 14 ≠ 0) (X : VX r ab lb (as, ls, th, tm, x :: st, G)) (h15 : r 15 = (q : Int)) (hq : q < 32768) : ∃ r2, Hq L n h (((91 : Nat) : Int), a, d, r) ((q : Int), (q : Int), d, r2) ∧ VX r2 ab lb (as, ls, th, tm, -1 :: st, G) ∧ KP r r2 ab as.length lb :=
  r_tell (S.sub 85 _ rfl) E X h15 hq (fun k hk _ => q_Mm1 hk)
theorem r_no {q : Nat} {x : Int} (S : cmw h 6 shL) (E : h 17 14 ≠ 0) (X : VX r ab lb (as, ls, th, tm, x :: st, G)) (h15 : r 15 = (q : Int)) (hq : q < 32768) : ∃ r2, Hq L n h (((97 : Nat) : Int), a, d, r) ((q : Int), (q : Int), d, r2) ∧ VX r2 ab lb (as, ls, th, tm, 0 :: st, G) ∧ KP r r2 ab as.length lb :=
  r_tell (S.sub 91 _ rfl) E X h15 hq (fun k hk _ => q_M0 hk)
/-- one of two ways -/
theorem Hq.cond {x : hX} {p k : Nat} {d : Int} {r : Nat → Int} {c : Prop} [Decidable c] (A : Hq L n h x (if c then (k : Int) else (p : Int) + 1, (k : Int), d, r)) : (c → Hq L n h x ((k : Int), (k : Int), d, r)) ∧ (¬ c → Hq L n h x (((p + 1 : Nat) : Int), (k : Int), d, r)) := by
  constructor
  · intro hc; rw [if_pos hc] at A; exact A
  · intro hc; rw [if_neg hc] at A; exact A
/-- words, then a jump by D -/
theorem q_jd {p t : Nat} {ws : List Int} {s : hY} {jw : Int} {c : Prop} [Decidable c] (ht : t < 32768) (A : QS L n h ws s (a, d, r)) (hw : ws ≠ []) (cc : cd h p (ws ++ [(t : Int), jw])) (E : h 17 14 ≠ 0) (J : ∀ p' : Nat, p' < 32768 → h 13 p' = jw → Hq L n h ((p' : Int), (t : Int), d, r) (if c then (t : Int) else (p' : Int) + 1, (t : Int), d, r)) : (c → Hq L n h ((p : Int), s) ((t : Int), (t : Int), d, r)) ∧ (¬ c → Hq L n h ((p : Int), s) (((p + ws.length + 2 : Nat) : Int), (t : Int), d, r)) := by
  have c2 := cc.app_r hw
  have m0 := c2 0 _ rfl
  have m1 := c2 1 _ rfl
  rw [Nat.add_zero] at m0
  have b1 : Hq L n h (((p + ws.length : Nat) : Int), a, d, r) (((p + ws.length + 1 : Nat) : Int), (t : Int), d, r) := by
    have := hAw (L := L) (n := n) (a := a) (d := d) (r := r) E m0.2.1 m0.1 (by omega) (by omega)
    rw [show ((p + ws.length : Nat) : Int) + 1 = ((p + ws.length + 1 : Nat) : Int) by omega] at this
    exact this
  have all := (A p cc.app_l E).then E m0.2.1 m0.2.2 (b1.then E m1.2.1 m1.2.2 (J _ m1.2.1 m1.1))
  exact all.cond
/-- on from a place where nothing is watched -/
theorem Hq.on {x z : hX} {p : Nat} {a d : Int} {r : Nat → Int} (A : Hq L n h x ((p : Int), a, d, r)) (E : h 17 14 ≠ 0) (w : Int) (m : h 13 p = w ∧ p < 32768 ∧ h 16 p = 0) (B : Hq L n h ((p : Int), a, d, r) z) : Hq L n h x z := A.then E m.2.1 m.2.2 B
/-- = -/
theorem r_eq {q : Nat} {x y : Int} (S : cmw h 6 shL) (E : h 17 14 ≠ 0) (X : VX r ab lb (as, ls, th, tm, y :: x :: st, G)) (h15 : r 15 = (q : Int)) (hq : q < 32768) (rx : rg16 x) (ry : rg16 y) : ∃ a2 d2 r2, Hq L n h (((103 : Nat) : Int), a, d, r) ((q : Int), a2, d2, r2) ∧ VX r2 ab lb (as, ls, th, tm, (if x = y then -1 else 0) :: st, G) ∧ KP r r2 ab as.length lb := by
  obtain ⟨e1, e2, X2, K2⟩ := X.pop
  obtain ⟨⟨x1, x2, x3⟩, x4, x5, ⟨x6, x6'⟩, x7, x8, x9, x10, x11, x12⟩ := id X2
  dsimp only at *
  have x12 : lb + ls.length + (st.length + 1) ≤ 31990 := x12
  rw [List.length_cons] at e1 e2 x6 X2 K2
  have a1 : QS L n h wPop (a, d, r) _ := q_pop e1 (by omega) (by omega)
  rw [e2] at a1
  have a2 : QS L n h [-4960] (((lb + ls.length + (st.length + 1) : Nat) : Int), y, p_set r 0 ((lb + ls.length + (st.length + 1) : Nat) : Int)) _ := q_Ad
  rw [show am_s16 (((lb + ls.length + (st.length + 1) : Nat) : Int) - 1) = ((lb + ls.length + st.length : Nat) : Int) by rw [s16_id ⟨by omega, by omega⟩]; omega] at a2
  have a3 : QS L n h [-3632] (((lb + ls.length + st.length : Nat) : Int), y, p_set r 0 ((lb + ls.length + (st.length + 1) : Nat) : Int)) _ := q_DeMmD (by omega)
  rw [x6] at a3
  have A := a1.app (a2.cons a3 (List.cons_ne_nil _ _)) (List.cons_ne_nil _ _) (List.cons_ne_nil _ _)
  have J := q_jd (p := 103) (t := 91) (jw := -7422) (by decide) A (by simp [wPop]) (S.sub 97 _ rfl).cd E (fun p' hp hw => c_jeq E hp (by decide) hw)
  have h15' : p_set r 0 ((lb + ls.length + (st.length + 1) : Nat) : Int) 15 = (q : Int) := by rw [p_set_n _ _ _ _ (by decide)]; exact h15
  have key : am_s16 (x - y) = 0 ↔ x = y := by
    obtain ⟨rx1, rx2⟩ := rx
    obtain ⟨ry1, ry2⟩ := ry
    constructor
    · intro z
      by_cases c1 : x - y < -32768
      · rw [s16_lo (by omega) (by omega)] at z; omega
      · by_cases c2 : 32767 < x - y
        · rw [s16_hi (by omega) (by omega)] at z; omega
        · rw [s16_id ⟨by omega, by omega⟩] at z; omega
    · intro z; rw [z, Int.sub_self]; decide
  by_cases c : x = y
  · obtain ⟨r2, B, X3, K3⟩ := r_yes (L := L) (n := n) (a := ((91 : Nat) : Int)) (d := am_s16 (x - y)) S E X2 h15' hq
    rw [if_pos c]
    exact ⟨_, _, r2, (J.1 (key.2 c)).on E _ (S.sub 85 [0] rfl 0 _ rfl) B, X3, K2.trans K3⟩
  · obtain ⟨r2, B, X3, K3⟩ := r_no (L := L) (n := n) (a := ((97 : Nat) : Int)) (d := am_s16 (x - y)) S E X2 h15' hq
    rw [if_neg c]
    have g := q_go0 (L := L) (n := n) (p := 110) (t := 97) (a := ((91 : Nat) : Int)) (d := am_s16 (x - y)) (r := p_set r 0 ((lb + ls.length + (st.length + 1) : Nat) : Int)) (by decide) (S.sub 104 _ rfl).cd E
    exact ⟨_, _, r2, (J.2 (fun z => c (key.1 z))).on E _ (S.sub 104 [97] rfl 0 _ rfl) (g.on E _ (S.sub 91 [0] rfl 0 _ rfl) B), X3, K2.trans K3⟩
/-- the lesser one of R14 and R13 -/
theorem r_split {q : Nat} {x u v : Int} (S : cmw h 6 shL) (E : h 17 14 ≠ 0) (X : VX r ab lb (as, ls, th, tm, x :: st, G)) (h15 : r 15 = (q : Int)) (hq : q < 32768) (h13 : r 13 = u) (h14 : r 14 = v) (ru : rg16 u) (rv : rg16 v) : ∃ a2 d2 r2, Hq L n h (((134 : Nat) : Int), a, d, r) ((q : Int), a2, d2, r2) ∧ VX r2 ab lb (as, ls, th, tm, (if v < u then -1 else 0) :: st, G) ∧ KP r r2 ab as.length lb := by
  obtain ⟨ru1, ru2⟩ := id ru
  obtain ⟨rv1, rv2⟩ := id rv
  have t14 : ∀ {a d : Int}, QS L n h (wTake ((14 : Nat) : Int)) (a, d, r) _ := q_take 14 (by decide)
  have t13 : ∀ {a d : Int}, QS L n h (wTake ((13 : Nat) : Int)) (a, d, r) _ := q_take 13 (by decide)
  rw [h14] at t14
  rw [h13] at t13
  have yes : ∀ a d, ∃ r2, Hq L n h (((91 : Nat) : Int), a, d, r) ((q : Int), (q : Int), d, r2) ∧ VX r2 ab lb (as, ls, th, tm, -1 :: st, G) ∧ KP r r2 ab as.length lb := fun a d => r_yes S E X h15 hq
  have no : ∀ a d, ∃ r2, Hq L n h (((97 : Nat) : Int), a, d, r) ((q : Int), (q : Int), d, r2) ∧ VX r2 ab lb (as, ls, th, tm, 0 :: st, G) ∧ KP r r2 ab as.length lb := fun a d => r_no S E X h15 hq
  -- like signs
  have high : (v < 0 ↔ u < 0) → ∀ a d, ∃ a2 d2 r2, Hq L n h (((148 : Nat) : Int), a, d, r) ((q : Int), a2, d2, r2) ∧ VX r2 ab lb (as, ls, th, tm, (if v < u then -1 else 0) :: st, G) ∧ KP r r2 ab as.length lb := by
    intro sg a d
    have a2 : QS L n h [-2864] (((13 : Nat) : Int), v, r) _ := q_DmM (by decide)
    rw [h13, s16_id (x := v - u) ⟨by omega, by omega⟩] at a2
    have A : QS L n h (wTake ((14 : Nat) : Int) ++ [((13 : Nat) : Int), -2864]) (a, d, r) _ := t14.app ((q_at ((13 : Nat) : Int) (by decide) (by decide)).cons a2 (List.cons_ne_nil _ _)) (List.cons_ne_nil _ _) (List.cons_ne_nil _ _)
    have J := q_jd (p := 148) (t := 91) (jw := -7420) (by decide) A (by simp [wTake]) (S.sub 142 _ rfl).cd E (fun p' hp hw => c_jlt E hp (by decide) hw)
    by_cases c : v < u
    · obtain ⟨r2, B, X3, K3⟩ := yes ((91 : Nat) : Int) (v - u)
      rw [if_pos c]
      exact ⟨_, _, r2, (J.1 (by omega)).on E _ (S.sub 85 [0] rfl 0 _ rfl) B, X3, K3⟩
    · obtain ⟨r2, B, X3, K3⟩ := no ((97 : Nat) : Int) (v - u)
      rw [if_neg c]
      have g := q_go0 (L := L) (n := n) (p := 154) (t := 97) (a := ((91 : Nat) : Int)) (d := v - u) (r := r) (by decide) (S.sub 148 _ rfl).cd E
      exact ⟨_, _, r2, (J.2 (by omega)).on E _ (S.sub 148 [97] rfl 0 _ rfl) (g.on E _ (S.sub 91 [0] rfl 0 _ rfl) B), X3, K3⟩
  have J1 := q_jd (p := 134) (t := 144) (jw := -7420) (by decide) (t14 (a := a) (d := d)) (List.cons_ne_nil _ _) (S.sub 128 _ rfl).cd E (fun p' hp hw => c_jlt E hp (by decide) hw)
  by_cases c1 : v < 0
  · have J2 := q_jd (p := 144) (t := 91) (jw := -7421) (by decide) (t13 (a := ((144 : Nat) : Int)) (d := v)) (List.cons_ne_nil _ _) (S.sub 138 _ rfl).cd E (fun p' hp hw => c_jge E hp (by decide) hw)
    by_cases c2 : 0 ≤ u
    · obtain ⟨r2, B, X3, K3⟩ := yes ((91 : Nat) : Int) u
      rw [if_pos (by omega)]
      exact ⟨_, _, r2, (J1.1 c1).on E _ (S.sub 138 [13] rfl 0 _ rfl) ((J2.1 c2).on E _ (S.sub 85 [0] rfl 0 _ rfl) B), X3, K3⟩
    · obtain ⟨a2, d2, r2, B, X3, K3⟩ := high (by omega) ((91 : Nat) : Int) u
      exact ⟨a2, d2, r2, (J1.1 c1).on E _ (S.sub 138 [13] rfl 0 _ rfl) ((J2.2 c2).on E _ (S.sub 142 [14] rfl 0 _ rfl) B), X3, K3⟩
  · have J2 := q_jd (p := 138) (t := 97) (jw := -7420) (by decide) (t13 (a := ((144 : Nat) : Int)) (d := v)) (List.cons_ne_nil _ _) (S.sub 132 _ rfl).cd E (fun p' hp hw => c_jlt E hp (by decide) hw)
    by_cases c2 : u < 0
    · obtain ⟨r2, B, X3, K3⟩ := no ((97 : Nat) : Int) u
      rw [if_neg (by omega)]
      exact ⟨_, _, r2, (J1.2 c1).on E _ (S.sub 132 [13] rfl 0 _ rfl) ((J2.1 c2).on E _ (S.sub 91 [0] rfl 0 _ rfl) B), X3, K3⟩
    · obtain ⟨a2, d2, r2, B, X3, K3⟩ := high (by omega) ((148 : Nat) : Int) u
      have g := q_go0 (L := L) (n := n) (p := 142) (t := 148) (a := ((97 : Nat) : Int)) (d := u) (r := r) (by decide) (S.sub 136 _ rfl).cd E
      exact ⟨a2, d2, r2, (J1.2 c1).on E _ (S.sub 132 [13] rfl 0 _ rfl) ((J2.2 c2).on E _ (S.sub 136 [148] rfl 0 _ rfl) (g.on E _ (S.sub 142 [14] rfl 0 _ rfl) B)), X3, K3⟩
/-- < -/
theorem r_lt {q : Nat} {x y : Int} (S : cmw h 6 shL) (E : h 17 14 ≠ 0) (X : VX r ab lb (as, ls, th, tm, y :: x :: st, G)) (h15 : r 15 = (q : Int)) (hq : q < 32768) (rx : rg16 x) (ry : rg16 y) : ∃ a2 d2 r2, Hq L n h (((124 : Nat) : Int), a, d, r) ((q : Int), a2, d2, r2) ∧ VX r2 ab lb (as, ls, th, tm, (if x < y then -1 else 0) :: st, G) ∧ KP r r2 ab as.length lb := by
  have A := l_popk (L := L) (n := n) (h := h) (a := a) (d := d) 13 (by decide) X
  obtain ⟨e1, e2, X2, K2⟩ := X.pop
  have X3 := X2.low 13 y (by omega)
  have K3 := K2.trans (KP.low (as := as) (lb := lb) 13 y (by omega) X.2.2.2.2.2.2.2.1)
  obtain ⟨⟨x1, x2, x3⟩, x4, x5, ⟨x6, x6'⟩, x7, x8, x9, x10, x11, x12⟩ := id X3
  dsimp only at *
  have x12 : lb + ls.length + (st.length + 1) ≤ 31990 := x12
  rw [List.length_cons] at x1 A X3 K3
  have a2 : QS L n h [-864] (((0 : Nat) : Int), y, p_set (p_set r 0 ((lb + ls.length + (st.length + 1) : Nat) : Int)) 13 y) _ := q_AeMd (by decide)
  rw [List.length_cons] at x6
  rw [x1, show am_s16 (((lb + ls.length + (st.length + 1) : Nat) : Int) - 1) = ((lb + ls.length + st.length : Nat) : Int) by rw [s16_id ⟨by omega, by omega⟩]; omega] at a2
  have a3 : QS L n h [-1008] (((lb + ls.length + st.length : Nat) : Int), y, p_set (p_set r 0 ((lb + ls.length + (st.length + 1) : Nat) : Int)) 13 y) _ := q_DeM (by omega)
  rw [x6] at a3
  have B := A.app (((q_at 0 (by decide) (by decide)).cons (a2.cons a3 (List.cons_ne_nil _ _)) (List.cons_ne_nil _ _)).app (q_keep 14 (by decide)) (List.cons_ne_nil _ _) (List.cons_ne_nil _ _)) (by simp [wPop]) (by simp)
  have X4 := X3.low 14 x (by omega)
  have K4 := K3.trans (KP.low (as := as) (lb := lb) 14 x (by omega) x10)
  obtain ⟨a5, d5, r5, C, X5, K5⟩ := r_split (L := L) (n := n) (a := ((14 : Nat) : Int)) (d := x) S E X4 (by rw [p_set_n _ _ _ _ (by decide), p_set_n _ _ _ _ (by decide), p_set_n _ _ _ _ (by decide)]; exact h15) hq (by rw [p_set_n _ _ _ _ (by decide), p_set_s]) (p_set_s _ _ _) ry rx
  have c := S.sub 118 (wPop ++ wKeep ((13 : Nat) : Int) ++ ([0, -864, -1008] ++ wKeep ((14 : Nat) : Int))) rfl
  exact ⟨a5, d5, r5, (B 124 c.cd E).on E _ (S.sub 128 [14] rfl 0 _ rfl) C, X5, K4.trans K5⟩
/-- > -/
theorem r_gt {q : Nat} {x y : Int} (S : cmw h 6 shL) (E : h 17 14 ≠ 0) (X : VX r ab lb (as, ls, th, tm, y :: x :: st, G)) (h15 : r 15 = (q : Int)) (hq : q < 32768) (rx : rg16 x) (ry : rg16 y) : ∃ a2 d2 r2, Hq L n h (((112 : Nat) : Int), a, d, r) ((q : Int), a2, d2, r2) ∧ VX r2 ab lb (as, ls, th, tm, (if y < x then -1 else 0) :: st, G) ∧ KP r r2 ab as.length lb := by
  have A := l_popk (L := L) (n := n) (h := h) (a := a) (d := d) 14 (by decide) X
  obtain ⟨e1, e2, X2, K2⟩ := X.pop
  have X3 := X2.low 14 y (by omega)
  have K3 := K2.trans (KP.low (as := as) (lb := lb) 14 y (by omega) X.2.2.2.2.2.2.2.1)
  obtain ⟨⟨x1, x2, x3⟩, x4, x5, ⟨x6, x6'⟩, x7, x8, x9, x10, x11, x12⟩ := id X3
  dsimp only at *
  have x12 : lb + ls.length + (st.length + 1) ≤ 31990 := x12
  rw [List.length_cons] at x1 A X3 K3
  have a2 : QS L n h [-864] (((0 : Nat) : Int), y, p_set (p_set r 0 ((lb + ls.length + (st.length + 1) : Nat) : Int)) 14 y) _ := q_AeMd (by decide)
  rw [List.length_cons] at x6
  rw [x1, show am_s16 (((lb + ls.length + (st.length + 1) : Nat) : Int) - 1) = ((lb + ls.length + st.length : Nat) : Int) by rw [s16_id ⟨by omega, by omega⟩]; omega] at a2
  have a3 : QS L n h [-1008] (((lb + ls.length + st.length : Nat) : Int), y, p_set (p_set r 0 ((lb + ls.length + (st.length + 1) : Nat) : Int)) 14 y) _ := q_DeM (by omega)
  rw [x6] at a3
  have B := A.app (((q_at 0 (by decide) (by decide)).cons (a2.cons a3 (List.cons_ne_nil _ _)) (List.cons_ne_nil _ _)).app (q_keep 13 (by decide)) (List.cons_ne_nil _ _) (List.cons_ne_nil _ _)) (by simp [wPop]) (by simp)
  have X4 := X3.low 13 x (by omega)
  have K4 := K3.trans (KP.low (as := as) (lb := lb) 13 x (by omega) x10)
  obtain ⟨a5, d5, r5, C, X5, K5⟩ := r_split (L := L) (n := n) (a := ((134 : Nat) : Int)) (d := x) S E X4 (by rw [p_set_n _ _ _ _ (by decide), p_set_n _ _ _ _ (by decide), p_set_n _ _ _ _ (by decide)]; exact h15) hq (p_set_s _ _ _) (by rw [p_set_n _ _ _ _ (by decide), p_set_s]) rx ry
  have c := S.sub 106 ((wPop ++ wKeep ((14 : Nat) : Int) ++ ([0, -864, -1008] ++ wKeep ((13 : Nat) : Int))) ++ [((134 : Nat) : Int), -5497]) rfl
  exact ⟨a5, d5, r5, (q_go (by decide) B (by simp [wPop]) c.cd E).on E _ (S.sub 128 [14] rfl 0 _ rfl) C, X5, K4.trans K5⟩
end
