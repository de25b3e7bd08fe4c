/-! HACK, 8: one line, whatever it is -/
section
variable {L n : Nat} {h h' : am_H} {r r2 : Nat → Int} {ab lb m w : Nat} {as ls : List Int} {th tm : Option Int} {st : List Int} {G : vG} {a d a2 d2 : Int} {ky : List Int} {o : vO} {F : vF} {lab fs : Nat → Nat} {Γ : vC} {code rest : List vl}
theorem hrg_st {x : Int} (R : hrg ((w : Int), a, d, r)) (X : VX r ab lb (as, ls, th, tm, x :: st, G)) : rg16 x := by
  rw [← X.pop.2.1]; exact R.2.2 _
/-- behind a routine -/
theorem g_rt {t : Nat} {v : Int} {s2 : List Int} {k : vL → Option vO} (ht : t < 32768) (mt : h 16 t = 0) (hw : w + 6 < 32768) (c : cd h w (wRt w t)) (E : h 17 14 ≠ 0) (I : IOR ky G h) (X : VX r ab lb (as, ls, th, tm, st, G)) (hs : (v :: s2).length ≤ m) (B : ∀ r, VX r ab lb (as, ls, th, tm, st, G) → r 15 = ((w + 6 : Nat) : Int) → ∃ a2 d2 r2, Hq L n h ((t : Int), (t : Int), ((w + 6 : Nat) : Int), r) (((w + 6 : Nat) : Int), a2, d2, r2) ∧ VX r2 ab lb (as, ls, th, tm, v :: s2, G) ∧ KP r r2 ab as.length lb) (H : k (as, ls, th, tm, v :: s2, G) = some o) : LG L n ky ab lb m as.length ls.length h ((w : Int), a, d, r) r (w + (wRt w t).length) o k := by
  obtain ⟨a2, d2, r2, Q, X2, K2⟩ := B _ (X.low 15 ((w + 6 : Nat) : Int) (by omega)) (p_set_s _ _ _)
  exact Or.inl ⟨_, h, a2, d2, r2, H, ((q_rt ht hw c E).then E ht mt Q).hq, X2, (KP.low (as := as) (lb := lb) 15 _ (by omega) X.2.2.2.2.2.2.2.1).trans K2, I, p_fr.refl h, rfl, rfl, hs⟩
theorem h_line {l : vl} (hl : l.1 ≤ 10 ∨ l.1 = 17 ∨ l.1 = 18 ∨ l.1 = 19) (lk : lok l) (c : cd h w (lw lab fs w l)) (hw : w + (lw lab fs w l).length < 32768) (S : cmw h 6 shL) (E : h 17 14 ≠ 0) (I : IOR ky G h) (X : VX r ab lb (as, ls, th, tm, st, G)) (R : hrg ((w : Int), a, d, r)) (hm : lb + ls.length + m ≤ 31990) (hst : st.length ≤ m) (H : vins ky Γ m code F l rest (as, ls, th, tm, st, G) = some o) : LG L n ky ab lb m as.length ls.length h ((w : Int), a, d, r) r (w + (lw lab fs w l).length) o (F rest) := by
  obtain ⟨op, sg, k⟩ := l
  obtain ⟨lk1, lk2, lk3⟩ := lk
  dsimp only at hl lk1 lk2 lk3
  have x3 : r 1 = (lb : Int) ∧ r 2 = (ab : Int) := X.1.2
  have x10 : 17000 ≤ ab ∧ ab + as.length ≤ lb := ⟨X.2.2.2.2.2.2.2.1, X.2.2.2.2.2.2.2.2.1⟩
  have x12 : lb + ls.length + st.length ≤ 31990 := X.2.2.2.2.2.2.2.2.2
  have mk : ∀ (i : Nat) (wd : Int), (shL.drop i).take 1 = [wd] → h 16 (6 + i) = 0 := fun i wd e => (S.sub i [wd] e 0 _ rfl).2.2
  match op, hl with
  | 0, _ =>
    match sg with
    | 0 => exact g_push c (List.cons_ne_nil _ _) E I X hm (l_const k lk1) H
    | 1 =>
      obtain ⟨v, h1, h2⟩ := v_at_some H
      have h1 : as[k]? = some v := h1
      have hi := (List.getElem?_eq_some_iff.1 h1).1
      have A := l_seg (L := L) (n := n) (h := h) (a := a) (d := d) k 2 ab (by omega) (by decide) x3.2 (by omega)
      rw [X.2.1 k v h1] at A
      exact g_push c (List.cons_ne_nil _ _) E I X hm A h2
    | 2 =>
      obtain ⟨v, h1, h2⟩ := v_at_some H
      have h1 : ls[k]? = some v := h1
      have hi := (List.getElem?_eq_some_iff.1 h1).1
      have A := l_seg (L := L) (n := n) (h := h) (a := a) (d := d) k 1 lb (by omega) (by decide) x3.1 (by omega)
      rw [X.2.2.1 k v h1] at A
      exact g_push c (List.cons_ne_nil _ _) E I X hm A h2
    | 3 =>
      have hk := lk2 (Or.inl rfl) rfl
      have A := q_take (L := L) (n := n) (h := h) (a := a) (d := d) (r := r) (16 + k) (by omega)
      rw [X.2.2.2.2.2.2.1 (16 + k) (by omega) (by omega)] at A
      exact g_push c (List.cons_ne_nil _ _) E I X hm A H
    | 4 =>
      obtain ⟨v, h1, h2⟩ := v_o_some H
      have A := q_take (L := L) (n := n) (h := h) (a := a) (d := d) (r := r) 3 (by omega)
      rw [X.2.2.2.2.1 v h1] at A
      exact g_push c (List.cons_ne_nil _ _) E I X hm A h2
    | _ + 5 => cases H
  | 1, _ =>
    obtain ⟨v, s, rfl, H⟩ := v_p1_some H
    obtain ⟨e1, e2, X2, K2⟩ := X.pop
    have hs : s.length ≤ m := by rw [List.length_cons] at hst; omega
    have x12 : lb + ls.length + (s.length + 1) ≤ 31990 := x12
    match sg with
    | 0 => cases H
    | 1 =>
      obtain ⟨h1, h2⟩ := v_c_some H
      have hi : k < as.length := Nat.le_of_ble_eq_true h1
      have A := l_pops (L := L) (n := n) (h := h) (a := a) (d := d) k 2 ab (by omega) (Or.inr rfl) x3.2 (by omega) (by omega) X
      obtain ⟨-, -, X3, K3⟩ := (X.low 13 ((ab + k : Nat) : Int) (by omega)).pop
      exact LG.q c E A h2 (X3.arg hi v) (((KP.low (as := as) (lb := lb) 13 _ (by omega) x10.1).trans K3).trans (KP.val X3 (by omega) v)) I ⟨List.length_set, rfl, hs⟩
    | 2 =>
      obtain ⟨h1, h2⟩ := v_c_some H
      have hi : k < ls.length := Nat.le_of_ble_eq_true h1
      have A := l_pops (L := L) (n := n) (h := h) (a := a) (d := d) k 1 lb (by omega) (Or.inl rfl) x3.1 (by omega) (by omega) X
      obtain ⟨-, -, X3, K3⟩ := (X.low 13 ((lb + k : Nat) : Int) (by omega)).pop
      exact LG.q c E A h2 (X3.loc hi v) (((KP.low (as := as) (lb := lb) 13 _ (by omega) x10.1).trans K3).trans (KP.val X3 (by omega) v)) I ⟨rfl, List.length_set, hs⟩
    | 3 =>
      have hk := lk2 (Or.inr rfl) rfl
      have A := l_popk (L := L) (n := n) (h := h) (a := a) (d := d) (16 + k) (by omega) X
      obtain ⟨X3, K3⟩ := X2.mem (16 + k) (by omega) (by omega) v
      exact LG.q c E A H X3 (K2.trans K3) I ⟨rfl, rfl, hs⟩
    | 4 =>
      have A := l_popk (L := L) (n := n) (h := h) (a := a) (d := d) 3 (by omega) X
      exact LG.q c E A H (X2.this v) (K2.trans (KP.val X2 (by omega) v)) I ⟨rfl, rfl, hs⟩
    | 5 =>
      have A := l_popk (L := L) (n := n) (h := h) (a := a) (d := d) 5 (by omega) X
      exact LG.q c E A H (X2.temp v) (K2.trans (KP.val X2 (by omega) v)) I ⟨rfl, rfl, hs⟩
    | _ + 6 => cases H
  | 2, _ =>
    obtain ⟨x, y, s, rfl, H⟩ := v_p2_some H
    refine g_two (v := am_s16 (x + y)) c E I X hst (fun k r hk e => ?_) H
    have := q_MpD (L := L) (n := n) (h := h) (d := y) (r := r) hk
    rw [e, Int.add_comm] at this; exact this
  | 3, _ =>
    obtain ⟨x, y, s, rfl, H⟩ := v_p2_some H
    refine g_two (v := am_s16 (x - y)) c E I X hst (fun k r hk e => ?_) H
    have := q_MmD (L := L) (n := n) (h := h) (d := y) (r := r) hk
    rw [e] at this; exact this
  | 4, _ =>
    obtain ⟨x, s, rfl, H⟩ := v_p1_some H
    refine g_one (v := am_s16 (-x)) c E I X hst (fun k hk e => ?_) H
    have := q_Mneg (L := L) (n := n) (h := h) (d := d) (r := r) hk
    rw [e] at this; exact this
  | 5, _ =>
    obtain ⟨x, y, s, rfl, H⟩ := v_p2_some H
    refine g_two (v := am_and x y) c E I X hst (fun k r hk e => ?_) H
    have := q_MaD (L := L) (n := n) (h := h) (d := y) (r := r) hk
    rw [e, p_and_comm] at this; exact this
  | 6, _ =>
    obtain ⟨x, y, s, rfl, H⟩ := v_p2_some H
    refine g_two (v := am_or x y) c E I X hst (fun k r hk e => ?_) H
    have := q_MoD (L := L) (n := n) (h := h) (d := y) (r := r) hk
    rw [e, p_or_comm] at this; exact this
  | 7, _ =>
    obtain ⟨x, s, rfl, H⟩ := v_p1_some H
    refine g_one (v := -x - 1) c E I X hst (fun k hk e => ?_) H
    have := q_Mnot (L := L) (n := n) (h := h) (d := d) (r := r) hk
    rw [e] at this; exact this
  | 8, _ =>
    obtain ⟨x, y, s, rfl, H⟩ := v_p2_some H
    have ry := hrg_st R X
    have rx := hrg_st (r := p_set r 0 _) (w := w) (a := a) (d := d) ⟨R.1, R.2.1, fun j => by
      dsimp only; by_cases z : j = 0
      · rw [z, p_set_s]; exact ⟨by rw [List.length_cons] at x12; omega, by rw [List.length_cons] at x12; omega⟩
      · rw [p_set_n _ _ _ _ z]; exact R.2.2 j⟩ X.pop.2.2.1
    exact g_rt (by decide) (mk 97 _ rfl) hw c E I X (by rw [List.length_cons, List.length_cons] at hst; rw [List.length_cons]; omega) (fun r X h15 => r_eq S E X h15 hw rx ry) H
  | 9, _ =>
    obtain ⟨x, y, s, rfl, H⟩ := v_p2_some H
    have ry := hrg_st R X
    have rx := hrg_st (r := p_set r 0 _) (w := w) (a := a) (d := d) ⟨R.1, R.2.1, fun j => by
      dsimp only; by_cases z : j = 0
      · rw [z, p_set_s]; exact ⟨by rw [List.length_cons] at x12; omega, by rw [List.length_cons] at x12; omega⟩
      · rw [p_set_n _ _ _ _ z]; exact R.2.2 j⟩ X.pop.2.2.1
    exact g_rt (by decide) (mk 118 _ rfl) hw c E I X (by rw [List.length_cons, List.length_cons] at hst; rw [List.length_cons]; omega) (fun r X h15 => r_lt S E X h15 hw rx ry) H
  | 10, _ =>
    obtain ⟨x, y, s, rfl, H⟩ := v_p2_some H
    have ry := hrg_st R X
    have rx := hrg_st (r := p_set r 0 _) (w := w) (a := a) (d := d) ⟨R.1, R.2.1, fun j => by
      dsimp only; by_cases z : j = 0
      · rw [z, p_set_s]; exact ⟨by rw [List.length_cons] at x12; omega, by rw [List.length_cons] at x12; omega⟩
      · rw [p_set_n _ _ _ _ z]; exact R.2.2 j⟩ X.pop.2.2.1
    exact g_rt (by decide) (mk 106 _ rfl) hw c E I X (by rw [List.length_cons, List.length_cons] at hst; rw [List.length_cons]; omega) (fun r X h15 => r_gt S E X h15 hw rx ry) H
  | 17, _ =>
    obtain ⟨x, s, rfl, H2⟩ := v_p1_some H
    have rx := hrg_st R X
    have X2 := X.low 15 ((w + 6 : Nat) : Int) (by omega)
    have K2 := KP.low (r := r) (as := as) (lb := lb) 15 ((w + 6 : Nat) : Int) (by omega) x10.1
    match sg with
    | 0 =>
      have Q := q_rt (L := L) (n := n) (a := a) (d := d) (r := r) (by decide) hw c E
      obtain ⟨v, G', h', d3, r3, e1, B, X3, K3, I3, f⟩ := r_raw (L := L) (n := n) (a := ((183 : Nat) : Int)) (d := ((w + 6 : Nat) : Int)) S E I X2 (p_set_s _ _ _) hw H2
      exact Or.inl ⟨_, h', _, d3, r3, e1, Q.hq.then E ⟨by decide, mk 177 _ rfl⟩ B, X3, K2.trans K3, I3, f, rfl, rfl, hst⟩
    | _ + 1 =>
      have Q := q_rt (L := L) (n := n) (a := a) (d := d) (r := r) (by decide) hw c E
      rcases r_get (L := L) (n := n) (a := ((160 : Nat) : Int)) (d := ((w + 6 : Nat) : Int)) S E I X2 (p_set_s _ _ _) hw rx H2 with ⟨v, G', h', a3, d3, r3, e1, B, X3, K3, I3, f⟩ | ⟨e, v, G', hf, e1, B, e2⟩
      · exact Or.inl ⟨_, h', a3, d3, r3, e1, Q.hq.then E ⟨by decide, mk 154 _ rfl⟩ B, X3, K2.trans K3, I3, f, rfl, rfl, hst⟩
      · exact Or.inr ⟨e, v, G', hf, e1, Q.hq.fin E ⟨by decide, mk 154 _ rfl⟩ B, e2⟩
  | 18, _ =>
    obtain ⟨x, s, rfl, H2⟩ := v_p1_some H
    obtain ⟨v, rfl, H3⟩ := v_o_some H2
    have rx := hrg_st R X
    have X2 := X.low 15 ((w + 6 : Nat) : Int) (by omega)
    have K2 := KP.low (r := r) (as := as) (lb := lb) 15 ((w + 6 : Nat) : Int) (by omega) x10.1
    have hs : s.length ≤ m := by rw [List.length_cons] at hst; omega
    match sg with
    | 0 =>
      have Q := q_rt (L := L) (n := n) (a := a) (d := d) (r := r) (by decide) hw c E
      rcases r_wraw (L := L) (n := n) (a := ((216 : Nat) : Int)) (d := ((w + 6 : Nat) : Int)) S E I X2 (p_set_s _ _ _) hw rx H3 with ⟨G', h', a3, d3, r3, e1, B, X3, K3, I3, f⟩ | ⟨e, v, G', hf, e1, B, e2⟩
      · exact Or.inl ⟨_, h', a3, d3, r3, e1, Q.hq.then E ⟨by decide, mk 210 _ rfl⟩ B, X3, K2.trans K3, I3, f, rfl, rfl, hs⟩
      · exact Or.inr ⟨e, v, G', hf, e1, Q.hq.fin E ⟨by decide, mk 210 _ rfl⟩ B, e2⟩
    | _ + 1 =>
      have Q := q_rt (L := L) (n := n) (a := a) (d := d) (r := r) (by decide) hw c E
      rcases r_set (L := L) (n := n) (a := ((193 : Nat) : Int)) (d := ((w + 6 : Nat) : Int)) S E I X2 (p_set_s _ _ _) hw rx H3 with ⟨G', h', a3, d3, r3, e1, B, X3, K3, I3, f⟩ | ⟨e, v, G', hf, e1, B, e2⟩
      · exact Or.inl ⟨_, h', a3, d3, r3, e1, Q.hq.then E ⟨by decide, mk 187 _ rfl⟩ B, X3, K2.trans K3, I3, f, rfl, rfl, hs⟩
      · exact Or.inr ⟨e, v, G', hf, e1, Q.hq.fin E ⟨by decide, mk 187 _ rfl⟩ B, e2⟩
  | 19, _ =>
    obtain ⟨v, h1, H⟩ := v_o_some H
    have a3 : QS L n h [-3952] (((3 : Nat) : Int), (sg : Int), r) _ := q_DpM (by decide)
    rw [X.2.2.2.2.1 v h1, Int.add_comm] at a3
    exact g_push c (List.cons_ne_nil _ _) E I X hm ((q_at (sg : Int) (by omega) (by have := lk3 rfl; omega)).cons (q_DeA.cons ((q_at ((3 : Nat) : Int) (by omega) (by omega)).cons a3 (List.cons_ne_nil _ _)) (List.cons_ne_nil _ _)) (List.cons_ne_nil _ _)) H
  | 11, hl => omega
  | 12, hl => omega
  | 13, hl => omega
  | 14, hl => omega
  | 15, hl => omega
  | 16, hl => omega
  | _ + 20, hl => omega
end
