/-! HACK, 11: the system's subs as words -/
theorem vt_nl : ∀ (s : Nat) (q : Nat × Nat × List vl × Nat), vtab[s]? = some q → q.2.1 ≤ 7 ∧ q.1 ≤ 12 := by
  have : (vtab.all fun q => Nat.ble q.2.1 7 && Nat.ble q.1 12) = true := by decide +kernel
  intro s q hq
  have := List.all_eq_true.1 this q (List.mem_of_getElem? hq)
  rw [Bool.and_eq_true] at this
  exact ⟨Nat.le_of_ble_eq_true this.1, Nat.le_of_ble_eq_true this.2⟩
section
variable {L n : Nat} {ky : List Int} {lab fs : Nat → Nat} {Γ : vC} {dp : Nat} {code : List vl}
/-- a place from which lines run is not watched -/
theorem ly_mark {h : am_H} : ∀ (k : Nat) (rest : List vl) (x : vL) (o : vO) (w : Nat), vrun ky Γ 8 code k rest x = some o → LY h lab fs w rest → w < 32768 ∧ h 16 w = 0 := by
  intro k
  induction k with
  | zero => intro rest x o w H; cases H
  | succ k ih =>
    intro rest x o w H Y
    cases rest with
    | nil => cases H
    | cons l rest =>
      obtain ⟨h1, h2, h3, h4, h5⟩ := Y
      have H : vins ky Γ 8 code (vrun ky Γ 8 code k) l rest x = some o := H
      have nn : lw lab fs w l ≠ [] → w < 32768 ∧ h 16 w = 0 := by
        intro z
        obtain ⟨v, vt, e⟩ := List.exists_cons_of_ne_nil z
        have := h1 0 v (by rw [e]; rfl)
        exact this.2
      obtain ⟨op, sg, kk⟩ := l
      obtain ⟨as, ls, th, tm, st, G⟩ := x
      match op with
      | 0 => refine nn ?_; match sg with
        | 0 | 1 | 2 | 3 | _ + 4 => simp [lw, wTake]
      | 1 => refine nn ?_; match sg with
        | 0 | 1 | 2 | 3 | 4 | _ + 5 => simp [lw, wPop]
      | 2 | 3 | 4 | 5 | 6 | 7 | 8 | 9 | 10 | 12 | 13 | 15 | 16 | 19 => exact nn (by simp [lw, wPop, wRt])
      | 17 => refine nn ?_; match sg with
        | 0 | _ + 1 => simp [lw, wRt]
      | 18 => refine nn ?_; match sg with
        | 0 | _ + 1 => simp [lw, wRt]
      | 11 => exact ih rest _ o w H h5
      | 14 => cases H
      | _ + 20 => cases H
/-- the lines of a sub, with subs below that are known -/
theorem h_run (HΓ : SUB L n ky lab fs dp Γ) {ab lb t ret w0 : Nat} {s1 s2 s3 s4 : Int} (hlb : lb = t + 5) (hret : ret < 32768) : ∀ (k : Nat) (rest : List vl) (x : vL) (o : vO), vrun ky Γ 8 code k rest x = some o → ∀ (h : am_H) (w : Nat) (a d : Int) (r : Nat → Int), HI h lab fs → LY h lab fs w0 code → LY h lab fs w rest → IOR ky x.2.2.2.2.2 h → VX r ab lb x → hrg ((w : Int), a, d, r) → x.2.2.2.2.1.length ≤ 8 → lb + x.2.1.length + 18 + 20 * dp ≤ 31990 → ab + x.1.length = t → (r t = (ret : Int) ∧ r (t + 1) = s1 ∧ r (t + 2) = s2 ∧ r (t + 3) = s3 ∧ r (t + 4) = s4) → hRet L n ky h ((w : Int), a, d, r) r ab ret s1 s2 s3 s4 o := by
  intro k
  induction k with
  | zero => intro rest x o H; cases H
  | succ k ih =>
    intro rest x o H h w a d r hi Yc Y I X R hst hroom ht FR
    cases rest with
    | nil => cases H
    | cons l rest =>
      obtain ⟨y1, y2, y3, y4, y5⟩ := id Y
      have H : vins ky Γ 8 code (vrun ky Γ 8 code k) l rest x = some o := H
      obtain ⟨as, ls, th, tm, st, G⟩ := x
      dsimp only at hst hroom ht I
      have x10 : 17000 ≤ ab ∧ ab + as.length ≤ lb := ⟨X.2.2.2.2.2.2.2.1, X.2.2.2.2.2.2.2.2.1⟩
      -- one more line, then the rest
      have go : ∀ {y : vL} {h' : am_H} {a2 d2 : Int} {r2 : Nat → Int} {p : Nat} {rs : List vl}, vrun ky Γ 8 code k rs y = some o → LY h' lab fs p rs → HQ L n h ((w : Int), a, d, r) h' ((p : Int), a2, d2, r2) → VX r2 ab lb y → KP r r2 ab as.length lb → IOR ky y.2.2.2.2.2 h' → p_fr ioC ioF h h' → (y.1.length = as.length ∧ y.2.1.length = ls.length ∧ y.2.2.2.2.1.length ≤ 8) → hRet L n ky h ((w : Int), a, d, r) r ab ret s1 s2 s3 s4 o := by
        intro y h' a2 d2 r2 p rs hk Yr Q X2 K2 I2 f ⟨b1, b2, b3⟩
        have R2 := (Q R).1
        have mk := ly_mark k rs y o p hk Yr
        refine hRet.pre Q f (hi.fr f).2.1 mk (fun j j1 j2 => K2 j (Or.inl ⟨j1, j2⟩)) (ih rs y o hk h' p a2 d2 r2 (hi.fr f) (Yc.fr f) Yr I2 X2 R2 b3 (by rw [b2]; exact hroom) (by rw [b1]; exact ht) ?_)
        exact ⟨by rw [K2 _ (by omega)]; exact FR.1, by rw [K2 _ (by omega)]; exact FR.2.1, by rw [K2 _ (by omega)]; exact FR.2.2.1, by rw [K2 _ (by omega)]; exact FR.2.2.2.1, by rw [K2 _ (by omega)]; exact FR.2.2.2.2⟩
      by_cases hl : l.1 ≤ 10 ∨ l.1 = 17 ∨ l.1 = 18 ∨ l.1 = 19
      · rcases h_line hl y4 y1.cd y2 hi.1 hi.2.1 I X R (by omega) hst H with ⟨y, h', a2, d2, r2, hk, Q, X2, K2, I2, f, b⟩ | ⟨e, v, G', hf, e1, F, e2⟩
        · exact go hk (y5.fr f) Q X2 K2 I2 f b
        · exact Or.inr ⟨e, v, G', hf, e1, F, e2⟩
      · obtain ⟨op, sg, kk⟩ := l
        dsimp only at hl
        match op, hl with
        | 11, _ => exact ih rest _ o H h w a d r hi Yc y5 I X R hst hroom ht FR
        | 12, _ =>
          have Yt := LY_lab sg Yc
          have mk := ly_mark k _ _ o _ H Yt
          exact go H Yt (q_go0 mk.1 y1.cd hi.2.1).hq X (KP.refl _ _ _ _) I (p_fr.refl h) ⟨rfl, rfl, hst⟩
        | 13, _ =>
          obtain ⟨v, s, rfl, H2⟩ := v_p1_some H
          obtain ⟨e1, e2, X2, K2⟩ := X.pop
          have x12 : lb + ls.length + (s.length + 1) ≤ 31990 := X.2.2.2.2.2.2.2.2.2
          have hs : s.length ≤ 8 := by rw [List.length_cons] at hst; omega
          have A : QS L n h wPop (a, d, r) _ := q_pop e1 (by omega) (by omega)
          rw [e2] at A
          have lt : lab sg < 32768 := (hi.2.2.2 sg).1
          have J := q_jd (p := w) (t := lab sg) (jw := -7419) lt A (by simp [wPop]) y1.cd hi.2.1 (fun p' hp hw => c_jne hi.2.1 hp lt hw)
          have H2 : v_if v (vrun ky Γ 8 code k (vlab code sg) (as, ls, th, tm, s, G)) (vrun ky Γ 8 code k rest (as, ls, th, tm, s, G)) = some o := H2
          unfold v_if at H2
          by_cases z : v = 0
          · rw [if_pos z] at H2
            exact go H2 y5 (J.2 (fun q => q z)).hq X2 K2 I (p_fr.refl h) ⟨rfl, rfl, hs⟩
          · rw [if_neg z] at H2
            exact go H2 (LY_lab sg Yc) (J.1 z).hq X2 K2 I (p_fr.refl h) ⟨rfl, rfl, hs⟩
        | 15, _ =>
          obtain ⟨h1, H2⟩ := v_c_some H
          have hk : kk ≤ st.length := Nat.le_of_ble_eq_true h1
          obtain ⟨og, hg⟩ : ∃ og, Γ sg (st.take kk).reverse G = some og := by
            cases c : Γ sg (st.take kk).reverse G with
            | none => dsimp only at H2; rw [c] at H2; cases H2
            | some og => exact ⟨og, rfl⟩
          dsimp only at H2
          rw [hg] at H2
          have la : (st.take kk).reverse.length = kk := by rw [List.length_reverse, List.length_take]; omega
          have x12 : lb + ls.length + st.length ≤ 31990 := X.2.2.2.2.2.2.2.2.2
          have SKs : SK r (lb + ls.length) st := X.2.2.2.1
          have P := HΓ sg (st.take kk).reverse G og hg h r (lb + ls.length + (st.length - kk)) (w + 4) ((fs sg : Nat) : Int) hi I (by rw [la, X.1.1]; show ((lb + ls.length + st.length : Nat) : Int) = _; omega) (SKs.args hk) X.2.2.2.2.2.2.1 (by omega) (by rw [la]; omega) y2 ⟨⟨by dsimp only; omega, by
            have := (hi.2.2.2 sg).2
            dsimp only; omega⟩, ⟨by dsimp only; omega, by dsimp only; have : w + 4 < 32768 := y2; omega⟩, R.2.2⟩
          have Q : Hq L n h ((w : Int), a, d, r) _ := q_go P.1.1 (l_const (w + 4) (by have : w + 4 < 32768 := y2; omega)) (List.cons_ne_nil _ _) y1.cd hi.2.1
          rcases P.2 with ⟨v, G', h', a2, d2, r2, e1, Q2, ⟨z0, z1, z2, z3, z4, z5⟩, kp, me, I2, f⟩ | ⟨e, v, G', hf, e1, F, e2⟩
          · subst e1
            have H2 : v_ps 8 (st.drop kk) v (fun st => vrun ky Γ 8 code k rest (as, ls, th, none, st, G')) = some o := H2
            obtain ⟨h3, h4⟩ := v_ps_some H2
            refine go h4 (y5.fr f) (Q.hq.then hi.2.1 P.1 Q2) ?_ ?_ I2 f ⟨rfl, rfl, h3⟩
            · have dl : (st.drop kk).length = st.length - kk := List.length_drop
              refine ⟨⟨?_, by rw [z2]; exact X.1.2.1, by rw [z3]; exact X.1.2.2⟩, X.2.1.fr (fun j j1 j2 => kp j (by omega) (by have : j < ab + as.length := j2; omega)), X.2.2.1.fr (fun j j1 j2 => kp j (by omega) (by have : j < lb + ls.length := j2; omega)), ⟨?_, (SKs.drop kk).fr (fun j j1 j2 => kp j (by omega) (by rw [dl] at j2; omega))⟩, fun u hu => (by rw [z4]; exact X.2.2.2.2.1 u hu), fun u hu => (by cases hu), me, x10.1, x10.2, ?_⟩
              · rw [z0]; show _ = ((lb + ls.length + ((st.drop kk).length + 1) : Nat) : Int); rw [dl]; omega
              · rw [dl]; exact z1
              · show lb + ls.length + ((st.drop kk).length + 1) ≤ 31990; omega
            · intro j hj
              rcases hj with hj | hj | hj
              · exact kp j hj.1 (by omega)
              · exact kp j (by omega) (by omega)
              · rw [hj]; exact z5
          · subst e1
            cases H2
            exact Or.inr ⟨e, v, G', hf, rfl, Q.hq.fin hi.2.1 P.1 F, e2⟩
        | 16, _ =>
          obtain ⟨v, s, rfl, H2⟩ := v_p1_some H
          cases H2
          obtain ⟨a2, d2, r2, Q, e1, e2, e3⟩ := s_back (L := L) (n := n) (a := ((49 : Nat) : Int)) (d := d) hi.1 hi.2.1 X t hlb (by omega) FR.1 FR.2.1 FR.2.2.1 FR.2.2.2.1 FR.2.2.2.2 hret
          have Q0 := q_go0 (L := L) (n := n) (p := w) (t := 49) (a := a) (d := d) (r := r) (by decide) y1.cd hi.2.1
          exact Or.inl ⟨v, G, h, a2, d2, r2, rfl, (Q0.on hi.2.1 _ (hi.1.sub 43 [1] rfl 0 _ rfl) Q).hq, e1, e2, fun j j1 j2 => (e3 j j1 j2).trans (X.2.2.2.2.2.2.1 j j1 j2), I, p_fr.refl h⟩
        | 0, hl => omega
        | 1, hl => omega
        | 2, hl => omega
        | 3, hl => omega
        | 4, hl => omega
        | 5, hl => omega
        | 6, hl => omega
        | 7, hl => omega
        | 8, hl => omega
        | 9, hl => omega
        | 10, hl => omega
        | 14, _ => cases H
        | 17, hl => omega
        | 18, hl => omega
        | 19, hl => omega
        | _ + 20, _ => cases H
/-- every sub of the system -/
theorem h_sub : ∀ dp : Nat, SUB L n ky lab fs dp (vD ky dp) := by
  intro dp
  induction dp with
  | zero => intro s as G o H; cases H
  | succ dp ih =>
    intro s as G o H h r ab ret a hi I hs A M hb hroom hret R
    obtain ⟨q, hq⟩ : ∃ q, vtab[s]? = some q := by
      cases c : vtab[s]? with
      | some q => exact ⟨q, rfl⟩
      | none =>
        have H : (match vtab[s]? with
          | some q => cond (Nat.beq as.length q.1) (vE ky (vD ky dp) 8 q.2.2.1 q.2.2.1 (as, List.replicate q.2.1 0, none, none, [], G)) none
          | none => none) = some o := H
        rw [c] at H; cases H
    have H : (match vtab[s]? with
      | some q => cond (Nat.beq as.length q.1) (vE ky (vD ky dp) 8 q.2.2.1 q.2.2.1 (as, List.replicate q.2.1 0, none, none, [], G)) none
      | none => none) = some o := H
    rw [hq] at H
    obtain ⟨h1, h2⟩ := v_c_some H
    have la : as.length = q.1 := Nat.eq_of_beq_eq_true h1
    obtain ⟨b1, b2⟩ := vt_nl s q hq
    obtain ⟨k, hk⟩ := vE_some.1 h2
    obtain ⟨c1, c2, c3⟩ := hi.2.2.1 s q hq
    have m := c1 0 _ rfl
    rw [Nat.add_zero] at m
    rw [← la] at c1
    refine ⟨m.2, ?_⟩
    obtain ⟨a2, d2, r2, Q, X2, FR, kp⟩ := h_fun (L := L) (n := n) (a := a) (ret := ret) hi.1 hi.2.1 c1.cd c2 hs A M hb (by omega) (by omega) hret (by omega)
    have mk := ly_mark k _ _ o _ hk c3
    refine hRet.pre Q.hq (p_fr.refl h) hi.2.1 mk kp (h_run (w0 := fs s + 12 + 5 * q.2.1) (t := ab + as.length) ih rfl hret k _ _ o hk h _ a2 d2 r2 hi c3 c3 I X2 (Q R).1 (Nat.zero_le _) ?_ rfl FR)
    dsimp only; rw [List.length_replicate]; omega
end
