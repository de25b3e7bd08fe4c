/-! RUN, 17: jumps, statements, calls and returns as words -/
/-- what the run changes outside the processor's memory -/
def ucC : List Nat := [20, 21]
def ucF : List (Nat × Nat) := [(17, 6), (17, 7), (17, 8), (17, 10), (17, 11)]
section
variable {h h' : am_H} {lab fs gv : Nat → Nat} {wd : Nat}
theorem cmw.eq {p : Nat} {ws : List Int} (c : cmw h p ws) (e1 : h' 13 = h 13) (e2 : h' 16 = h 16) : cmw h' p ws := fun j w hj => by rw [e1, e2]; exact c j w hj
theorem cd.eq {p : Nat} {ws : List Int} (c : cd h p ws) (e1 : h' 13 = h 13) (e2 : h' 16 = h 16) : cd h' p ws := fun j w hj => by rw [e1, e2]; exact c j w hj
theorem LY.eq (e1 : h' 13 = h 13) (e2 : h' 16 = h 16) : ∀ {w : Nat} {code : List vl}, LY h lab fs w code → LY h' lab fs w code
  | _, [], _ => trivial
  | _, _ :: _, ⟨h1, h2, h3, h4, h5⟩ => ⟨h1.eq e1 e2, h2, h3, h4, h5.eq e1 e2⟩
theorem HI.eq (H : HI h lab fs) (e1 : h' 13 = h 13) (e2 : h' 16 = h 16) (e3 : h' 17 14 = h 17 14) : HI h' lab fs := ⟨H.1.eq e1 e2, by rw [e3]; exact H.2.1, fun s q hq => by
  obtain ⟨h1, h2, h3⟩ := H.2.2.1 s q hq
  exact ⟨h1.eq e1 e2, h2, h3.eq e1 e2⟩, H.2.2.2⟩
theorem LU.eq (e1 : h' 13 = h 13) (e2 : h' 16 = h 16) : ∀ {code : List vl} {q : Nat × Nat}, LU h lab fs gv wd q code → LU h' lab fs gv wd q code
  | [], _, _ => trivial
  | l :: r, q, ⟨h1, h2, h3, h4⟩ => by
    refine ⟨?_, h2, h3, LU.eq e1 e2 h4⟩
    unfold lat at h1 ⊢
    rw [e1, e2]
    split at h1
    · exact h1
    · exact h1
    · exact ⟨h1.1.eq e1 e2, h1.2⟩
    · exact ⟨h1.1.eq e1 e2, h1.2⟩
theorem IOR.eq {ky : List Int} {G : vG} (I : IOR ky G h) (e1 : ∀ k, k = 5 ∨ k = 6 ∨ k = 7 → h' 17 k = h 17 k) (e2 : h' 19 = h 19) (e3 : h' 20 = h 20) : IOR ky G h' := by
  unfold IOR kyC
  rw [e1 5 (by omega), e1 6 (by omega), e1 7 (by omega), e2, e3]; exact I
end
section
variable {L n : Nat} {ky : List Int} {lab fs gv : Nat → Nat} {wd : Nat} {h : am_H} {r : Nat → Int} {wp : Nat → Nat} {w0 ab s rk : Nat} {as ls : List Int} {th tm : Option Int} {st : List Int} {G : vG} {a d : Int} {rs : List uF} {q : Nat × Nat} {o : Option am_O}
/-- a word of its own, ahead of a label or another statement -/
theorem c_own (hi : h 17 14 ≠ 0) (hq : q.2 ≠ 0) (h0 : h 13 q.1 = 0) (hw : q.1 < 32768) (H : H3 L n h (((q.1 + 1 : Nat) : Int), 0, d, r) o) (R : hrg ((q.1 : Int), a, d, r)) : CL L n h q.2 ((q.1 : Int), a, d, r) o ∧ hrg (((q.1 + 1 : Nat) : Int), (0 : Int), d, r) := by
  have Q := hAw (L := L) (n := n) (a := a) (d := d) (r := r) hi hw h0 (by decide) (by decide)
  obtain ⟨R2, go⟩ := Q R
  rw [show (q.1 : Int) + 1 = ((q.1 + 1 : Nat) : Int) by omega] at R2 go
  refine ⟨?_, R2⟩
  unfold CL; rw [if_neg hq]; exact go o H
/-- a label -/
theorem c_label {x : Nat} (H : lat h lab fs gv wd q (11, x, 0)) (E : h 17 14 ≠ 0) (R : hrg ((q.1 : Int), a, d, r)) : ∃ a2, hrg (((lstp q (11, x, 0)).1 : Int), a2, d, r) ∧ ∀ o, H3 L n h (((lstp q (11, x, 0)).1 : Int), a2, d, r) o → CL L n h q.2 ((q.1 : Int), a, d, r) o := by
  by_cases z : q.2 = 0
  · have e : (lstp q (11, x, 0)).1 = q.1 := if_pos z
    rw [e]
    exact ⟨a, R, fun o Ho => by unfold CL; rw [if_pos z]; exact Ho⟩
  · have e : (lstp q (11, x, 0)).1 = q.1 + 1 := if_neg z
    have H1 := H.1 z
    rw [e]
    refine ⟨0, ?_, fun o Ho => (c_own E z H1.1 H1.2.2 Ho R).1⟩
    exact ⟨(show rg16 (0 : Int) from ⟨by decide, by decide⟩), R.2.1, R.2.2⟩
/-- a statement's place is watched -/
theorem c_step {p dp : Nat} (H : lat h lab fs gv wd q (20, p, 0)) (E : h 17 14 ≠ 0) (R : hrg ((q.1 : Int), a, d, r)) (hm : h 16 (lstp q (20, p, 0)).1 = ((p + 3 : Nat) : Int)) (hw : (lstp q (20, p, 0)).1 < 32768) (h10 : h 17 10 = (dp : Int)) (hd : dp < 42) (h8 : 0 ≤ h 17 8 ∧ h 17 8 ≤ 5000) (hp : p ≤ 32000) : ∃ a2, hrg (((lstp q (20, p, 0)).1 : Int), a2, d, r) ∧ ∀ o, H4 L n (if h 17 8 = h 17 9 then hS 1 (am_up h 21 dp (p : Int)) else am_up (am_up h 21 dp (p : Int)) 17 8 (h 17 8 + 1)) (((lstp q (20, p, 0)).1 : Int), a2, d, r) o → CL L n h q.2 ((q.1 : Int), a, d, r) o := by
  have hm' : h 16 (lstp q (20, p, 0)).1 = (p : Int) + 3 := by rw [hm]; omega
  have wg := fun (a : Int) (o : Option am_O) => w_go (L := L) (n := n) (a := a) (d := d) (o := o) E hw hm' (by omega) (w_place (L := L) (n := n) (r := r) h10 hd ⟨h8.2, h8.1⟩ hp)
  by_cases z : q.2 = 0
  · have e : (lstp q (20, p, 0)).1 = q.1 := if_pos z
    rw [e] at wg ⊢
    exact ⟨a, R, fun o Ho => by unfold CL; rw [if_pos z]; exact wg a o Ho⟩
  · have e : (lstp q (20, p, 0)).1 = q.1 + 1 := if_neg z
    have H1 := H z
    rw [e] at wg ⊢
    refine ⟨0, ?_, fun o Ho => (c_own E z H1.1 H1.2.2 (wg 0 o Ho) R).1⟩
    exact ⟨(show rg16 (0 : Int) from ⟨by decide, by decide⟩), R.2.1, R.2.2⟩
/-- words at hand, whatever is watched there has been looked at -/
theorem c_up (E : h 17 14 ≠ 0) (hw : q.1 < 32768) (hm : h 16 q.1 = (q.2 : Int)) (H : H4 L n h ((q.1 : Int), a, d, r) o) : CL L n h q.2 ((q.1 : Int), a, d, r) o := by
  unfold CL
  by_cases z : q.2 = 0
  · rw [if_pos z]; exact h34 E hw (by rw [hm, z]; rfl) H
  · rw [if_neg z]; exact H
/-- a jump -/
theorem c_goto {y : Nat} (H : lat h lab fs gv wd q (12, y, 0)) (hi : HI h lab fs) (R : hrg ((q.1 : Int), a, d, r)) : ∃ a2, hrg ((lab y : Int), a2, d, r) ∧ ∀ o, H3 L n h ((lab y : Int), a2, d, r) o → CL L n h q.2 ((q.1 : Int), a, d, r) o := by
  obtain ⟨c, hm⟩ : cd h q.1 [(lab y : Int), -5497] ∧ h 16 q.1 = (if q.2 ≠ 0 then (q.2 : Int) else if (12 : Nat) = 16 ∧ wd = 1 then 2 else 0) := H
  have hm : h 16 q.1 = (q.2 : Int) := by
    rw [hm]
    by_cases z : q.2 = 0
    · rw [if_neg (by omega), if_neg (by omega), z]; rfl
    · rw [if_pos z]
  have Q := q_go0 (L := L) (n := n) (p := q.1) (a := a) (d := d) (r := r) (hi.2.2.2 y).1 c hi.2.1
  obtain ⟨R2, go⟩ := Q R
  exact ⟨_, R2, fun o Ho => c_up hi.2.1 c.hd.2 hm (go o Ho)⟩
/-- a jump where the value on top is 0 -/
theorem c_false {x y : Nat} {v : Int} (H : LU h lab fs gv wd q [(13, x, 0), (12, y, 0), (11, x, 0)]) (hi : HI h lab fs) (C : CU r wp w0 ab (s, as, ls, th, v :: st, rk) rs G) (R : hrg ((q.1 : Int), a, d, r)) : ∃ a2 d2 r2, (hrg (((if v = 0 then lab y else (lfold q [(13, x, 0), (12, y, 0), (11, x, 0)]).1 : Nat) : Int), a2, d2, r2) ∧ ∀ o, H3 L n h (((if v = 0 then lab y else (lfold q [(13, x, 0), (12, y, 0), (11, x, 0)]).1 : Nat) : Int), a2, d2, r2) o → CL L n h q.2 ((q.1 : Int), a, d, r) o) ∧ CU r2 wp w0 ab (s, as, ls, th, st, rk) rs G := by
  obtain ⟨⟨c, hm⟩, -, -, ⟨c2, hm2⟩, -, -, ⟨-, hl⟩, -, -, -⟩ := H
  have hm : h 16 q.1 = (q.2 : Int) := by
    rw [hm]
    by_cases z : q.2 = 0
    · rw [if_neg (by omega), if_neg (by omega), z]; rfl
    · rw [if_pos z]
  have c : cd h q.1 (wPop ++ [(lab x : Int), -7419]) := c
  obtain ⟨X, Ch, b1, b2⟩ := C
  dsimp only [uSt] at X Ch b1 b2
  obtain ⟨e1, e2, X2, K2⟩ := X.pop
  have x12 : ab + as.length + 5 + ls.length + (st.length + 1) ≤ 31990 := X.2.2.2.2.2.2.2.2.2
  have A : QS L n h wPop (a, d, r) _ := q_pop e1 (by omega) (by omega)
  rw [e2] at A
  have lt := (hi.2.2.2 x).1
  have J := q_jd (p := q.1) (t := lab x) (jw := -7419) lt A (by simp [wPop]) c hi.2.1 (fun p' hp hw => c_jne hi.2.1 hp lt hw)
  have CU2 : CU (p_set r 0 ((ab + as.length + 5 + ls.length + st.length : Nat) : Int)) wp w0 ab (s, as, ls, th, st, rk) rs G := ⟨X2, Ch.fr (fun j j1 j2 => K2 j (by omega)) X.2.2.2.2.2.2.2.1, b1, b2⟩
  have c2 : cd h (q.1 + 5) [(lab y : Int), -5497] := c2
  have hm2 : h 16 (q.1 + 5) = 0 := hm2
  have e13 : (lfold q [(13, x, 0), (12, y, 0), (11, x, 0)]).1 = lab x := hl.symm
  by_cases z : v = 0
  · have Q := (J.2 (fun t => t z)).on hi.2.1 (lab y : Int) ⟨c2.hd.1, c2.hd.2, hm2⟩ (q_go0 (hi.2.2.2 y).1 c2 hi.2.1)
    obtain ⟨R2, go⟩ := Q R
    refine ⟨(lab y : Int), v, _, ?_, CU2⟩
    rw [if_pos z]
    exact ⟨R2, fun o Ho => c_up hi.2.1 c.hd.2 hm (go o Ho)⟩
  · obtain ⟨R2, go⟩ := J.1 z R
    refine ⟨(lab x : Int), v, _, ?_, CU2⟩
    rw [if_neg z, e13]
    exact ⟨R2, fun o Ho => c_up hi.2.1 c.hd.2 hm (go o Ho)⟩
/-- a sub of the text comes back -/
theorem c_ret {v : Int} {dp : Nat} {f : uF} (H : lat h lab fs gv 1 q (16, 0, 0)) (hq : q.2 = 0) (hi : HI h lab fs) (C : CU r wp w0 ab (s, as, ls, th, v :: st, rk) (f :: rs) G) (hwp : wp rk < 32768) (R : hrg ((q.1 : Int), a, d, r)) (h10 : h 17 10 = (dp : Int)) (hd : dp ≤ 41) (bf : f.2.1.length ≤ 13 ∧ f.2.2.1.length ≤ 12) : ∃ a2 d2 r2 ab2, (hrg ((wp rk : Int), a2, d2, r2) ∧ ∀ o, H3 L n (am_up h 17 10 ((dp : Int) - 1)) ((wp rk : Int), a2, d2, r2) o → CL L n h q.2 ((q.1 : Int), a, d, r) o) ∧ CU r2 wp w0 ab2 (f.1, f.2.1, f.2.2.1, f.2.2.2.1, v :: uSt f, f.2.2.2.2.2) rs G := by
  obtain ⟨c, hm⟩ : cd h q.1 [((49 : Nat) : Int), -5497] ∧ h 16 q.1 = (if q.2 ≠ 0 then (q.2 : Int) else if (16 : Nat) = 16 ∧ 1 = 1 then 2 else 0) := H
  rw [if_neg (by omega), if_pos ⟨rfl, rfl⟩] at hm
  obtain ⟨X, Ch, b1, b2⟩ := C
  dsimp only [uSt] at X Ch b1 b2
  obtain ⟨k1, k2, ab2, ⟨k3, k4, k5⟩, ⟨k6, k7, k8⟩, ⟨k9, k10⟩, k11⟩ := Ch
  have h' : HI (am_up h 17 10 ((dp : Int) - 1)) lab fs := hi.eq (p_up_c _ _ _ _ _ (by decide)) (p_up_c _ _ _ _ _ (by decide)) (p_up_n _ _ _ _ _ _ (Or.inr (by decide)))
  have c' := c.eq (h' := am_up h 17 10 ((dp : Int) - 1)) (p_up_c _ _ _ _ _ (by decide)) (p_up_c _ _ _ _ _ (by decide))
  obtain ⟨a2, d2, r2, Q, ⟨z0, z1, z2, z3, z4, z5⟩, kp, me⟩ := s_back (L := L) (n := n) (a := ((49 : Nat) : Int)) (d := d) h'.1 h'.2.1 X (ab + as.length) rfl (by omega) k1 k3 k4 rfl rfl hwp
  have Q0 := q_go0 (L := L) (n := n) (p := q.1) (t := 49) (a := a) (d := d) (r := r) (by decide) c' h'.2.1
  obtain ⟨R2, go⟩ := (Q0.on h'.2.1 _ (h'.1.sub 43 [1] rfl 0 _ rfl) Q) R
  refine ⟨a2, d2, r2, ab2, ⟨R2, fun o Ho => ?_⟩, ⟨⟨⟨?_, z2, z3⟩, k6.fr (fun j j1 j2 => kp j (by omega) (by omega)), k7.fr (fun j j1 j2 => kp j (by omega) (by omega)), ⟨?_, k8.fr (fun j j1 j2 => kp j (by omega) (by omega))⟩, fun u hu => ?_, fun u hu => (by cases hu), fun j j1 j2 => (me j j1 j2).trans (X.2.2.2.2.2.2.1 j j1 j2), k10, ?_, ?_⟩, k11.fr (fun j j1 j2 => kp j j1 (by omega)) k10, bf.1, bf.2⟩⟩
  · unfold CL; rw [if_pos hq]
    exact w_go hi.2.1 c.hd.2 hm (by decide) (w_ret h10 hd) (go o Ho)
  · rw [z0, k9]; try rfl
  · rw [← z1, k9]; try rfl
  · rw [z4]; exact k5 u hu
  · show ab2 + f.2.1.length ≤ ab2 + f.2.1.length + 5; omega
  · have x12 : ab + as.length + 5 + ls.length + (st.length + 1) ≤ 31990 := X.2.2.2.2.2.2.2.2.2
    show ab2 + f.2.1.length + 5 + f.2.2.1.length + ((uSt f).length + 1) ≤ 31990; omega
end
