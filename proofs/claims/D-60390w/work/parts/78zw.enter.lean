/-! RUN, 18: a sub of the text is called; the last return -/
section
variable {L n : Nat} {ky : List Int} {lab fs gv : Nat → Nat} {wd : Nat} {h : am_H} {r : Nat → Int} {wp : Nat → Nat} {w0 ab s rk : Nat} {as ls : List Int} {th tm : Option Int} {st : List Int} {G : vG} {a d : Int} {rs : List uF} {q : Nat × Nat} {o : Option am_O}
/-- the heap behind the watch of a call -/
def hN (h : am_H) (dp : Nat) : am_H := am_up (am_up (am_up (am_up h 17 8 (h 17 8 + 1)) 21 (dp + 1) (h 21 dp)) 17 10 ((dp : Int) + 1)) 17 11 (if (dp : Int) + 1 ≤ h 17 11 then h 17 11 else (dp : Int) + 1)
def hE (h : am_H) (dp : Nat) : am_H := if h 17 8 = h 17 9 then hS 1 h else if dp = 40 then hS 2 (am_up h 17 8 (h 17 8 + 1)) else hN h dp
theorem hN_c {dp c : Nat} (h1 : c ≠ 17) (h2 : c ≠ 21) : hN h dp c = h c := by
  unfold hN; rw [p_up_c _ _ _ _ _ h1, p_up_c _ _ _ _ _ h1, p_up_c _ _ _ _ _ h2, p_up_c _ _ _ _ _ h1]
theorem hN_f {dp k : Nat} (h1 : k ≠ 8) (h2 : k ≠ 10) (h3 : k ≠ 11) : hN h dp 17 k = h 17 k := by
  unfold hN; rw [p_up_n _ _ _ _ _ _ (Or.inr h3), p_up_n _ _ _ _ _ _ (Or.inr h2), p_up_c _ _ _ _ _ (by decide), p_up_n _ _ _ _ _ _ (Or.inr h1)]
/-- the words of a call -/
theorem c_call {u m dp : Nat} (H : lat h lab fs gv wd q (15, u, m)) (hw : q.1 + 4 < 32768) (hi : HI h lab fs) (hu : h 16 (fs u) = 1) (R : hrg ((q.1 : Int), a, d, r)) (h10 : h 17 10 = (dp : Int)) (hd : dp ≤ 40) (h8 : 0 ≤ h 17 8 ∧ h 17 8 ≤ 5000) : ∀ o, H4 L n (hE h dp) ((fs u : Int), (fs u : Int), ((q.1 + 4 : Nat) : Int), r) o → CL L n h q.2 ((q.1 : Int), a, d, r) o := by
  obtain ⟨c, hm⟩ : cd h q.1 ([((q.1 + 4 : Nat) : Int), -5104] ++ [(fs u : Int), -5497]) ∧ h 16 q.1 = (if q.2 ≠ 0 then (q.2 : Int) else if (15 : Nat) = 16 ∧ wd = 1 then 2 else 0) := H
  have hm : h 16 q.1 = (q.2 : Int) := by
    rw [hm]
    by_cases z : q.2 = 0
    · rw [if_neg (by omega), if_neg (by omega), z]; rfl
    · rw [if_pos z]
  have Q := q_go (L := L) (n := n) (p := q.1) (hi.2.2.2 u).2 (l_const (L := L) (n := n) (h := h) (a := a) (d := d) (r := r) (q.1 + 4) (by omega)) (List.cons_ne_nil _ _) c hi.2.1
  obtain ⟨R2, go⟩ := Q R
  intro o Ho
  exact c_up hi.2.1 c.hd.2 hm (go o (w_go hi.2.1 (hi.2.2.2 u).2 hu (by decide) (w_enter h10 hd ⟨h8.2, h8.1⟩) Ho))
/-- the sub's own words -/
theorem c_fun {h1 : am_H} {u m nl k : Nat} (e13 : h1 13 = h 13) (e16 : h1 16 = h 16) (e14 : h1 17 14 = h 17 14) (hi : HI h lab fs) (F : lat h lab fs gv 1 (fs u, 0) (14, u, nl)) (hw2 : fs u + 12 + 5 * nl < 32768) (hg : gv u = m) (C : CU r wp w0 ab (s, as, ls, th, st, rk) rs G) (hm : m ≤ st.length) (hm13 : m ≤ 13) (hnl : nl ≤ 12) (hs : st.length ≤ 352) (hd : rs.length < 39) (hk : wp k = q.1 + 4) (hw : q.1 + 4 < 32768) (R : hrg ((fs u : Int), (fs u : Int), ((q.1 + 4 : Nat) : Int), r)) (u2 : Nat) : ∃ a2 d2 r2 ab2, (hrg (((fs u + 12 + 5 * nl : Nat) : Int), a2, d2, r2) ∧ ∀ o, H3 L n h1 (((fs u + 12 + 5 * nl : Nat) : Int), a2, d2, r2) o → H4 L n h1 ((fs u : Int), (fs u : Int), ((q.1 + 4 : Nat) : Int), r) o) ∧ CU r2 wp w0 ab2 (u2, (st.take m).reverse, List.replicate nl 0, none, [], k) ((s, as, ls, th, st.drop m, rk) :: rs) G := by
  obtain ⟨X, Ch, b1, b2⟩ := C
  have tp := Ch.top
  dsimp only [uSt] at X Ch b1 b2 tp
  have c : cd h (fs u) (wFn (fs u) (gv u) ++ wLoc nl) := F.1
  have c' := c.eq e13 e16
  have hi' := hi.eq e13 e16 e14
  have la : (st.take m).reverse.length = m := by rw [List.length_reverse, List.length_take]; omega
  rw [hg, ← la] at c'
  have SKs : SK r (ab + as.length + 5 + ls.length) st := X.2.2.2.1
  have x10 : 17000 ≤ ab := X.2.2.2.2.2.2.2.1
  obtain ⟨a2, d2, r2, Q, X2, ⟨z0, z1, z2, z3, z4⟩, kp⟩ := h_fun (L := L) (n := n) (a := (fs u : Int)) (ret := q.1 + 4) (ab := ab + as.length + 5 + ls.length + (st.length - m)) (r := r) (G := G) hi'.1 hi'.2.1 c' hw2 (by rw [la, X.1.1]; show ((ab + as.length + 5 + ls.length + st.length : Nat) : Int) = _; omega) (SKs.args hm) X.2.2.2.2.2.2.1 (by omega) hnl (by rw [la]; omega) hw (by rw [la]; omega)
  obtain ⟨R2, go⟩ := Q R
  refine ⟨a2, d2, r2, ab + as.length + 5 + ls.length + (st.length - m), ⟨R2, go⟩, X2, ?_, by dsimp only; rw [la]; exact hm13, by dsimp only; rw [List.length_replicate]; exact hnl⟩
  have dl : (st.drop m).length = st.length - m := List.length_drop
  dsimp only
  refine ⟨by rw [z0, hk], by rw [la]; omega, ab, ⟨by rw [z1]; exact X.1.2.1, by rw [z2]; exact X.1.2.2, fun v hv => by rw [z3]; exact X.2.2.2.2.1 v hv⟩, ⟨X.2.1.fr (fun j j1 j2 => kp j (by omega) (by have : j < ab + as.length := j2; omega)), X.2.2.1.fr (fun j j1 j2 => kp j (by omega) (by have : j < ab + as.length + 5 + ls.length := j2; omega)), (SKs.drop m).fr (fun j j1 j2 => kp j (by omega) (by rw [dl] at j2; omega))⟩, ⟨by show _ = ab + as.length + 5 + ls.length + (st.drop m).length; rw [dl], x10⟩, Ch.fr (fun j j1 j2 => kp j j1 (by omega)) x10⟩
/-- the last return: behind it stand the words with which the run began -/
theorem c_ret0 {v : Int} {dp : Nat} (H : lat h lab fs gv 1 q (16, 0, 0)) (hq : q.2 = 0) (hi : HI h lab fs) (C : CU r wp w0 ab (s, as, ls, th, v :: st, rk) [] G) (hw0 : w0 < 32768) (R : hrg ((q.1 : Int), a, d, r)) (h10 : h 17 10 = (dp : Int)) (hd : dp ≤ 41) : ∃ a2 d2 r2, (hrg ((w0 : Int), a2, d2, r2) ∧ ∀ o, H3 L n (am_up h 17 10 ((dp : Int) - 1)) ((w0 : Int), a2, d2, r2) o → CL L n h q.2 ((q.1 : Int), a, d, r) o) ∧ r2 0 = ((ab + 1 : Nat) : Int) ∧ (∀ k, 16 ≤ k → k < 17000 → r2 k = G.1 k) ∧ 17000 ≤ ab ∧ ab ≤ 17000 := by
  obtain ⟨c, hm⟩ : cd h q.1 [((49 : Nat) : Int), -5497] ∧ h 16 q.1 = (if q.2 ≠ 0 then (q.2 : Int) else if (16 : Nat) = 16 ∧ 1 = 1 then 2 else 0) := H
  rw [if_neg (by omega), if_pos ⟨rfl, rfl⟩] at hm
  obtain ⟨X, Ch, b1, b2⟩ := C
  dsimp only [uSt] at X Ch b1 b2
  obtain ⟨k1, k2⟩ := Ch
  have h' : HI (am_up h 17 10 ((dp : Int) - 1)) lab fs := hi.eq (p_up_c _ _ _ _ _ (by decide)) (p_up_c _ _ _ _ _ (by decide)) (p_up_n _ _ _ _ _ _ (Or.inr (by decide)))
  have c' := c.eq (h' := am_up h 17 10 ((dp : Int) - 1)) (p_up_c _ _ _ _ _ (by decide)) (p_up_c _ _ _ _ _ (by decide))
  obtain ⟨a2, d2, r2, Q, ⟨z0, z1, z2, z3, z4, z5⟩, kp, me⟩ := s_back (L := L) (n := n) (a := ((49 : Nat) : Int)) (d := d) h'.1 h'.2.1 X (ab + as.length) rfl (by omega) k1 rfl rfl rfl rfl hw0
  have Q0 := q_go0 (L := L) (n := n) (p := q.1) (t := 49) (a := a) (d := d) (r := r) (by decide) c' h'.2.1
  obtain ⟨R2, go⟩ := (Q0.on h'.2.1 _ (h'.1.sub 43 [1] rfl 0 _ rfl) Q) R
  refine ⟨a2, d2, r2, ⟨R2, fun o Ho => ?_⟩, z0, fun j j1 j2 => (me j j1 j2).trans (X.2.2.2.2.2.2.1 j j1 j2), X.2.2.2.2.2.2.2.1, by omega⟩
  unfold CL; rw [if_pos hq]
  exact w_go hi.2.1 c.hd.2 hm (by decide) (w_ret h10 hd) (go o Ho)
end
