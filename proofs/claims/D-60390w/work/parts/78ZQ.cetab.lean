/-! PURE LAYER, 96: the tables after the component's first reading are the model's -/
section
variable {K V P : Nat → Int} {w sy : Bool}
def q5 (s : ce_S) : Int × Int × Int × Int × Int := (s.2.1, s.2.2.1, s.2.2.2.1, s.2.2.2.2.1, s.2.2.2.2.2.1)
theorem ce_ev2_q (e : gx_V) (s s1 : ce_S) (he : e.1 ≤ 34) (h : ce w sy K V P e s = .inr s1) : q5 s1 = q5 s := by
  by_cases h12 : e.1 ≤ 12
  · unfold q5; rw [(ce_ev_sm e s s1 h12 h).2]
  obtain ⟨g, t, a, b, c, e5, l⟩ := s
  obtain ⟨n, x, y, z⟩ := e
  have he : n ≤ 34 := he
  have h12 : ¬ n ≤ 12 := h12
  revert h
  show ce w sy K V P (n, x, y, z) (g, t, a, b, c, e5, l) = .inr s1 → q5 s1 = (t, a, b, c, e5)
  have wk : ∀ {r : gx_R am_H}, gx_P (ce_h (g, t, a, b, c, e5, l) r) (fun s => q5 s = (t, a, b, c, e5)) := gx_P_b fun _ _ => gx_P_i rfl
  have cs : n = 13 ∨ n = 14 ∨ n = 15 ∨ n = 16 ∨ n = 17 ∨ n = 18 ∨ n = 19 ∨ n = 20 ∨ n = 21 ∨ n = 22 ∨ n = 23 ∨ n = 24 ∨ n = 25 ∨ n = 26 ∨ n = 27 ∨ n = 28 ∨ n = 29 ∨ n = 30 ∨ n = 31 ∨ n = 32 ∨ n = 33 ∨ n = 34 := by omega
  rcases cs with rfl | rfl | rfl | rfl | rfl | rfl | rfl | rfl | rfl | rfl | rfl | rfl | rfl | rfl | rfl | rfl | rfl | rfl | rfl | rfl | rfl | rfl
  · intro h; cases h
  · intro h; cases h
  · intro h; cases h
  · intro h; cases h
  · intro h; cases h
  · intro h; cases h
  · intro h; cases h
  · exact wk s1
  · exact wk s1
  · exact wk s1
  · exact wk s1
  · exact (show gx_P (gx_b (ce_told g) _) (fun s : ce_S => q5 s = (t, a, b, c, e5)) from gx_P_b fun _ _ => gx_P_i rfl) s1
  · cases l with
    | nil => intro h; cases h
    | cons q l => exact (show gx_P (gx_b (ce_unless w sy q.1 g) _) (fun s : ce_S => q5 s = (t, a, b, c, e5)) from gx_P_b fun _ _ => gx_P_b fun _ _ => gx_P_b fun _ _ => gx_P_b fun _ _ => gx_P_b fun _ _ => gx_P_b fun _ _ => gx_P_i rfl) s1
  · cases l with
    | nil => intro h; cases h
    | cons q l => exact (show gx_P (gx_b (ce_labq w g) _) (fun s : ce_S => q5 s = (t, a, b, c, e5)) from gx_P_b fun _ _ => gx_P_b fun _ _ => gx_P_b fun _ _ => gx_P_b fun _ _ => gx_P_b fun _ _ => gx_P_i rfl) s1
  · cases l with
    | nil => intro h; cases h
    | cons q l => exact (show gx_P (gx_b (ce_vm w 11 q.2.1 0 g) _) (fun s : ce_S => q5 s = (t, a, b, c, e5)) from gx_P_b fun _ _ => gx_P_b fun _ _ => gx_P_i rfl) s1
  · cases l with
    | nil => intro h; cases h
    | cons q l => exact (show gx_P (gx_b (ce_vm w 11 q.2.2.1 0 g) _) (fun s : ce_S => q5 s = (t, a, b, c, e5)) from gx_P_b fun _ _ => gx_P_b fun _ _ => gx_P_i rfl) s1
  · intro h; cases h
  · exact (show gx_P (gx_b (ce_labq w g) _) (fun s : ce_S => q5 s = (t, a, b, c, e5)) from gx_P_b fun _ _ => gx_P_b fun _ _ => gx_P_b fun _ _ => gx_P_b fun _ _ => gx_P_b fun _ _ => gx_P_b fun _ _ => gx_P_i rfl) s1
  · cases l with
    | nil => intro h; cases h
    | cons q l =>
      exact (show gx_P (ce_h (g, t, a, b, c, e5, q :: l) _) (fun s : ce_S => q5 s = (t, a, b, c, e5)) from gx_P_b fun _ _ => gx_P_i rfl) s1
  · cases l with
    | nil => intro h; cases h
    | cons q l => exact (show gx_P (gx_b (ce_vm w 12 q.2.1 0 g) _) (fun s : ce_S => q5 s = (t, a, b, c, e5)) from gx_P_b fun _ _ => gx_P_b fun _ _ => gx_P_b fun _ _ => gx_P_b fun _ _ => gx_P_i rfl) s1
  · exact wk s1
  · exact wk s1
theorem rb_add {g0 g : am_H} (r : rb g0 g) (k a b t : Int) : gx_P (mi_add k a b t g) (rb g0) := gx_P_q fun _ => gx_P_i (r.put k a b t)
/-- bodies leave the tables of declarations alone -/
theorem mi_body (e : gx_V) (s s1 : mi_S) (he : e.1 ≤ 34) (h : mi V e s = .inr s1) : rb s.1 s1.1 ∧ s1.2.1 = s.2.1 ∧ s1.2.2.1 = s.2.2.1 := by
  obtain ⟨g, ty, so, bs, oc⟩ := s
  obtain ⟨n, a, b, c⟩ := e
  have he : n ≤ 34 := he
  have r0 := rb.refl g
  have mh : ∀ {r : gx_R am_H}, gx_P r (rb g) → gx_P (mi_h (g, ty, so, bs, oc) r) (fun s1 => rb g s1.1 ∧ s1.2.1 = ty ∧ s1.2.2.1 = so) := fun h => gx_P_b fun a e => gx_P_i ⟨h a e, rfl, rfl⟩
  have m2 : ∀ {k a b t k2 a2 b2 t2 : Int}, gx_P (gx_b (mi_add k a b t g) (mi_add k2 a2 b2 t2)) (rb g) := gx_P_b fun g1 e1 => rb_add (rb_add r0 _ _ _ _ g1 e1) _ _ _ _
  show rb g s1.1 ∧ s1.2.1 = ty ∧ s1.2.2.1 = so
  have cs : n = 0 ∨ n = 1 ∨ n = 2 ∨ n = 3 ∨ n = 4 ∨ n = 5 ∨ n = 6 ∨ n = 7 ∨ n = 8 ∨ n = 9 ∨ n = 10 ∨ n = 11 ∨ n = 12 ∨ n = 20 ∨ n = 21 ∨ n = 22 ∨ n = 23 ∨ n = 24 ∨ n = 25 ∨ n = 26 ∨ n = 27 ∨ n = 28 ∨ n = 30 ∨ n = 31 ∨ n = 32 ∨ n = 33 ∨ n = 34 ∨ (13 ≤ n ∧ n ≤ 19) ∨ n = 29 := by omega
  rcases cs with rfl | rfl | rfl | rfl | rfl | rfl | rfl | rfl | rfl | rfl | rfl | rfl | rfl | rfl | rfl | rfl | rfl | rfl | rfl | rfl | rfl | rfl | rfl | rfl | rfl | rfl | rfl | hn | rfl
  · cases h
  · exact mh (rb_add r0 _ _ _ _) s1 h
  · exact mh (rb_add r0 _ _ _ _) s1 h
  · exact mh (rb_add r0 _ _ _ _) s1 h
  · exact mh (rb_add r0 _ _ _ _) s1 h
  · exact mh (rb_add r0 _ _ _ _) s1 h
  · exact mh (rb_add r0 _ _ _ _) s1 h
  · exact mh (rb_add r0 _ _ _ _) s1 h
  · exact mh (rb_add r0 _ _ _ _) s1 h
  · exact mh (rb_add r0 _ _ _ _) s1 h
  · exact mh (rb_add r0 _ _ _ _) s1 h
  · have cb : rb g (mi_call (if c = 1 then a else -1) b g) := ((((r0.upf (by decide)).up (by decide)).up (by decide)).up (by decide)).up (by decide)
    exact (show gx_P (ce_q (g 254 39 < 990) (gx_b (mi_add 9 (g 254 39) 0 0 (mi_call (if c = 1 then a else -1) b g)) fun g1 => (.inr (g1, ty, so, bs, g 254 39 :: oc) : gx_R mi_S))) (fun s1 => rb g s1.1 ∧ s1.2.1 = ty ∧ s1.2.2.1 = so) from gx_P_q fun _ => gx_P_b fun g1 e1 => gx_P_i ⟨rb_add cb _ _ _ _ g1 e1, rfl, rfl⟩) s1 h
  · cases oc with
    | nil => cases h
    | cons x l => exact (show gx_P (gx_b (mi_add 10 x 0 0 (am_up g 284 x.toNat c)) fun g1 => (.inr (g1, ty, so, bs, l) : gx_R mi_S)) (fun s1 => rb g s1.1 ∧ s1.2.1 = ty ∧ s1.2.2.1 = so) from gx_P_b fun g1 e1 => gx_P_i ⟨rb_add (r0.up (by decide)) _ _ _ _ g1 e1, rfl, rfl⟩) s1 h
  · exact mh (rb_add r0 _ _ _ _) s1 h
  · cases h; exact ⟨r0, rfl, rfl⟩
  · exact mh m2 s1 h
  · exact mh m2 s1 h
  · exact (show gx_P (ce_q (0 ≤ g 254 50 ∧ g 254 50 < 99990) (.inr (am_up g 254 50 (g 254 50 + 2), ty, so, (1, g 254 50, 0, g 254 33) :: bs, oc) : gx_R mi_S)) (fun s1 => rb g s1.1 ∧ s1.2.1 = ty ∧ s1.2.2.1 = so) from gx_P_q fun _ => gx_P_i ⟨r0.upf (by decide), rfl, rfl⟩) s1 h
  · cases bs with
    | nil => cases h
    | cons b l => exact (show gx_P (ce_q (l.length < 40) (gx_b (mi_add 15 0 b.2.1 0 g) fun g1 => (.inr (mi_blk l.length 1 b.2.1 (g 254 33) b.2.2.2 g1, ty, so, (1, b.2.1, g 254 33, b.2.2.2) :: l, oc) : gx_R mi_S))) (fun s1 => rb g s1.1 ∧ s1.2.1 = ty ∧ s1.2.2.1 = so) from gx_P_q fun _ => gx_P_b fun g1 e1 => gx_P_i ⟨(rb_add r0 _ _ _ _ g1 e1).blk _ _ _ _ _, rfl, rfl⟩) s1 h
  · cases bs with
    | nil => cases h
    | cons b l => exact (show gx_P (gx_b (mi_add 16 0 (b.2.1 + 1) 0 (am_up g 254 55 (l.length : Int))) fun g1 => gx_b (mi_add 20 b.2.1 0 0 g1) fun g2 => (.inr (mi_blk l.length 2 b.2.1 (g 254 33) 0 (am_up g2 278 b.2.2.1.toNat (g1 254 33)), ty, so, (2, b.2.1, g 254 33, 0) :: l, oc) : gx_R mi_S)) (fun s1 => rb g s1.1 ∧ s1.2.1 = ty ∧ s1.2.2.1 = so) from gx_P_b fun g1 e1 => gx_P_b fun g2 e2 => gx_P_i ⟨((rb_add (rb_add (r0.upf (by decide)) _ _ _ _ g1 e1) _ _ _ _ g2 e2).up (by decide)).blk _ _ _ _ _, rfl, rfl⟩) s1 h
  · cases bs with
    | nil => cases h
    | cons b l => exact (show gx_P (gx_b (mi_add 20 b.2.1 0 0 (am_up g 254 55 (l.length : Int))) fun g1 => gx_b (mi_add 12 0 0 0 (am_up g1 278 b.2.2.1.toNat (g 254 33))) fun g2 => (.inr (g2, ty, so, l, oc) : gx_R mi_S)) (fun s1 => rb g s1.1 ∧ s1.2.1 = ty ∧ s1.2.2.1 = so) from gx_P_b fun g1 e1 => gx_P_b fun g2 e2 => gx_P_i ⟨rb_add ((rb_add (r0.upf (by decide)) _ _ _ _ g1 e1).up (by decide)) _ _ _ _ g2 e2, rfl, rfl⟩) s1 h
  · cases bs with
    | nil => cases h
    | cons b l => exact (show gx_P (gx_b (mi_add 20 (b.2.1 + 1) 0 0 (am_up g 254 55 (l.length : Int))) fun g1 => gx_b (mi_add 12 0 0 0 (am_up g1 278 b.2.2.1.toNat (g 254 33))) fun g2 => (.inr (g2, ty, so, l, oc) : gx_R mi_S)) (fun s1 => rb g s1.1 ∧ s1.2.1 = ty ∧ s1.2.2.1 = so) from gx_P_b fun g1 e1 => gx_P_b fun g2 e2 => gx_P_i ⟨rb_add ((rb_add (r0.upf (by decide)) _ _ _ _ g1 e1).up (by decide)) _ _ _ _ g2 e2, rfl, rfl⟩) s1 h
  · exact (show gx_P (ce_q (0 ≤ g 254 50 ∧ g 254 50 < 99990) (gx_b (mi_add 20 (g 254 50) 0 0 (am_up g 254 50 (g 254 50 + 2))) fun g1 => gx_b (mi_add 17 0 0 0 g1) fun g2 => (.inr (g2, ty, so, (3, g 254 50, 0, g 254 33) :: bs, oc) : gx_R mi_S))) (fun s1 => rb g s1.1 ∧ s1.2.1 = ty ∧ s1.2.2.1 = so) from gx_P_q fun _ => gx_P_b fun g1 e1 => gx_P_b fun g2 e2 => gx_P_i ⟨rb_add (rb_add (r0.upf (by decide)) _ _ _ _ g1 e1) _ _ _ _ g2 e2, rfl, rfl⟩) s1 h
  · cases bs with
    | nil => cases h
    | cons b l => exact (show gx_P (ce_q (l.length < 40) (gx_b (mi_add 15 0 (b.2.1 + 1) 0 g) fun g1 => (.inr (mi_blk l.length 3 b.2.1 (g 254 33) b.2.2.2 g1, ty, so, (3, b.2.1, g 254 33, b.2.2.2) :: l, oc) : gx_R mi_S))) (fun s1 => rb g s1.1 ∧ s1.2.1 = ty ∧ s1.2.2.1 = so) from gx_P_q fun _ => gx_P_b fun g1 e1 => gx_P_i ⟨(rb_add r0 _ _ _ _ g1 e1).blk _ _ _ _ _, rfl, rfl⟩) s1 h
  · cases bs with
    | nil => cases h
    | cons b l => exact (show gx_P (gx_b (mi_add 16 b.2.2.2 b.2.1 0 (am_up g 254 55 (l.length : Int))) fun g1 => gx_b (mi_add 20 (b.2.1 + 1) 0 0 g1) fun g2 => gx_b (mi_add 12 0 0 0 (am_up g2 278 b.2.2.1.toNat (g1 254 33))) fun g3 => (.inr (g3, ty, so, l, oc) : gx_R mi_S)) (fun s1 => rb g s1.1 ∧ s1.2.1 = ty ∧ s1.2.2.1 = so) from gx_P_b fun g1 e1 => gx_P_b fun g2 e2 => gx_P_b fun g3 e3 => gx_P_i ⟨rb_add ((rb_add (rb_add (r0.upf (by decide)) _ _ _ _ g1 e1) _ _ _ _ g2 e2).up (by decide)) _ _ _ _ g3 e3, rfl, rfl⟩) s1 h
  · exact mh (rb_add r0 _ _ _ _) s1 h
  · exact mh m2 s1 h
  · have cs : n = 13 ∨ n = 14 ∨ n = 15 ∨ n = 16 ∨ n = 17 ∨ n = 18 ∨ n = 19 := by omega
    rcases cs with rfl | rfl | rfl | rfl | rfl | rfl | rfl <;> cases h
  · cases h
end
