/-! RUN, 16: the text's own lines as words: where they stand, what is watched -/
def lwn (l : vl) : Nat := (lw (fun _ => 0) (fun _ => 0) 0 l).length
theorem lw_len (lab fs : Nat → Nat) (w : Nat) (l : vl) : (lw lab fs w l).length = lwn l := by
  obtain ⟨op, sg, k⟩ := l
  unfold lwn
  match op with
  | 0 => match sg with
    | 0 | 1 | 2 | 3 | _ + 4 => rfl
  | 1 => match sg with
    | 0 | 1 | 2 | 3 | 4 | _ + 5 => rfl
  | 2 | 3 | 4 | 5 | 6 | 7 | 8 | 9 | 10 | 11 | 12 | 13 | 14 | 15 | 16 | 19 => rfl
  | 17 => match sg with
    | 0 | _ + 1 => rfl
  | 18 => match sg with
    | 0 | _ + 1 => rfl
  | _ + 20 => rfl
/-- a place and a watch that is still to be put -/
def lstp (q : Nat × Nat) (l : vl) : Nat × Nat := match l.1 with
  | 20 => (if q.2 = 0 then q.1 else q.1 + 1, l.2.1 + 3)
  | 11 => (if q.2 = 0 then q.1 else q.1 + 1, 0)
  | 14 => (q.1 + 12 + 5 * l.2.2, 0)
  | _ => (q.1 + lwn l, 0)
def lat (h : am_H) (lab fs gv : Nat → Nat) (wd : Nat) (q : Nat × Nat) (l : vl) : Prop := match l.1 with
  | 20 => q.2 ≠ 0 → h 13 q.1 = 0 ∧ h 16 q.1 = (q.2 : Int) ∧ q.1 < 32768
  | 11 => (q.2 ≠ 0 → h 13 q.1 = 0 ∧ h 16 q.1 = (q.2 : Int) ∧ q.1 < 32768) ∧ lab l.2.1 = (lstp q l).1
  | 14 => cd h q.1 (wFn q.1 (gv l.2.1) ++ wLoc l.2.2) ∧ h 16 q.1 = (if q.2 ≠ 0 then (q.2 : Int) else (wd : Int)) ∧ fs l.2.1 = q.1
  | _ => cd h q.1 (lw lab fs q.1 l) ∧ h 16 q.1 = (if q.2 ≠ 0 then (q.2 : Int) else if l.1 = 16 ∧ wd = 1 then 2 else 0)
def LU (h : am_H) (lab fs gv : Nat → Nat) (wd : Nat) : Nat × Nat → List vl → Prop
  | _, [] => True
  | q, l :: r => lat h lab fs gv wd q l ∧ lok l ∧ (lstp q l).1 < 32768 ∧ LU h lab fs gv wd (lstp q l) r
def lfold (q : Nat × Nat) (ls : List vl) : Nat × Nat := ls.foldl lstp q
section
variable {h : am_H} {lab fs gv : Nat → Nat} {wd : Nat}
theorem LU.app : ∀ {a b : List vl} {q : Nat × Nat}, LU h lab fs gv wd q (a ++ b) → LU h lab fs gv wd q a ∧ LU h lab fs gv wd (lfold q a) b
  | [], _, _, H => ⟨trivial, H⟩
  | _ :: _, _, _, ⟨h1, h2, h3, h4⟩ => ⟨⟨h1, h2, h3, (LU.app h4).1⟩, (LU.app h4).2⟩
theorem lst_lin {l : vl} (hl : lin l) (q : Nat × Nat) : lstp q l = (q.1 + lwn l, 0) := by
  obtain ⟨op, sg, k⟩ := l
  unfold lin at hl
  dsimp only at hl
  unfold lstp
  dsimp only
  split <;> first | rfl | (exfalso; omega)
theorem lat_lin {l : vl} (hl : lin l) {q : Nat × Nat} (H : lat h lab fs gv wd q l) : cd h q.1 (lw lab fs q.1 l) ∧ h 16 q.1 = (q.2 : Int) := by
  obtain ⟨op, sg, k⟩ := l
  unfold lin at hl
  dsimp only at hl
  unfold lat at H
  dsimp only at H
  split at H
  · exfalso; omega
  · exfalso; omega
  · exfalso; omega
  · refine ⟨H.1, ?_⟩
    rw [H.2]
    by_cases z : q.2 ≠ 0
    · rw [if_pos z]
    · rw [if_neg z, if_neg (by omega)]
      rw [show q.2 = 0 by omega]; rfl
theorem LU_LY : ∀ {ls : List vl} {w : Nat}, (∀ l ∈ ls, lin l) → LU h lab fs gv wd (w, 0) ls → LY h lab fs w ls ∧ lfold (w, 0) ls = (lend lab fs w ls, 0)
  | [], _, _, _ => ⟨trivial, rfl⟩
  | l :: ls, w, hl, ⟨h1, h2, h3, h4⟩ => by
    have l1 := hl l (List.mem_cons_self ..)
    rw [lst_lin l1] at h3 h4
    obtain ⟨c1, c2⟩ := lat_lin l1 h1
    obtain ⟨r1, r2⟩ := LU_LY (fun v hv => hl v (List.mem_cons_of_mem _ hv)) h4
    refine ⟨⟨fun j v hj => ?_, by rw [lw_len]; exact h3, fun z => ?_, h2, by rw [lw_len]; exact r1⟩, ?_⟩
    · obtain ⟨y1, y2, y3⟩ := c1 j v hj
      refine ⟨y1, y2, ?_⟩
      by_cases z : j = 0
      · rw [z, Nat.add_zero]; exact c2
      · exact y3 z
    · exfalso; unfold lin at l1; omega
    · show lfold (lstp (w, 0) l) ls = (lend lab fs (w + (lw lab fs w l).length) ls, 0)
      rw [lst_lin l1, lw_len]; exact r2
theorem LU_lin {l : vl} {ls : List vl} {q : Nat × Nat} (hl : ∀ v ∈ l :: ls, lin v) (H : LU h lab fs gv wd q (l :: ls)) : cd h q.1 (lw lab fs q.1 l) ∧ h 16 q.1 = (q.2 : Int) ∧ q.1 + (lw lab fs q.1 l).length < 32768 ∧ lok l ∧ LY h lab fs (q.1 + (lw lab fs q.1 l).length) ls ∧ lfold q (l :: ls) = (lend lab fs q.1 (l :: ls), 0) := by
  obtain ⟨h1, h2, h3, h4⟩ := H
  have l1 := hl l (List.mem_cons_self ..)
  obtain ⟨c1, c2⟩ := lat_lin l1 h1
  rw [lst_lin l1] at h3 h4
  obtain ⟨r1, r2⟩ := LU_LY (fun v hv => hl v (List.mem_cons_of_mem _ hv)) h4
  refine ⟨c1, c2, by rw [lw_len]; exact h3, h2, by rw [lw_len]; exact r1, ?_⟩
  show lfold (lstp q l) ls = (lend lab fs (q.1 + (lw lab fs q.1 l).length) ls, 0)
  rw [lst_lin l1, lw_len]; exact r2
/-- where a watch is still to be put, it is put -/
theorem LU_pd {l : vl} {ls : List vl} {q : Nat × Nat} (H : LU h lab fs gv wd q (l :: ls)) (hq : q.2 ≠ 0) : h 16 q.1 = (q.2 : Int) := by
  have h1 := H.1
  obtain ⟨op, sg, k⟩ := l
  unfold lat at h1
  dsimp only at h1
  split at h1
  · exact (h1 hq).2.1
  · exact (h1.1 hq).2.1
  · rw [h1.2.1, if_pos hq]
  · rw [h1.2, if_pos hq]
end
/-- ahead of a watch, or behind it -/
def CL (L n : Nat) (h : am_H) (pd : Nat) (x : hX) (o : Option am_O) : Prop := if pd = 0 then H3 L n h x o else H4 L n h x o
/-- frames below, in the processor's memory -/
def CH (r : Nat → Int) (wp : Nat → Nat) (w0 : Nat) : Nat → List Int → Nat → List uF → Prop
  | ab, as, _, [] => r (ab + as.length) = (w0 : Int) ∧ ab + as.length = 17000
  | ab, as, rk, f :: rs => r (ab + as.length) = (wp rk : Int) ∧ ab + as.length ≤ 17000 + 369 * (rs.length + 1) ∧ ∃ ab', (r (ab + as.length + 1) = ((ab' + f.2.1.length + 5 : Nat) : Int) ∧ r (ab + as.length + 2) = (ab' : Int) ∧ (∀ v, f.2.2.2.1 = some v → r (ab + as.length + 3) = v)) ∧ (AR r ab' f.2.1 ∧ AR r (ab' + f.2.1.length + 5) f.2.2.1 ∧ SK r (ab' + f.2.1.length + 5 + f.2.2.1.length) (uSt f)) ∧ (ab = ab' + f.2.1.length + 5 + f.2.2.1.length + (uSt f).length ∧ 17000 ≤ ab') ∧ CH r wp w0 ab' f.2.1 f.2.2.2.2.2 rs
theorem CH.fr {r r' : Nat → Int} {wp : Nat → Nat} {w0 : Nat} : ∀ {rs : List uF} {ab : Nat} {as : List Int} {rk : Nat}, CH r wp w0 ab as rk rs → (∀ j, 17000 ≤ j → j < ab ∨ (ab + as.length ≤ j ∧ j < ab + as.length + 5) → r' j = r j) → 17000 ≤ ab → CH r' wp w0 ab as rk rs
  | [], ab, as, rk, ⟨h1, h2⟩, k, hb => ⟨by rw [k _ (by omega) (by omega)]; exact h1, h2⟩
  | f :: rs, ab, as, rk, ⟨h1, h2, ab', ⟨h3, h4, h5⟩, ⟨h6, h7, h8⟩, ⟨h9, h10⟩, h11⟩, k, hb => by
    refine ⟨by rw [k _ (by omega) (by omega)]; exact h1, h2, ab', ⟨by rw [k _ (by omega) (by omega)]; exact h3, by rw [k _ (by omega) (by omega)]; exact h4, fun v hv => by rw [k _ (by omega) (by omega)]; exact h5 v hv⟩, ⟨h6.fr (fun j j1 j2 => k j (by omega) (by omega)), h7.fr (fun j j1 j2 => k j (by omega) (by omega)), h8.fr (fun j j1 j2 => k j (by omega) (by omega))⟩, ⟨h9, h10⟩, h11.fr (fun j j1 j2 => k j j1 (by omega)) h10⟩
/-- all frames -/
def CU (r : Nat → Int) (wp : Nat → Nat) (w0 ab : Nat) (f : uF) (rs : List uF) (G : vG) : Prop := VX r ab (ab + f.2.1.length + 5) (f.2.1, f.2.2.1, f.2.2.2.1, none, uSt f, G) ∧ CH r wp w0 ab f.2.1 f.2.2.2.2.2 rs ∧ f.2.1.length ≤ 13 ∧ f.2.2.1.length ≤ 12
theorem CH.top {r : Nat → Int} {wp : Nat → Nat} {w0 ab rk : Nat} {as : List Int} {rs : List uF} (c : CH r wp w0 ab as rk rs) : ab + as.length ≤ 17000 + 369 * rs.length := by
  cases rs with
  | nil => exact Nat.le_of_eq c.2
  | cons f rs => exact c.2.1
section
variable {L n : Nat} {ky : List Int} {lab fs gv : Nat → Nat} {wd : Nat} {h : am_H} {r : Nat → Int} {wp : Nat → Nat} {w0 ab s rk : Nat} {as ls : List Int} {th tm : Option Int} {st : List Int} {G : vG} {a d : Int} {rs : List uF} {q : Nat × Nat}
theorem VX.temp0 (X : VX r ab rk (as, ls, th, tm, st, G)) : VX r ab rk (as, ls, th, none, st, G) := by
  obtain ⟨x1, x4, x5, x6, x7, x8, x9, x10⟩ := X
  exact ⟨x1, x4, x5, x6, x7, fun v hv => (by cases hv), x9, x10⟩
/-- an item of lines that stay within the frame -/
theorem c_lin {l : vl} {vs : List vl} {res : vL ⊕ ((Int × Int) × vG)} (hl : ∀ v ∈ l :: vs, lin v) (H : LU h lab fs gv wd q (l :: vs)) (hi : HI h lab fs) (C : CU r wp w0 ab (s, as, ls, th, st, rk) rs G) (I : IOR ky G h) (R : hrg ((q.1 : Int), a, d, r)) (hs : st.length ≤ 352) (hd : rs.length < 40) (V : VI ky (l :: vs) (as, ls, th, none, st, G) res) :
    (∀ y, res = .inl y → ∃ h' a2 d2 r2, (∀ o, CL L n h' 0 (((lfold q (l :: vs)).1 : Int), a2, d2, r2) o → CL L n h q.2 ((q.1 : Int), a, d, r) o) ∧ hrg (((lfold q (l :: vs)).1 : Int), a2, d2, r2) ∧ CU r2 wp w0 ab (s, y.1, y.2.1, y.2.2.1, y.2.2.2.2.1, rk) rs y.2.2.2.2.2 ∧ IOR ky y.2.2.2.2.2 h' ∧ p_fr ioC ioF h h' ∧ (y.1.length = as.length ∧ y.2.1.length = ls.length)) ∧
    (∀ z, res = .inr z → ∃ hf, CL L n h q.2 ((q.1 : Int), a, d, r) (pI L z.1.1 hf) ∧ hEnd ky h z.1.1 z.1.2 z.2 hf ∧ ∀ k, rg16 (hf 18 k)) := by
  obtain ⟨c1, c2, c3, c4, c5, c6⟩ := LU_lin hl H
  obtain ⟨X, Ch, b1, b2⟩ := C
  have tp := Ch.top
  dsimp only [uSt] at X Ch b1 b2 tp
  have E := hi.2.1
  have hw : q.1 < 32768 := by omega
  have up : ∀ o, H4 L n h ((q.1 : Int), a, d, r) o → CL L n h q.2 ((q.1 : Int), a, d, r) o := by
    intro o H
    unfold CL
    by_cases z : q.2 = 0
    · rw [if_pos z]; exact h34 E hw (by rw [c2, z]; rfl) H
    · rw [if_neg z]; exact H
  constructor
  · intro y ey
    subst ey
    classical
    have go := h_seq (L := L) (n := n) (m := 360) (o := (.inl 0, G)) (k := fun y2 => if y2 = y then some (.inl 0, G) else none) (h_sub 9) vs l hl hi c1 c3 c4 c5 I X R (by omega) (by show st.length ≤ 360; omega) (by rw [V]; exact if_pos rfl)
    rcases go with ⟨y2, h', a2, d2, r2, hk, Q, X2, K2, I2, f, b3, b4, b5⟩ | ⟨e, v, G', hf, e1, -, -⟩
    · have ey : y2 = y := by
        by_cases z : y2 = y
        · exact z
        · dsimp only at hk; rw [if_neg z] at hk; cases hk
      subst ey
      obtain ⟨R2, go2⟩ := Q R
      refine ⟨h', a2, d2, r2, fun o Ho => up o (go2 o ?_), ?_, ⟨?_, ?_, ?_, ?_⟩, I2, f, b3, b4⟩
      · unfold CL at Ho; rw [if_pos rfl, c6] at Ho; exact Ho
      · rw [c6]; exact R2
      · have := VX.temp0 (tm := y2.2.2.2.1) X2
        dsimp only
        rw [b3]; exact this
      · dsimp only
        have e1 : ab + y2.1.length = ab + as.length := by rw [b3]
        have ch2 : CH r2 wp w0 ab as rk rs := Ch.fr (fun j j1 j2 => K2 j (by omega)) X.2.2.2.2.2.2.2.1
        cases rs with
        | nil => exact ⟨by rw [e1]; exact ch2.1, by rw [e1]; exact ch2.2⟩
        | cons f rs => unfold CH at ch2 ⊢; rw [e1]; exact ch2
      · dsimp only; rw [b3]; exact b1
      · dsimp only; rw [b4]; exact b2
    · cases e1
  · intro z ez
    subst ez
    have go := h_seq (L := L) (n := n) (m := 360) (o := (.inr z.1, z.2)) (k := fun _ => none) (h_sub 9) vs l hl hi c1 c3 c4 c5 I X R (by omega) (by show st.length ≤ 360; omega) (V _)
    rcases go with ⟨y2, h', a2, d2, r2, hk, -⟩ | ⟨e, v, G', hf, e1, F, e2⟩
    · cases hk
    · have e1 : z.1 = (e, v) ∧ z.2 = G' := ⟨Sum.inr.inj (Prod.mk.inj e1).1, (Prod.mk.inj e1).2⟩
      rw [e1.1, e1.2]
      exact ⟨hf, up _ (F R).1, e2, (F R).2⟩
end
