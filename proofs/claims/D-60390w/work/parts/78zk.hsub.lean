/-! HACK, 10: whole subs -/
def wFn (w an : Nat) : List Int := (wKeep ((15 : Nat) : Int) ++ ([(an : Int), -5104] ++ (wKeep ((13 : Nat) : Int) ++ ([((w + 12 : Nat) : Int), -5104] ++ wKeep ((14 : Nat) : Int))))) ++ [((6 : Nat) : Int), -5497]
def wLoc : Nat → List Int
  | 0 => []
  | k + 1 => ([-5488] ++ wPush) ++ wLoc k
/-- lines laid from a place on -/
def LY (h : am_H) (lab fs : Nat → Nat) : Nat → List vl → Prop
  | _, [] => True
  | w, l :: r => cmw h w (lw lab fs w l) ∧ w + (lw lab fs w l).length < 32768 ∧ (l.1 = 11 → lab l.2.1 = w) ∧ lok l ∧ LY h lab fs (w + (lw lab fs w l).length) r
def SYS (h : am_H) (lab fs : Nat → Nat) : Prop := ∀ s q, vtab[s]? = some q → cmw h (fs s) (wFn (fs s) q.1 ++ wLoc q.2.1) ∧ fs s + 12 + 5 * q.2.1 < 32768 ∧ LY h lab fs (fs s + 12 + 5 * q.2.1) q.2.2.1
def HI (h : am_H) (lab fs : Nat → Nat) : Prop := cmw h 6 shL ∧ h 17 14 ≠ 0 ∧ SYS h lab fs ∧ ∀ q, lab q < 32768 ∧ fs q < 32768
/-- how a sub comes back, or how the run ends -/
def hRet (L n : Nat) (ky : List Int) (h : am_H) (x : hX) (r : Nat → Int) (ab ret : Nat) (s1 s2 s3 s4 : Int) (o : vO) : Prop :=
  (∃ v G' h' a2 d2 r2, o = (.inl v, G') ∧ HQ L n h x h' ((ret : Int), a2, d2, r2) ∧ (r2 0 = ((ab + 1 : Nat) : Int) ∧ r2 ab = v ∧ r2 1 = s1 ∧ r2 2 = s2 ∧ r2 3 = s3 ∧ r2 4 = s4) ∧ (∀ k, 17000 ≤ k → k < ab → r2 k = r k) ∧ (∀ a, 16 ≤ a → a < 17000 → r2 a = G'.1 a) ∧ IOR ky G' h' ∧ p_fr ioC ioF h h')
  ∨ ∃ e v G' hf, o = (.inr (e, v), G') ∧ HF L n h x e hf ∧ hEnd ky h e v G' hf
def SUB (L n : Nat) (ky : List Int) (lab fs : Nat → Nat) (dp : Nat) (Γ : vC) : Prop := ∀ (s : Nat) (as : List Int) (G : vG) (o : vO), Γ s as G = some o → ∀ (h : am_H) (r : Nat → Int) (ab ret : Nat) (a : Int), HI h lab fs → IOR ky G h → r 0 = ((ab + as.length : Nat) : Int) → AR r ab as → (∀ a, 16 ≤ a → a < 17000 → r a = G.1 a) → 17000 ≤ ab → ab + as.length + 20 * dp + 10 ≤ 31990 → ret < 32768 → hrg ((fs s : Int), a, (ret : Int), r) → (fs s < 32768 ∧ h 16 (fs s) = 0) ∧ hRet L n ky h ((fs s : Int), a, (ret : Int), r) r ab ret (r 1) (r 2) (r 3) (r 4) o
section
variable {L n : Nat} {h h' : am_H} {r r2 : Nat → Int} {ab lb m w : Nat} {as ls : List Int} {th tm : Option Int} {st : List Int} {G : vG} {a d a2 d2 : Int} {ky : List Int} {lab fs : Nat → Nat} {o : vO}
theorem LY.fr (f : p_fr ioC ioF h h') : ∀ {w : Nat} {code : List vl}, LY h lab fs w code → LY h' lab fs w code
  | _, [], _ => trivial
  | _, _ :: _, ⟨h1, h2, h3, h4, h5⟩ => ⟨h1.fr f, h2, h3, h4, h5.fr f⟩
theorem LY_lab (q : Nat) : ∀ {w : Nat} {code : List vl}, LY h lab fs w code → LY h lab fs (lab q) (vlab code q)
  | _, [], _ => trivial
  | w, l :: code, ⟨h1, h2, h3, h4, h5⟩ => by
    show LY h lab fs (lab q) (cond (Nat.beq l.1 11 && Nat.beq l.2.1 q) code (vlab code q))
    cases c : (Nat.beq l.1 11 && Nat.beq l.2.1 q) with
    | false => exact LY_lab q h5
    | true =>
      have c1 : l.1 = 11 := Nat.eq_of_beq_eq_true (Bool.and_eq_true_iff.1 c).1
      have c2 : l.2.1 = q := Nat.eq_of_beq_eq_true (Bool.and_eq_true_iff.1 c).2
      have e : lab q = w := by rw [← c2]; exact h3 c1
      obtain ⟨op, sg, k⟩ := l
      dsimp only at c1
      subst c1
      rw [e]; exact h5
theorem HI.fr (H : HI h lab fs) (f : p_fr ioC ioF h h') : HI h' lab fs := ⟨H.1.fr f, E_fr H.2.1 f, fun s q hq => by
  obtain ⟨h1, h2, h3⟩ := H.2.2.1 s q hq
  exact ⟨h1.fr f, h2, h3.fr f⟩, H.2.2.2⟩
theorem hEnd.pre {e v : Int} {hf : am_H} (H : hEnd ky h' e v G hf) (f : p_fr ioC ioF h h') : hEnd ky h e v G hf := by
  obtain ⟨h1, h2, h3, h4, h5, h6, h7⟩ := H
  exact ⟨(f.mono rfl rfl).trans h1, h2, h3, h4, h5, fun z => by rw [h6 z, f 17 13 rfl rfl], h7⟩
theorem hRet.pre {x : hX} {p ret : Nat} {s1 s2 s3 s4 : Int} (A : HQ L n h x h' ((p : Int), a, d, r2)) (f : p_fr ioC ioF h h') (E : h' 17 14 ≠ 0) (mk : p < 32768 ∧ h' 16 p = 0) (k : ∀ j, 17000 ≤ j → j < ab → r2 j = r j) (B : hRet L n ky h' ((p : Int), a, d, r2) r2 ab ret s1 s2 s3 s4 o) : hRet L n ky h x r ab ret s1 s2 s3 s4 o := by
  rcases B with ⟨v, G', h2, a3, d3, r3, e1, Q, e2, e3, e4, I, f2⟩ | ⟨e, v, G', hf, e1, F, e2⟩
  · exact Or.inl ⟨v, G', h2, a3, d3, r3, e1, A.then E mk Q, e2, fun j j1 j2 => (e3 j j1 j2).trans (k j j1 j2), e4, I, f.trans f2⟩
  · exact Or.inr ⟨e, v, G', hf, e1, A.fin E mk F, e2.pre f⟩
theorem SK.get {b : Nat} : ∀ {st : List Int}, SK r b st → ∀ i v, st[i]? = some v → r (b + (st.length - 1 - i)) = v
  | [], _, i, v, hi => by cases hi
  | x :: st, ⟨h1, h2⟩, i, v, hi => by
    cases i with
    | zero => cases hi; exact h1
    | succ i =>
      have hi : st[i]? = some v := hi
      have := h2.get i v hi
      rw [List.length_cons, show st.length + 1 - 1 - (i + 1) = st.length - 1 - i by omega]; exact this
theorem SK.drop {b : Nat} : ∀ {st : List Int} (k : Nat), SK r b st → SK r b (st.drop k)
  | _, 0, s => s
  | [], _ + 1, _ => trivial
  | _ :: _, k + 1, ⟨_, h2⟩ => h2.drop k
theorem SK.args {b k : Nat} (s : SK r b st) (hk : k ≤ st.length) : AR r (b + (st.length - k)) (st.take k).reverse := fun i v hi => by
  have hl : i < k := by
    have := (List.getElem?_eq_some_iff.1 hi).1
    rw [List.length_reverse, List.length_take] at this; omega
  rw [List.getElem?_reverse (by rw [List.length_take]; omega), List.length_take, Nat.min_eq_left hk, List.getElem?_take_of_lt (by omega)] at hi
  have := s.get _ _ hi
  rw [show b + (st.length - 1 - (k - 1 - i)) = b + (st.length - k) + i by omega] at this
  exact this
theorem SK.rep {b : Nat} (k : Nat) (s : SK r b (List.replicate k 0)) : AR r b (List.replicate k 0) := fun i v hi => by
  have hl := (List.getElem?_eq_some_iff.1 hi).1
  rw [List.length_replicate] at hl
  have hv : v = 0 := by
    rw [List.getElem?_replicate, if_pos hl] at hi; exact (Option.some.inj hi).symm
  have := s.get (k - 1 - i) 0 (by rw [List.getElem?_replicate, if_pos (by omega)])
  rw [List.length_replicate, show k - 1 - (k - 1 - i) = i by omega] at this
  rw [hv]; exact this
theorem VX.locs {k : Nat} (X : VX r ab lb (as, [], th, tm, List.replicate k 0, G)) : VX r ab lb (as, List.replicate k 0, th, tm, [], G) := by
  obtain ⟨⟨x1, x2, x3⟩, x4, x5, x6, x7, x8, x9, x10, x11, x12⟩ := X
  exact ⟨⟨x1, x2, x3⟩, x4, SK.rep k x6, trivial, x7, x8, x9, x10, x11, x12⟩
/-- vars -/
theorem h_loc {x : hX} (E : h 17 14 ≠ 0) (hb : lb + 20 ≤ 31990) : ∀ (k : Nat) {w : Nat} {a d : Int} {r : Nat → Int} {st : List Int}, Hq L n h x ((w : Int), a, d, r) → cmw h w (wLoc k) → w + 5 * k < 32768 → VX r ab lb (as, [], th, tm, st, G) → st.length + k ≤ 19 → ∃ a2 d2 r2 st2, Hq L n h x (((w + 5 * k : Nat) : Int), a2, d2, r2) ∧ VX r2 ab lb (as, [], th, tm, st2, G) ∧ KP r r2 ab as.length lb ∧ st2 = List.replicate k 0 ++ st
  | 0, w, a, d, r, st, Q, _, _, X, _ => ⟨a, d, r, st, Q, X, KP.refl _ _ _ _, rfl⟩
  | k + 1, w, a, d, r, st, Q, c, hw, X, hk => by
    obtain ⟨a2, r2, A, X2, K2⟩ := l_push (L := L) (n := n) (h := h) (a := a) (d := d) X (show lb + 0 + st.length < 31990 by omega) q_D0 (List.cons_ne_nil _ _)
    have m := c 0 _ rfl
    obtain ⟨a3, d3, r3, st3, Q3, X3, K3, e3⟩ := h_loc E hb k (w := w + 5) (Q.then E m.2.1 m.2.2 (A w c.app_l.cd E)) c.app_r (by omega) X2 (by rw [List.length_cons]; omega)
    refine ⟨a3, d3, r3, st3, ?_, X3, K2.trans K3, ?_⟩
    · rw [show w + 5 * (k + 1) = w + 5 + 5 * k by omega]; exact Q3
    · rw [e3, List.replicate_succ', List.append_assoc]; rfl
/-- into a sub -/
theorem h_fun {ret nl : Nat} (S : cmw h 6 shL) (E : h 17 14 ≠ 0) (c : cd h w (wFn w as.length ++ wLoc nl)) (hw : w + 12 + 5 * nl < 32768) (hs : r 0 = ((ab + as.length : Nat) : Int)) (A : AR r ab as) (M : ∀ a, 16 ≤ a → a < 17000 → r a = G.1 a) (hb : 17000 ≤ ab) (hn : nl ≤ 12) (hroom : ab + as.length + 25 ≤ 31990) (hr : ret < 32768) (ha : as.length ≤ 32767) : ∃ a2 d2 r2, Hq L n h ((w : Int), a, (ret : Int), r) (((w + 12 + 5 * nl : Nat) : Int), a2, d2, r2) ∧ VX r2 ab (ab + as.length + 5) (as, List.replicate nl 0, none, none, [], G) ∧ (r2 (ab + as.length) = (ret : Int) ∧ r2 (ab + as.length + 1) = r 1 ∧ r2 (ab + as.length + 2) = r 2 ∧ r2 (ab + as.length + 3) = r 3 ∧ r2 (ab + as.length + 4) = r 4) ∧ ∀ k, 17000 ≤ k → k < ab → r2 k = r k := by
  have k1 := q_keep (L := L) (n := n) (h := h) (a := a) (d := (ret : Int)) (r := r) 15 (by decide)
  have k2 := k1.app ((l_const as.length ha).app ((q_keep 13 (by decide)).app ((l_const (w + 12) (by omega)).app (q_keep 14 (by decide)) (List.cons_ne_nil _ _) (List.cons_ne_nil _ _)) (List.cons_ne_nil _ _) (List.cons_ne_nil _ _)) (List.cons_ne_nil _ _) (by simp [wKeep])) (List.cons_ne_nil _ _) (by simp)
  have J := q_go (p := w) (t := 6) (by decide) k2 (by simp [wKeep]) c.app_l E
  generalize er : p_set (p_set (p_set r 15 (ret : Int)) 13 (as.length : Int)) 14 ((w + 12 : Nat) : Int) = r1 at J
  have g : ∀ j, j < 13 ∨ 16 ≤ j → r1 j = r j := fun j hj => by rw [← er, p_set_n _ _ _ _ (by omega), p_set_n _ _ _ _ (by omega), p_set_n _ _ _ _ (by omega)]
  obtain ⟨a2, d2, r2, Q, ⟨z0, z1, z2⟩, ⟨y0, y1, y2, y3, y4⟩, f⟩ := s_save (L := L) (n := n) (a := ((6 : Nat) : Int)) (d := ((w + 12 : Nat) : Int)) (r := r1) (sp := ab + as.length) (an := as.length) (q := w + 12) (ret := (ret : Int)) S E (by rw [g 0 (by omega)]; exact hs) (by omega) (by omega) (by rw [← er, p_set_n _ _ _ _ (by omega), p_set_n _ _ _ _ (by omega), p_set_s]) (by rw [← er, p_set_n _ _ _ _ (by omega), p_set_s]) (by rw [← er, p_set_s]) (by omega)
  have JQ := J.on E _ (S.sub 0 [15] rfl 0 _ rfl) Q
  rw [show ab + as.length - as.length = ab by omega] at z2
  have X2 : VX r2 ab (ab + as.length + 5) (as, [], none, none, [], G) := by
    refine ⟨⟨z0, z1, z2⟩, ?_, fun i v hi => (by cases hi), trivial, fun v hv => (by cases hv), fun v hv => (by cases hv), fun j j1 j2 => ?_, hb, by show ab + as.length ≤ _; omega, by show ab + as.length + 5 + 0 + 0 ≤ 31990; omega⟩
    · intro i v hi
      have hl : i < as.length := (List.getElem?_eq_some_iff.1 hi).1
      rw [f (ab + i) (by omega) (by omega), g _ (by omega)]; exact A i v hi
    · rw [f j (by omega) (by omega), g j (by omega)]; exact M j j1 j2
  have c2 := c.app_r (by simp [wFn])
  obtain ⟨a3, d3, r3, st3, Q3, X3, K3, e3⟩ := h_loc E (by omega) nl JQ c2 (by show w + 12 + 5 * nl < 32768; exact hw) X2 (by show 0 + nl ≤ 19; omega)
  rw [List.append_nil] at e3
  subst e3
  refine ⟨a3, d3, r3, Q3, X3.locs, ⟨?_, ?_, ?_, ?_, ?_⟩, fun k k1 k2 => ?_⟩
  · rw [K3 _ (by omega)]; exact y0
  · rw [K3 _ (by omega), y1, g 1 (by omega)]
  · rw [K3 _ (by omega), y2, g 2 (by omega)]
  · rw [K3 _ (by omega), y3, g 3 (by omega)]
  · rw [K3 _ (by omega), y4, g 4 (by omega)]
  · rw [K3 _ (by omega), f k (by omega) (by omega), g k (by omega)]
end
