/-! HACK, 7: every line as words -/
def wRt (w t : Nat) : List Int := ([((w + 6 : Nat) : Int), -5104] ++ wKeep ((15 : Nat) : Int)) ++ [(t : Int), -5497]
/-- the words of a line at a place (labels, subs: where they are) -/
def lw (lab fs : Nat → Nat) (w : Nat) (l : vl) : List Int := match l.1 with
  | 0 => (match l.2.1 with
    | 0 => [(l.2.2 : Int), -5104] ++ wPush
    | 1 => [(l.2.2 : Int), -5104, ((2 : Nat) : Int), -3936, -1008] ++ wPush
    | 2 => [(l.2.2 : Int), -5104, ((1 : Nat) : Int), -3936, -1008] ++ wPush
    | 3 => wTake ((16 + l.2.2 : Nat) : Int) ++ wPush
    | _ => wTake ((3 : Nat) : Int) ++ wPush)
  | 1 => (match l.2.1 with
    | 1 => [(l.2.2 : Int), -5104, ((2 : Nat) : Int), -3952] ++ (wKeep ((13 : Nat) : Int) ++ (wPop ++ [((13 : Nat) : Int), -992, -7416]))
    | 2 => [(l.2.2 : Int), -5104, ((1 : Nat) : Int), -3952] ++ (wKeep ((13 : Nat) : Int) ++ (wPop ++ [((13 : Nat) : Int), -992, -7416]))
    | 3 => wPop ++ wKeep ((16 + l.2.2 : Nat) : Int)
    | 4 => wPop ++ wKeep ((3 : Nat) : Int)
    | _ => wPop ++ wKeep ((5 : Nat) : Int))
  | 2 => wPop ++ [-4960, -3960]
  | 3 => wPop ++ [-4960, -3640]
  | 4 => [0, -864, -824]
  | 5 => wPop ++ [-4960, -4088]
  | 6 => wPop ++ [-4960, -2744]
  | 7 => [0, -864, -952]
  | 8 => wRt w 103
  | 9 => wRt w 124
  | 10 => wRt w 112
  | 12 => [(lab l.2.1 : Int), -5497]
  | 13 => wPop ++ [(lab l.2.1 : Int), -7419]
  | 15 => [((w + 4 : Nat) : Int), -5104] ++ [(fs l.2.1 : Int), -5497]
  | 16 => [((49 : Nat) : Int), -5497]
  | 17 => (match l.2.1 with
    | 0 => wRt w 183
    | _ => wRt w 160)
  | 18 => (match l.2.1 with
    | 0 => wRt w 216
    | _ => wRt w 193)
  | 19 => [(l.2.1 : Int), -5104, ((3 : Nat) : Int), -3952] ++ wPush
  | _ => []
/-- lines with numbers that fit -/
def lok (l : vl) : Prop := l.2.2 ≤ 32767 ∧ ((l.1 = 0 ∨ l.1 = 1) → l.2.1 = 3 → l.2.2 < 16000) ∧ (l.1 = 19 → l.2.1 ≤ 32767)
/-- what one line gives -/
def LG (L n : Nat) (ky : List Int) (ab lb m an ln : Nat) (h : am_H) (x : hX) (r : Nat → Int) (q : Nat) (o : vO) (k : vL → Option vO) : Prop :=
  (∃ y h' a2 d2 r2, k y = some o ∧ HQ L n h x h' ((q : Int), a2, d2, r2) ∧ VX r2 ab lb y ∧ KP r r2 ab an lb ∧ IOR ky y.2.2.2.2.2 h' ∧ p_fr ioC ioF h h' ∧ (y.1.length = an ∧ y.2.1.length = ln ∧ y.2.2.2.2.1.length ≤ m))
  ∨ ∃ e v G' hf, o = (.inr (e, v), G') ∧ HF L n h x e hf ∧ hEnd ky h e v G' hf
section
variable {m : Nat} {st : List Int} {o : vO}
theorem v_ps_some {v : Int} {k : List Int → Option vO} (H : v_ps m st v k = some o) : st.length < m ∧ k (v :: st) = some o := by
  unfold v_ps at H
  cases c : Nat.blt st.length m with
  | true => rw [c] at H; exact ⟨Nat.le_of_ble_eq_true c, H⟩
  | false => rw [c] at H; cases H
theorem v_p1_some {k : Int → List Int → Option vO} (H : v_p1 st k = some o) : ∃ v s, st = v :: s ∧ k v s = some o := by
  cases st with
  | nil => cases H
  | cons v s => exact ⟨v, s, rfl, H⟩
theorem v_p2_some {k : Int → Int → List Int → Option vO} (H : v_p2 st k = some o) : ∃ x y s, st = y :: x :: s ∧ k x y s = some o := by
  cases st with
  | nil => cases H
  | cons v s => cases s with
    | nil => cases H
    | cons w s => exact ⟨w, v, s, rfl, H⟩
theorem v_at_some {l : List Int} {i : Nat} {k : Int → Option vO} (H : v_at l i k = some o) : ∃ v, l[i]? = some v ∧ k v = some o := by
  unfold v_at at H
  cases c : l[i]? with
  | none => rw [c] at H; cases H
  | some v => rw [c] at H; exact ⟨v, rfl, H⟩
theorem v_o_some {t : Option Int} {k : Int → Option vO} (H : v_o t k = some o) : ∃ v, t = some v ∧ k v = some o := by
  cases t with
  | none => cases H
  | some v => exact ⟨v, rfl, H⟩
theorem v_c_some {b : Bool} {t : Option vO} (H : cond b t none = some o) : b = true ∧ t = some o := by
  cases b with
  | true => exact ⟨rfl, H⟩
  | false => cases H
end
theorem p_and_comm (x y : Int) : am_and x y = am_and y x := by
  unfold am_and; rw [Int32.and_comm]
theorem p_or_comm (x y : Int) : am_or x y = am_or y x := by
  unfold am_or; rw [Int32.or_comm]
section
variable {L n : Nat} {h h' : am_H} {r r2 : Nat → Int} {ab lb m w : Nat} {as ls : List Int} {th tm : Option Int} {st : List Int} {G : vG} {a d a2 d2 : Int} {ky : List Int} {o : vO} {k : vL → Option vO} {ws : List Int}
theorem LG.q {y : vL} {an ln : Nat} (c : cd h w ws) (E : h 17 14 ≠ 0) (A : QS L n h ws (a, d, r) (a2, d2, r2)) (hk : k y = some o) (X : VX r2 ab lb y) (K : KP r r2 ab an lb) (I : IOR ky y.2.2.2.2.2 h) (b : y.1.length = an ∧ y.2.1.length = ln ∧ y.2.2.2.2.1.length ≤ m) : LG L n ky ab lb m an ln h ((w : Int), a, d, r) r (w + ws.length) o k :=
  Or.inl ⟨y, h, a2, d2, r2, hk, (A w c E).hq, X, K, I, p_fr.refl h, b⟩
/-- words, then a value on the stack -/
theorem g_push {v a' : Int} (c : cd h w (ws ++ wPush)) (hw : ws ≠ []) (E : h 17 14 ≠ 0) (I : IOR ky G h) (X : VX r ab lb (as, ls, th, tm, st, G)) (hm : lb + ls.length + m ≤ 31990) (A : QS L n h ws (a, d, r) (a', v, r)) (H : v_ps m st v (fun st => k (as, ls, th, tm, st, G)) = some o) : LG L n ky ab lb m as.length ls.length h ((w : Int), a, d, r) r (w + (ws ++ wPush).length) o k := by
  obtain ⟨h1, h2⟩ := v_ps_some H
  obtain ⟨a3, r3, B, X3, K3⟩ := l_push X (by omega) A hw
  exact LG.q c E B h2 X3 K3 I ⟨rfl, rfl, h1⟩
/-- two values -/
theorem g_two {x y v : Int} {wd : Int} (c : cd h w (wPop ++ [-4960, wd])) (E : h 17 14 ≠ 0) (I : IOR ky G h) (X : VX r ab lb (as, ls, th, tm, y :: x :: st, G)) (hst : (y :: x :: st).length ≤ m) (hw : ∀ (k : Nat) (r : Nat → Int), k < 32000 → r k = x → QS L n h [wd] ((k : Int), y, r) ((k : Int), y, p_set r k v)) (H : k (as, ls, th, tm, v :: st, G) = some o) : LG L n ky ab lb m as.length ls.length h ((w : Int), a, d, r) r (w + (wPop ++ [-4960, wd]).length) o k := by
  obtain ⟨a3, r3, B, X3, K3⟩ := l_two X hw
  exact LG.q c E B H X3 K3 I ⟨rfl, rfl, by rw [List.length_cons, List.length_cons] at hst; show st.length + 1 ≤ m; omega⟩
theorem g_one {x v : Int} {wd : Int} (c : cd h w [0, -864, wd]) (E : h 17 14 ≠ 0) (I : IOR ky G h) (X : VX r ab lb (as, ls, th, tm, x :: st, G)) (hst : (x :: st).length ≤ m) (hw : ∀ (k : Nat), k < 32000 → r k = x → QS L n h [wd] ((k : Int), d, r) ((k : Int), d, p_set r k v)) (H : k (as, ls, th, tm, v :: st, G) = some o) : LG L n ky ab lb m as.length ls.length h ((w : Int), a, d, r) r (w + 3) o k := by
  obtain ⟨a3, r3, B, X3, K3⟩ := l_one X hw
  exact LG.q c E B H X3 K3 I ⟨rfl, rfl, hst⟩
/-- a value goes into a cell of this frame or of the memory -/
theorem KP.val (X : VX r ab lb (as, ls, th, tm, st, G)) {k : Nat} (hk : (ab ≤ k ∧ k < ab + as.length) ∨ lb ≤ k ∨ (k < 17000 ∧ k ≠ 4)) (v : Int) : KP r (p_set r k v) ab as.length lb := fun j hj => by
  have := X.2.2.2.2.2.2.2.1
  have := X.2.2.2.2.2.2.2.2.1
  dsimp only at *
  exact p_set_n _ _ _ _ (by omega)
theorem AR.set {b i : Nat} {l : List Int} (A : AR r b l) (hi : i < l.length) (v : Int) : AR (p_set r (b + i) v) b (l.set i v) := fun j x hj => by
  by_cases z : j = i
  · rw [z] at hj ⊢; rw [List.getElem?_set_self hi] at hj; rw [p_set_s]; exact Option.some.inj hj
  · rw [List.getElem?_set_ne (fun q => z q.symm)] at hj
    rw [p_set_n _ _ _ _ (by omega)]; exact A j x hj
theorem VX.arg (X : VX r ab lb (as, ls, th, tm, st, G)) {i : Nat} (hi : i < as.length) (v : Int) : VX (p_set r (ab + i) v) ab lb (as.set i v, ls, th, tm, st, G) := by
  obtain ⟨⟨x1, x2, x3⟩, x4, x5, x6, x7, x8, x9, x10, x11, x12⟩ := X
  dsimp only at *
  have s : ∀ j, j ≠ ab + i → p_set r (ab + i) v j = r j := fun j hj => p_set_n _ _ _ _ hj
  exact ⟨⟨by rw [s 0 (by omega)]; exact x1, by rw [s 1 (by omega)]; exact x2, by rw [s 2 (by omega)]; exact x3⟩, x4.set hi v, x5.fr (fun j h1 _ => s j (by omega)), x6.fr (fun j h1 _ => s j (by omega)), fun w hw => by rw [s 3 (by omega)]; exact x7 w hw, fun w hw => by rw [s 5 (by omega)]; exact x8 w hw, fun j h1 h2 => by rw [s j (by omega)]; exact x9 j h1 h2, x10, by rw [List.length_set]; exact x11, x12⟩
theorem VX.loc (X : VX r ab lb (as, ls, th, tm, st, G)) {i : Nat} (hi : i < ls.length) (v : Int) : VX (p_set r (lb + i) v) ab lb (as, ls.set i v, th, tm, st, G) := by
  obtain ⟨⟨x1, x2, x3⟩, x4, x5, x6, x7, x8, x9, x10, x11, x12⟩ := X
  dsimp only at *
  have s : ∀ j, j ≠ lb + i → p_set r (lb + i) v j = r j := fun j hj => p_set_n _ _ _ _ hj
  have el : (ls.set i v).length = ls.length := List.length_set
  refine ⟨⟨?_, by rw [s 1 (by omega)]; exact x2, by rw [s 2 (by omega)]; exact x3⟩, x4.fr (fun j h1 _ => s j (by omega)), x5.set hi v, ?_, fun w hw => by rw [s 3 (by omega)]; exact x7 w hw, fun w hw => by rw [s 5 (by omega)]; exact x8 w hw, fun j h1 h2 => by rw [s j (by omega)]; exact x9 j h1 h2, x10, x11, ?_⟩
  · dsimp only; rw [el, s 0 (by omega)]; exact x1
  · dsimp only; rw [el]; exact x6.fr (fun j h1 _ => s j (by omega))
  · dsimp only; rw [el]; exact x12
theorem VX.this (X : VX r ab lb (as, ls, th, tm, st, G)) (v : Int) : VX (p_set r 3 v) ab lb (as, ls, some v, tm, st, G) := by
  obtain ⟨⟨x1, x2, x3⟩, x4, x5, x6, x7, x8, x9, x10, x11, x12⟩ := X
  dsimp only at *
  have s : ∀ j, j ≠ 3 → p_set r 3 v j = r j := fun j hj => p_set_n _ _ _ _ hj
  exact ⟨⟨by rw [s 0 (by omega)]; exact x1, by rw [s 1 (by omega)]; exact x2, by rw [s 2 (by omega)]; exact x3⟩, x4.fr (fun j h1 _ => s j (by omega)), x5.fr (fun j h1 _ => s j (by omega)), x6.fr (fun j h1 _ => s j (by omega)), fun w hw => by cases hw; exact p_set_s _ _ _, fun w hw => by rw [s 5 (by omega)]; exact x8 w hw, fun j h1 h2 => by rw [s j (by omega)]; exact x9 j h1 h2, x10, x11, x12⟩
theorem VX.temp (X : VX r ab lb (as, ls, th, tm, st, G)) (v : Int) : VX (p_set r 5 v) ab lb (as, ls, th, some v, st, G) := by
  obtain ⟨⟨x1, x2, x3⟩, x4, x5, x6, x7, x8, x9, x10, x11, x12⟩ := X
  dsimp only at *
  have s : ∀ j, j ≠ 5 → p_set r 5 v j = r j := fun j hj => p_set_n _ _ _ _ hj
  exact ⟨⟨by rw [s 0 (by omega)]; exact x1, by rw [s 1 (by omega)]; exact x2, by rw [s 2 (by omega)]; exact x3⟩, x4.fr (fun j h1 _ => s j (by omega)), x5.fr (fun j h1 _ => s j (by omega)), x6.fr (fun j h1 _ => s j (by omega)), fun w hw => by rw [s 3 (by omega)]; exact x7 w hw, fun w hw => by cases hw; exact p_set_s _ _ _, fun j h1 h2 => by rw [s j (by omega)]; exact x9 j h1 h2, x10, x11, x12⟩
/-- the way to what all share -/
theorem q_rt {t : Nat} (ht : t < 32768) (hw : w + 6 < 32768) (c : cd h w (wRt w t)) (E : h 17 14 ≠ 0) : Hq L n h ((w : Int), a, d, r) ((t : Int), (t : Int), ((w + 6 : Nat) : Int), p_set r 15 ((w + 6 : Nat) : Int)) :=
  q_go ht ((l_const (w + 6) (by omega)).app (q_keep 15 (by decide)) (List.cons_ne_nil _ _) (List.cons_ne_nil _ _)) (by simp) c E
end
