/-! HACK, 3: a frame in the processor's memory; lines of the machine with a stack -/
def AR (r : Nat → Int) (b : Nat) (l : List Int) : Prop := ∀ i v, l[i]? = some v → r (b + i) = v
def SK (r : Nat → Int) (b : Nat) : List Int → Prop
  | [] => True
  | v :: st => r (b + st.length) = v ∧ SK r b st
/-- the frame: where values given, and vars, begin -/
def VX (r : Nat → Int) (ab lb : Nat) (x : vL) : Prop :=
  (r 0 = ((lb + x.2.1.length + x.2.2.2.2.1.length : Nat) : Int) ∧ r 1 = (lb : Int) ∧ r 2 = (ab : Int)) ∧ AR r ab x.1 ∧ AR r lb x.2.1 ∧ SK r (lb + x.2.1.length) x.2.2.2.2.1 ∧ (∀ v, x.2.2.1 = some v → r 3 = v) ∧ (∀ v, x.2.2.2.1 = some v → r 5 = v) ∧ (∀ a, 16 ≤ a → a < 17000 → r a = x.2.2.2.2.2.1 a) ∧ (17000 ≤ ab ∧ ab + x.1.length ≤ lb ∧ lb + x.2.1.length + x.2.2.2.2.1.length ≤ 31990)
/-- what stays: older frames, what a frame saves, THAT -/
def KP (r r' : Nat → Int) (ab an lb : Nat) : Prop := ∀ k, (17000 ≤ k ∧ k < ab) ∨ (ab + an ≤ k ∧ k < lb) ∨ k = 4 → r' k = r k
theorem KP.refl (r : Nat → Int) (ab an lb : Nat) : KP r r ab an lb := fun _ _ => rfl
theorem KP.trans {r r1 r2 : Nat → Int} {ab an lb : Nat} (a : KP r r1 ab an lb) (b : KP r1 r2 ab an lb) : KP r r2 ab an lb := fun k hk => (b k hk).trans (a k hk)
section
variable {r r' : Nat → Int} {b : Nat} {l : List Int}
theorem AR.fr (A : AR r b l) (h : ∀ k, b ≤ k → k < b + l.length → r' k = r k) : AR r' b l := fun i v hi => by
  rw [h (b + i) (by omega) (by have := (List.getElem?_eq_some_iff.1 hi).1; omega)]; exact A i v hi
theorem SK.fr : ∀ {st : List Int}, SK r b st → (∀ k, b ≤ k → k < b + st.length → r' k = r k) → SK r' b st
  | [], _, _ => trivial
  | v :: st, ⟨h1, h2⟩, h => ⟨by rw [h _ (by omega) (by rw [List.length_cons]; omega)]; exact h1, h2.fr (fun k k1 k2 => h k k1 (by rw [List.length_cons]; omega))⟩
end
section
variable {L n : Nat} {h : am_H} {r : Nat → Int} {ab lb : Nat} {as ls : List Int} {th tm : Option Int} {st : List Int} {G : vG} {a d : Int}
/-- numbers of low cells -/
theorem VX.low {x : vL} (X : VX r ab lb x) (k : Nat) (v : Int) (hk : k = 13 ∨ k = 14 ∨ k = 15) : VX (p_set r k v) ab lb x := by
  obtain ⟨⟨x1, x2, x3⟩, x4, x5, x6, x7, x8, x9, x10, x11, x12⟩ := X
  have s : ∀ j, j ≠ k → p_set r k v j = r j := fun j hj => p_set_n _ _ _ _ hj
  refine ⟨⟨by rw [s 0 (by omega)]; exact x1, by rw [s 1 (by omega)]; exact x2, by rw [s 2 (by omega)]; exact x3⟩, x4.fr (fun j h1 _ => s j (by omega)), x5.fr (fun j h1 _ => s j (by omega)), x6.fr (fun j h1 _ => s j (by omega)), fun w hw => by rw [s 3 (by omega)]; exact x7 w hw, fun w hw => by rw [s 5 (by omega)]; exact x8 w hw, fun j h1 h2 => by rw [s j (by omega)]; exact x9 j h1 h2, x10, x11, x12⟩
theorem KP.low (k : Nat) (v : Int) (hk : k = 13 ∨ k = 14 ∨ k = 15) (h17 : 17000 ≤ ab) : KP r (p_set r k v) ab as.length lb := fun j hj => p_set_n _ _ _ _ (by omega)
/-- a value comes on the stack -/
theorem VX.push (X : VX r ab lb (as, ls, th, tm, st, G)) (hb : lb + ls.length + st.length < 31990) (v : Int) : VX (p_set (p_set r 0 ((lb + ls.length + st.length + 1 : Nat) : Int)) (lb + ls.length + st.length) v) ab lb (as, ls, th, tm, v :: st, G) ∧ KP r (p_set (p_set r 0 ((lb + ls.length + st.length + 1 : Nat) : Int)) (lb + ls.length + st.length) v) ab as.length lb := by
  obtain ⟨⟨x1, x2, x3⟩, x4, x5, x6, x7, x8, x9, x10, x11, x12⟩ := X
  dsimp only at *
  have s : ∀ j, j ≠ 0 → j ≠ lb + ls.length + st.length → p_set (p_set r 0 ((lb + ls.length + st.length + 1 : Nat) : Int)) (lb + ls.length + st.length) v j = r j := fun j h1 h2 => by rw [p_set_n _ _ _ _ h2, p_set_n _ _ _ _ h1]
  refine ⟨⟨⟨?_, by rw [s 1 (by omega) (by omega)]; exact x2, by rw [s 2 (by omega) (by omega)]; exact x3⟩, x4.fr (fun j h1 h2 => s j (by omega) (by omega)), x5.fr (fun j h1 h2 => s j (by omega) (by omega)), ⟨p_set_s _ _ _, x6.fr (fun j h1 h2 => s j (by omega) (by omega))⟩, fun w hw => by rw [s 3 (by omega) (by omega)]; exact x7 w hw, fun w hw => by rw [s 5 (by omega) (by omega)]; exact x8 w hw, fun j h1 h2 => by rw [s j (by omega) (by omega)]; exact x9 j h1 h2, x10, x11, ?_⟩, fun j hj => s j (by omega) (by omega)⟩
  · rw [p_set_n _ _ _ _ (by omega), p_set_s]; rfl
  · show lb + ls.length + (st.length + 1) ≤ 31990; omega
/-- a value goes -/
theorem VX.pop {v : Int} (X : VX r ab lb (as, ls, th, tm, v :: st, G)) : r 0 = ((lb + ls.length + st.length + 1 : Nat) : Int) ∧ r (lb + ls.length + st.length) = v ∧ VX (p_set r 0 ((lb + ls.length + st.length : Nat) : Int)) ab lb (as, ls, th, tm, st, G) ∧ KP r (p_set r 0 ((lb + ls.length + st.length : Nat) : Int)) ab as.length lb := by
  obtain ⟨⟨x1, x2, x3⟩, x4, x5, ⟨x6, x6'⟩, x7, x8, x9, x10, x11, x12⟩ := X
  dsimp only at *
  have s : ∀ j, j ≠ 0 → p_set r 0 ((lb + ls.length + st.length : Nat) : Int) j = r j := fun j h1 => p_set_n _ _ _ _ h1
  have x12 : lb + ls.length + (st.length + 1) ≤ 31990 := x12
  refine ⟨x1, x6, ⟨⟨p_set_s _ _ _, by rw [s 1 (by omega)]; exact x2, by rw [s 2 (by omega)]; exact x3⟩, x4.fr (fun j h1 h2 => s j (by omega)), x5.fr (fun j h1 h2 => s j (by omega)), x6'.fr (fun j h1 h2 => s j (by omega)), fun w hw => by rw [s 3 (by omega)]; exact x7 w hw, fun w hw => by rw [s 5 (by omega)]; exact x8 w hw, fun j h1 h2 => by rw [s j (by omega)]; exact x9 j h1 h2, x10, x11, by show lb + ls.length + st.length ≤ 31990; omega⟩, fun j hj => s j (by omega)⟩
/-- words that put a value on the stack -/
theorem l_push {ws : List Int} {v a' : Int} (X : VX r ab lb (as, ls, th, tm, st, G)) (hb : lb + ls.length + st.length < 31990) (A : QS L n h ws (a, d, r) (a', v, r)) (hw : ws ≠ []) : ∃ a2 r2, QS L n h (ws ++ wPush) (a, d, r) (a2, v, r2) ∧ VX r2 ab lb (as, ls, th, tm, v :: st, G) ∧ KP r r2 ab as.length lb := by
  obtain ⟨X2, K2⟩ := X.push hb v
  exact ⟨_, _, A.app (q_push X.1.1 (show lb + ls.length + st.length < 31999 by omega)) hw (List.cons_ne_nil _ _), X2, K2⟩
theorem l_const (k : Nat) (hk : k ≤ 32767) : QS L n h [(k : Int), -5104] (a, d, r) ((k : Int), (k : Int), r) := (q_at (k : Int) (by omega) (by omega)).cons q_DeA (List.cons_ne_nil _ _)
/-- an address of a segment -/
theorem l_seg (k q b : Nat) (hk : k ≤ 32767) (hq : q < 32000) (hb : r q = (b : Int)) (hs : b + k < 32000) : QS L n h [(k : Int), -5104, (q : Int), -3936, -1008] (a, d, r) (((b + k : Nat) : Int), r (b + k), r) := by
  have e : am_s16 ((k : Int) + r q) = ((b + k : Nat) : Int) := by rw [hb, s16_id ⟨by omega, by omega⟩]; omega
  have a3 : QS L n h [-3936] ((q : Int), (k : Int), r) _ := q_AeDpM hq
  rw [e] at a3
  exact (q_at (k : Int) (by omega) (by omega)).cons (q_DeA.cons ((q_at (q : Int) (by omega) (by omega)).cons (a3.cons (q_DeM hs) (List.cons_ne_nil _ _)) (List.cons_ne_nil _ _)) (List.cons_ne_nil _ _)) (List.cons_ne_nil _ _)
/-- words that take a value and keep it in a low cell -/
theorem l_popk {v : Int} (k : Nat) (hk : k < 32000) (X : VX r ab lb (as, ls, th, tm, v :: st, G)) : QS L n h (wPop ++ wKeep k) (a, d, r) ((k : Int), v, p_set (p_set r 0 ((lb + ls.length + st.length : Nat) : Int)) k v) := by
  obtain ⟨e1, e2, X2, K2⟩ := X.pop
  have x12 : lb + ls.length + (st.length + 1) ≤ 31990 := X.2.2.2.2.2.2.2.2.2
  have x10 : 17000 ≤ ab ∧ ab + as.length ≤ lb := ⟨X.2.2.2.2.2.2.2.1, X.2.2.2.2.2.2.2.2.1⟩
  have a1 : QS L n h wPop (a, d, r) _ := q_pop e1 (by omega) (by omega)
  rw [e2] at a1
  exact a1.app (q_keep k hk) (List.cons_ne_nil _ _) (List.cons_ne_nil _ _)
/-- words that take a value into a segment -/
theorem l_pops {v : Int} (k q b : Nat) (hk : k ≤ 32767) (hq : q = 1 ∨ q = 2) (hb : r q = (b : Int)) (hs : b + k < 32000) (h13 : 15 < b) (X : VX r ab lb (as, ls, th, tm, v :: st, G)) : QS L n h ([(k : Int), -5104, (q : Int), -3952] ++ (wKeep ((13 : Nat) : Int) ++ (wPop ++ [((13 : Nat) : Int), -992, -7416]))) (a, d, r) (((b + k : Nat) : Int), v, p_set (p_set (p_set r 13 ((b + k : Nat) : Int)) 0 ((lb + ls.length + st.length : Nat) : Int)) (b + k) v) := by
  have e : am_s16 ((k : Int) + r q) = ((b + k : Nat) : Int) := by rw [hb, s16_id ⟨by omega, by omega⟩]; omega
  have a3 : QS L n h [-3952] ((q : Int), (k : Int), r) _ := q_DpM (by omega)
  rw [e] at a3
  have X13 := X.low 13 ((b + k : Nat) : Int) (by omega)
  obtain ⟨e1, e2, -, -⟩ := X13.pop
  have x12 : lb + ls.length + (st.length + 1) ≤ 31990 := X.2.2.2.2.2.2.2.2.2
  have x10 : 17000 ≤ ab ∧ ab + as.length ≤ lb := ⟨X.2.2.2.2.2.2.2.1, X.2.2.2.2.2.2.2.2.1⟩
  have a4 : QS L n h wPop (((13 : Nat) : Int), ((b + k : Nat) : Int), p_set r 13 ((b + k : Nat) : Int)) _ := q_pop e1 (by omega) (by omega)
  rw [e2] at a4
  have a5 : QS L n h [-992] (((13 : Nat) : Int), v, p_set (p_set r 13 ((b + k : Nat) : Int)) 0 ((lb + ls.length + st.length : Nat) : Int)) _ := q_AeM (by decide)
  rw [p_set_n _ _ _ 13 (by decide), p_set_s] at a5
  have a6 := (q_at (L := L) (n := n) (h := h) (a := ((lb + ls.length + st.length : Nat) : Int)) (d := v) (r := p_set (p_set r 13 ((b + k : Nat) : Int)) 0 ((lb + ls.length + st.length : Nat) : Int)) ((13 : Nat) : Int) (by decide) (by decide)).cons (a5.cons (q_MeD hs) (List.cons_ne_nil _ _)) (List.cons_ne_nil _ _)
  have a1 := (q_at (L := L) (n := n) (h := h) (a := a) (d := d) (r := r) (k : Int) (by omega) (by omega)).cons (q_DeA.cons ((q_at (q : Int) (by omega) (by omega)).cons a3 (List.cons_ne_nil _ _)) (List.cons_ne_nil _ _)) (List.cons_ne_nil _ _)
  exact a1.app ((q_keep 13 (by decide)).app (a4.app a6 (List.cons_ne_nil _ _) (List.cons_ne_nil _ _)) (List.cons_ne_nil _ _) (by simp [wPop])) (List.cons_ne_nil _ _) (by simp [wKeep])
/-- two values become one -/
theorem l_two {x y v : Int} {w : Int} (X : VX r ab lb (as, ls, th, tm, y :: x :: st, G)) (hw : ∀ (k : Nat) (r : Nat → Int), k < 32000 → r k = x → QS L n h [w] ((k : Int), y, r) ((k : Int), y, p_set r k v)) : ∃ a2 r2, QS L n h (wPop ++ [-4960, w]) (a, d, r) (a2, y, r2) ∧ VX r2 ab lb (as, ls, th, tm, v :: st, G) ∧ KP r r2 ab as.length lb := by
  obtain ⟨e1, e2, X2, K2⟩ := X.pop
  obtain ⟨⟨x1, x2, x3⟩, x4, x5, ⟨x6, x6'⟩, x7, x8, x9, x10, x11, x12⟩ := X2
  dsimp only at *
  have x12 : lb + ls.length + (st.length + 1) ≤ 31990 := x12
  have a1 : QS L n h wPop (a, d, r) _ := q_pop e1 (by omega) (by rw [List.length_cons]; omega)
  rw [e2, List.length_cons] at a1
  have a2 : QS L n h [-4960] (((lb + ls.length + (st.length + 1) : Nat) : Int), y, p_set r 0 ((lb + ls.length + (st.length + 1) : Nat) : Int)) _ := q_Ad
  rw [show am_s16 (((lb + ls.length + (st.length + 1) : Nat) : Int) - 1) = ((lb + ls.length + st.length : Nat) : Int) by rw [s16_id ⟨by omega, by omega⟩]; omega] at a2
  rw [List.length_cons] at x6 x1 K2
  have a3 := hw (lb + ls.length + st.length) (p_set r 0 ((lb + ls.length + (st.length + 1) : Nat) : Int)) (by omega) x6
  refine ⟨_, _, a1.app (a2.cons a3 (List.cons_ne_nil _ _)) (List.cons_ne_nil _ _) (List.cons_ne_nil _ _), ?_, ?_⟩
  · have s : ∀ j, j ≠ lb + ls.length + st.length → p_set (p_set r 0 ((lb + ls.length + (st.length + 1) : Nat) : Int)) (lb + ls.length + st.length) v j = p_set r 0 ((lb + ls.length + (st.length + 1) : Nat) : Int) j := fun j h1 => p_set_n _ _ _ _ h1
    refine ⟨⟨by rw [s 0 (by omega)]; exact x1, by rw [s 1 (by omega)]; exact x2, by rw [s 2 (by omega)]; exact x3⟩, x4.fr (fun j h1 h2 => s j (by omega)), x5.fr (fun j h1 h2 => s j (by omega)), ⟨p_set_s _ _ _, x6'.fr (fun j h1 h2 => s j (by omega))⟩, fun w hw => by rw [s 3 (by omega)]; exact x7 w hw, fun w hw => by rw [s 5 (by omega)]; exact x8 w hw, fun j h1 h2 => by rw [s j (by omega)]; exact x9 j h1 h2, x10, x11, x12⟩
  · intro j hj
    rw [p_set_n _ _ _ _ (by omega)]; exact K2 j hj
theorem l_one {x v : Int} {w : Int} (X : VX r ab lb (as, ls, th, tm, x :: st, G)) (hw : ∀ (k : Nat), k < 32000 → r k = x → QS L n h [w] ((k : Int), d, r) ((k : Int), d, p_set r k v)) : ∃ a2 r2, QS L n h [0, -864, w] (a, d, r) (a2, d, r2) ∧ VX r2 ab lb (as, ls, th, tm, v :: st, G) ∧ KP r r2 ab as.length lb := by
  obtain ⟨⟨x1, x2, x3⟩, x4, x5, ⟨x6, x6'⟩, x7, x8, x9, x10, x11, x12⟩ := X
  dsimp only at *
  have x12 : lb + ls.length + (st.length + 1) ≤ 31990 := x12
  rw [List.length_cons] at x1
  have a2 : QS L n h [-864] (((0 : Nat) : Int), d, r) _ := q_AeMd (by decide)
  rw [x1, show am_s16 (((lb + ls.length + (st.length + 1) : Nat) : Int) - 1) = ((lb + ls.length + st.length : Nat) : Int) by rw [s16_id ⟨by omega, by omega⟩]; omega] at a2
  have a3 := hw (lb + ls.length + st.length) (by omega) x6
  refine ⟨_, _, (q_at 0 (by decide) (by decide)).cons (a2.cons a3 (List.cons_ne_nil _ _)) (List.cons_ne_nil _ _), ?_, ?_⟩
  · have s : ∀ j, j ≠ lb + ls.length + st.length → p_set r (lb + ls.length + st.length) v j = r j := fun j h1 => p_set_n _ _ _ _ h1
    refine ⟨⟨by rw [s 0 (by omega)]; exact x1, by rw [s 1 (by omega)]; exact x2, by rw [s 2 (by omega)]; exact x3⟩, x4.fr (fun j h1 h2 => s j (by omega)), x5.fr (fun j h1 h2 => s j (by omega)), ⟨p_set_s _ _ _, x6'.fr (fun j h1 h2 => s j (by omega))⟩, fun w hw => by rw [s 3 (by omega)]; exact x7 w hw, fun w hw => by rw [s 5 (by omega)]; exact x8 w hw, fun j h1 h2 => by rw [s j (by omega)]; exact x9 j h1 h2, x10, x11, x12⟩
  · intro j hj
    exact p_set_n _ _ _ _ (by omega)
end
