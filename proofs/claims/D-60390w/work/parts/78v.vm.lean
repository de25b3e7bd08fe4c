/-! VM, 0: the machine with a stack, sub by sub. Lines: what, a segment or a number, a number. Memory, keys taken, output; a frame: values given, vars, the object, the first of TEMP, the stack -/
abbrev vl : Type := Nat × Nat × Nat
abbrev vG : Type := (Nat → Int) × Nat × List Int
abbrev vL : Type := List Int × List Int × Option Int × Option Int × List Int × vG
/-- an outcome: returned a value, or stopped (how, its number) -/
abbrev vO : Type := (Int ⊕ (Int × Int)) × vG
abbrev vF : Type := List vl → vL → Option vO
abbrev vC : Type := Nat → List Int → vG → Option vO
/-- the lines behind a label -/
def vlab : List vl → Nat → List vl
  | [], _ => []
  | l :: r, a => cond (Nat.beq l.1 11 && Nat.beq l.2.1 a) r (vlab r a)
def v_p1 (st : List Int) (k : Int → List Int → Option vO) : Option vO := match st with
  | v :: st => k v st
  | [] => none
def v_p2 (st : List Int) (k : Int → Int → List Int → Option vO) : Option vO := match st with
  | y :: x :: st => k x y st
  | _ => none
def v_ps (m : Nat) (st : List Int) (v : Int) (k : List Int → Option vO) : Option vO := cond (Nat.blt st.length m) (k (v :: st)) none
def v_at (l : List Int) (i : Nat) (k : Int → Option vO) : Option vO := match l[i]? with
  | some v => k v
  | none => none
def v_o (o : Option Int) (k : Int → Option vO) : Option vO := match o with
  | some v => k v
  | none => none
/-- addresses that may be looked at -/
abbrev v_pl (a : Int) : Prop := (2048 ≤ a ∧ a ≤ 14335) ∨ (16384 ≤ a ∧ a ≤ 16511)
/-- the system's own memory, and doors -/
def v_rd (ky : List Int) (a : Int) (G : vG) (k : Int → vG → Option vO) : Option vO :=
  if 16 ≤ a ∧ a < 17000 then k (G.1 a.toNat) G
  else if a = 32002 then (match ky[G.2.1]? with
    | some c => k c (G.1, G.2.1 + 1, G.2.2)
    | none => k 0 G)
  else if a = 32003 then k (ky.getD G.2.1 0) G
  else if a = 32005 then k ((ky.length : Int) - (G.2.1 : Int)) G
  else none
def v_wr (a v : Int) (G : vG) (k : vG → Option vO) : Option vO :=
  if 16 ≤ a ∧ a < 17000 then k (p_set G.1 a.toNat v, G.2)
  else if a = 32001 then k (G.1, G.2.1, if G.2.2.length < 3000 then G.2.2 ++ [v % 256] else G.2.2)
  else if a = 32000 then some (.inr (0, 0), G)
  else if a = 32004 then some (.inr (3, v), G)
  else none
def v_rc (a : Int) (G : vG) (k : Int → vG → Option vO) : Option vO := if v_pl a then k (G.1 a.toNat) G else some (.inr (3, 20), G)
def v_wc (a v : Int) (G : vG) (k : vG → Option vO) : Option vO := if v_pl a then k (p_set G.1 a.toNat v, G.2) else some (.inr (3, 20), G)
/-- behind a call -/
def v_cl (o : Option vO) (k : Int → vG → Option vO) : Option vO := match o with
  | some (.inl v, G) => k v G
  | some (.inr e, G) => some (.inr e, G)
  | none => none
/-- a jump when a value is not 0 -/
def v_if (v : Int) (a b : Option vO) : Option vO := if v = 0 then b else a
/-- one line -/
def vins (ky : List Int) (Γ : vC) (m : Nat) (code : List vl) (F : vF) (l : vl) (r : List vl) (x : vL) : Option vO :=
  match x with
  | (as, ls, th, tm, st, G) => match l.1 with
    | 0 => (match l.2.1 with
      | 0 => v_ps m st l.2.2 fun st => F r (as, ls, th, tm, st, G)
      | 1 => v_at as l.2.2 fun v => v_ps m st v fun st => F r (as, ls, th, tm, st, G)
      | 2 => v_at ls l.2.2 fun v => v_ps m st v fun st => F r (as, ls, th, tm, st, G)
      | 3 => v_ps m st (G.1 (16 + l.2.2)) fun st => F r (as, ls, th, tm, st, G)
      | 4 => v_o th fun v => v_ps m st v fun st => F r (as, ls, th, tm, st, G)
      | _ => none)
    | 1 => v_p1 st fun v st => (match l.2.1 with
      | 1 => cond (Nat.blt l.2.2 as.length) (F r (as.set l.2.2 v, ls, th, tm, st, G)) none
      | 2 => cond (Nat.blt l.2.2 ls.length) (F r (as, ls.set l.2.2 v, th, tm, st, G)) none
      | 3 => F r (as, ls, th, tm, st, (p_set G.1 (16 + l.2.2) v, G.2))
      | 4 => F r (as, ls, some v, tm, st, G)
      | 5 => F r (as, ls, th, some v, st, G)
      | _ => none)
    | 2 => v_p2 st fun x y st => F r (as, ls, th, tm, am_s16 (x + y) :: st, G)
    | 3 => v_p2 st fun x y st => F r (as, ls, th, tm, am_s16 (x - y) :: st, G)
    | 4 => v_p1 st fun x st => F r (as, ls, th, tm, am_s16 (-x) :: st, G)
    | 5 => v_p2 st fun x y st => F r (as, ls, th, tm, am_and x y :: st, G)
    | 6 => v_p2 st fun x y st => F r (as, ls, th, tm, am_or x y :: st, G)
    | 7 => v_p1 st fun x st => F r (as, ls, th, tm, (-x - 1) :: st, G)
    | 8 => v_p2 st fun x y st => F r (as, ls, th, tm, (if x = y then -1 else 0) :: st, G)
    | 9 => v_p2 st fun x y st => F r (as, ls, th, tm, (if x < y then -1 else 0) :: st, G)
    | 10 => v_p2 st fun x y st => F r (as, ls, th, tm, (if y < x then -1 else 0) :: st, G)
    | 11 => F r (as, ls, th, tm, st, G)
    | 12 => F (vlab code l.2.1) (as, ls, th, tm, st, G)
    | 13 => v_p1 st fun v st => v_if v (F (vlab code l.2.1) (as, ls, th, tm, st, G)) (F r (as, ls, th, tm, st, G))
    | 15 => cond (Nat.ble l.2.2 st.length) (v_cl (Γ l.2.1 (st.take l.2.2).reverse G) fun v G => v_ps m (st.drop l.2.2) v fun st => F r (as, ls, th, none, st, G)) none
    | 16 => v_p1 st fun v _ => some (.inl v, G)
    | 17 => v_p1 st fun a st => (match l.2.1 with
      | 0 => v_rd ky a G fun v G => F r (as, ls, th, tm, v :: st, G)
      | _ => v_rc a G fun v G => F r (as, ls, th, tm, v :: st, G))
    | 18 => v_p1 st fun a st => v_o tm fun v => (match l.2.1 with
      | 0 => v_wr a v G fun G => F r (as, ls, th, some v, st, G)
      | _ => v_wc a v G fun G => F r (as, ls, th, some v, st, G))
    | 19 => v_o th fun o => v_ps m st (am_s16 (o + l.2.1)) fun st => F r (as, ls, th, tm, st, G)
    | _ => none
def vbody (ky : List Int) (Γ : vC) (m : Nat) (code : List vl) (F : vF) (r : List vl) (x : vL) : Option vO := match r with
  | [] => none
  | l :: r => vins ky Γ m code F l r x
def vrun (ky : List Int) (Γ : vC) (m : Nat) (code : List vl) : Nat → vF
  | 0 => fun _ _ => none
  | n + 1 => vbody ky Γ m code (vrun ky Γ m code n)
/-- the continuation is asked at most once -/
def v_lin (k : vF → Option vO) : Prop := (∃ c, ∀ F, k F = c) ∨ (∃ r x, ∀ F, k F = F r x)
theorem vn_c (c : Option vO) : v_lin (fun _ => c) := Or.inl ⟨c, fun _ => rfl⟩
theorem vn_F (r : List vl) (x : vL) : v_lin (fun F => F r x) := Or.inr ⟨r, x, fun _ => rfl⟩
theorem vn_cd (b : Bool) {k : vF → Option vO} (h : v_lin k) : v_lin (fun F => cond b (k F) none) := by
  cases b
  · exact vn_c none
  · exact h
theorem vn_p1 (st : List Int) {k : vF → Int → List Int → Option vO} (h : ∀ v st, v_lin (fun F => k F v st)) : v_lin (fun F => v_p1 st (k F)) := by
  cases st with
  | nil => exact vn_c none
  | cons v st => exact h v st
theorem vn_p2 (st : List Int) {k : vF → Int → Int → List Int → Option vO} (h : ∀ x y st, v_lin (fun F => k F x y st)) : v_lin (fun F => v_p2 st (k F)) := by
  cases st with
  | nil => exact vn_c none
  | cons v st => cases st with
    | nil => exact vn_c none
    | cons w st => exact h w v st
theorem vn_ps (m : Nat) (st : List Int) (v : Int) {k : vF → List Int → Option vO} (h : ∀ st, v_lin (fun F => k F st)) : v_lin (fun F => v_ps m st v (k F)) := vn_cd _ (h _)
theorem vn_at (l : List Int) (i : Nat) {k : vF → Int → Option vO} (h : ∀ v, v_lin (fun F => k F v)) : v_lin (fun F => v_at l i (k F)) := by
  unfold v_at
  cases l[i]? with
  | none => exact vn_c none
  | some v => exact h v
theorem vn_o (o : Option Int) {k : vF → Int → Option vO} (h : ∀ v, v_lin (fun F => k F v)) : v_lin (fun F => v_o o (k F)) := by
  unfold v_o
  cases o with
  | none => exact vn_c none
  | some v => exact h v
theorem vn_ite {p : Prop} [Decidable p] {a b : vF → Option vO} (h1 : v_lin a) (h2 : v_lin b) : v_lin (fun F => if p then a F else b F) := by
  by_cases h : p
  · simp only [if_pos h]; exact h1
  · simp only [if_neg h]; exact h2
theorem vn_rd (ky : List Int) (a : Int) (G : vG) {k : vF → Int → vG → Option vO} (h : ∀ v G, v_lin (fun F => k F v G)) : v_lin (fun F => v_rd ky a G (k F)) := by
  unfold v_rd
  refine vn_ite (h _ _) (vn_ite ?_ (vn_ite (h _ _) (vn_ite (h _ _) (vn_c none))))
  cases ky[G.2.1]? with
  | none => exact h _ _
  | some v => exact h _ _
theorem vn_wr (a v : Int) (G : vG) {k : vF → vG → Option vO} (h : ∀ G, v_lin (fun F => k F G)) : v_lin (fun F => v_wr a v G (k F)) := vn_ite (h _) (vn_ite (h _) (vn_ite (vn_c _) (vn_ite (vn_c _) (vn_c _))))
theorem vn_rc (a : Int) (G : vG) {k : vF → Int → vG → Option vO} (h : ∀ v G, v_lin (fun F => k F v G)) : v_lin (fun F => v_rc a G (k F)) := vn_ite (h _ _) (vn_c _)
theorem vn_wc (a v : Int) (G : vG) {k : vF → vG → Option vO} (h : ∀ G, v_lin (fun F => k F G)) : v_lin (fun F => v_wc a v G (k F)) := vn_ite (h _) (vn_c _)
theorem vn_cl (o : Option vO) {k : vF → Int → vG → Option vO} (h : ∀ v G, v_lin (fun F => k F v G)) : v_lin (fun F => v_cl o (k F)) := by
  unfold v_cl
  rcases o with _ | ⟨v | e, G⟩
  · exact vn_c none
  · exact h _ _
  · exact vn_c _
theorem vn_ins (ky : List Int) (Γ : vC) (m : Nat) (code : List vl) (l : vl) (r : List vl) (x : vL) : v_lin (fun F => vins ky Γ m code F l r x) := by
  obtain ⟨as, ls, th, tm, st, G⟩ := x
  unfold vins
  dsimp only
  split
  · split
    · exact vn_ps _ _ _ fun _ => vn_F _ _
    · exact vn_at _ _ fun _ => vn_ps _ _ _ fun _ => vn_F _ _
    · exact vn_at _ _ fun _ => vn_ps _ _ _ fun _ => vn_F _ _
    · exact vn_ps _ _ _ fun _ => vn_F _ _
    · exact vn_o _ fun _ => vn_ps _ _ _ fun _ => vn_F _ _
    · exact vn_c _
  · refine vn_p1 _ fun v st => ?_
    split
    · exact vn_cd _ (vn_F _ _)
    · exact vn_cd _ (vn_F _ _)
    · exact vn_F _ _
    · exact vn_F _ _
    · exact vn_F _ _
    · exact vn_c _
  · exact vn_p2 _ fun _ _ _ => vn_F _ _
  · exact vn_p2 _ fun _ _ _ => vn_F _ _
  · exact vn_p1 _ fun _ _ => vn_F _ _
  · exact vn_p2 _ fun _ _ _ => vn_F _ _
  · exact vn_p2 _ fun _ _ _ => vn_F _ _
  · exact vn_p1 _ fun _ _ => vn_F _ _
  · exact vn_p2 _ fun _ _ _ => vn_F _ _
  · exact vn_p2 _ fun _ _ _ => vn_F _ _
  · exact vn_p2 _ fun _ _ _ => vn_F _ _
  · exact vn_F _ _
  · exact vn_F _ _
  · exact vn_p1 _ fun _ _ => vn_ite (vn_F _ _) (vn_F _ _)
  · exact vn_cd _ (vn_cl _ fun _ _ => vn_ps _ _ _ fun _ => vn_F _ _)
  · exact vn_p1 _ fun _ _ => vn_c _
  · refine vn_p1 _ fun v st => ?_
    split
    · exact vn_rd _ _ _ fun _ _ => vn_F _ _
    · exact vn_rc _ _ fun _ _ => vn_F _ _
  · refine vn_p1 _ fun v st => vn_o _ fun w => ?_
    split
    · exact vn_wr _ _ _ fun _ => vn_F _ _
    · exact vn_wc _ _ _ fun _ => vn_F _ _
  · exact vn_o _ fun _ => vn_ps _ _ _ fun _ => vn_F _ _
  · exact vn_c _
theorem vn_body (ky : List Int) (Γ : vC) (m : Nat) (code : List vl) (r : List vl) (x : vL) : v_lin (fun F => vbody ky Γ m code F r x) := by
  cases r with
  | nil => exact vn_c none
  | cons l r => exact vn_ins _ _ _ _ _ _ _
section
variable {ky : List Int} {Γ : vC} {m : Nat} {code : List vl}
theorem vrun_mono : ∀ (n : Nat) (r : List vl) (x : vL) (o : vO), vrun ky Γ m code n r x = some o → vrun ky Γ m code (n + 1) r x = some o := by
  intro n
  induction n with
  | zero => intro r x o h; cases h
  | succ n ih =>
    intro r x o h
    rcases vn_body ky Γ m code r x with ⟨c, hc⟩ | ⟨r', x', hc⟩
    · have h1 : vrun ky Γ m code (n + 1) r x = c := hc _
      have h2 : vrun ky Γ m code (n + 1 + 1) r x = c := hc _
      rw [h2, ← h1]; exact h
    · have h1 : vrun ky Γ m code (n + 1) r x = vrun ky Γ m code n r' x' := hc _
      have h2 : vrun ky Γ m code (n + 1 + 1) r x = vrun ky Γ m code (n + 1) r' x' := hc _
      rw [h2]; rw [h1] at h; exact ih _ _ _ h
theorem vrun_le {n k : Nat} (h : n ≤ k) {r : List vl} {x : vL} {o : vO} (hx : vrun ky Γ m code n r x = some o) : vrun ky Γ m code k r x = some o := by
  induction h with
  | refl => exact hx
  | step _ ih => exact vrun_mono _ _ _ _ ih
end
noncomputable def vE (ky : List Int) (Γ : vC) (m : Nat) (code : List vl) : vF := fun r x => Classical.epsilon (fun o => (∃ n y, o = some y ∧ vrun ky Γ m code n r x = some y) ∨ (o = none ∧ ∀ n, vrun ky Γ m code n r x = none))
section
variable {ky : List Int} {Γ : vC} {m : Nat} {code : List vl} {r : List vl} {x : vL}
theorem vE_spec (ky : List Int) (Γ : vC) (m : Nat) (code : List vl) (r : List vl) (x : vL) : (∃ n y, vE ky Γ m code r x = some y ∧ vrun ky Γ m code n r x = some y) ∨ (vE ky Γ m code r x = none ∧ ∀ n, vrun ky Γ m code n r x = none) := by
  refine Classical.epsilon_spec (p := fun o => (∃ n y, o = some y ∧ vrun ky Γ m code n r x = some y) ∨ (o = none ∧ ∀ n, vrun ky Γ m code n r x = none)) ?_
  by_cases h : ∃ n y, vrun ky Γ m code n r x = some y
  · obtain ⟨n, y, h⟩ := h
    exact ⟨some y, Or.inl ⟨n, y, rfl, h⟩⟩
  · refine ⟨none, Or.inr ⟨rfl, fun n => ?_⟩⟩
    cases h1 : vrun ky Γ m code n r x with
    | none => rfl
    | some y => exact absurd ⟨n, y, h1⟩ h
theorem vE_some {o : vO} : vE ky Γ m code r x = some o ↔ ∃ n, vrun ky Γ m code n r x = some o := by
  rcases vE_spec ky Γ m code r x with ⟨n, y, h1, h2⟩ | ⟨h1, h2⟩
  · constructor
    · intro h; exact ⟨n, by rw [h2, ← h1]; exact h⟩
    · rintro ⟨k, h⟩
      rw [h1, ← vrun_le (Nat.le_max_left n k) h2, vrun_le (Nat.le_max_right n k) h]
  · constructor
    · intro h; rw [h1] at h; cases h
    · rintro ⟨k, h⟩; rw [h2] at h; cases h
theorem vE_eq {o : Option vO} (h : ∀ y, (∃ n, vrun ky Γ m code n r x = some y) ↔ o = some y) : vE ky Γ m code r x = o := by
  cases o with
  | some y => exact vE_some.mpr ((h y).mpr rfl)
  | none =>
    cases h1 : vE ky Γ m code r x with
    | none => rfl
    | some y => exact absurd ((h y).mp (vE_some.mp h1)) (by simp)
theorem vE_fix (r : List vl) (x : vL) : vE ky Γ m code r x = vbody ky Γ m code (vE ky Γ m code) r x := by
  rcases vn_body ky Γ m code r x with ⟨c, hc⟩ | ⟨r', x', hc⟩
  · refine Eq.trans ?_ (hc _).symm
    refine vE_eq fun y => ⟨?_, fun h => ⟨1, by rw [← h]; exact hc _⟩⟩
    rintro ⟨n, h⟩
    cases n with
    | zero => cases h
    | succ n => rw [← h]; exact (hc _).symm
  · refine Eq.trans ?_ (hc _).symm
    refine vE_eq fun y => ⟨?_, fun h => ?_⟩
    · rintro ⟨n, h⟩
      cases n with
      | zero => cases h
      | succ n => exact vE_some.mpr ⟨n, by rw [← h]; exact (hc _).symm⟩
    · obtain ⟨n, h⟩ := vE_some.mp h
      exact ⟨n + 1, by rw [← h]; exact hc _⟩
end
/-- unrolled, but not beyond labels that are cuts -/
def vunr (ky : List Int) (Γ : vC) (m : Nat) (code : List vl) (cuts : List Nat) (F : vF) : Nat → vF
  | 0 => F
  | n + 1 => fun r x => match r with
    | [] => none
    | l :: r => cond (Nat.beq l.1 11 && cuts.contains l.2.1) (F r x) (cond (Nat.beq l.1 12 && cuts.contains l.2.1) (F (vlab code l.2.1) x) (vins ky Γ m code (vunr ky Γ m code cuts F n) l r x))
theorem vunr_E (ky : List Int) (Γ : vC) (m : Nat) (code : List vl) (cuts : List Nat) : ∀ n : Nat, vunr ky Γ m code cuts (vE ky Γ m code) n = vE ky Γ m code := by
  intro n
  induction n with
  | zero => rfl
  | succ n ih =>
    funext r x
    obtain ⟨as, ls, th, tm, st, G⟩ := x
    cases r with
    | nil => rw [vE_fix]; rfl
    | cons l r =>
      show cond (Nat.beq l.1 11 && cuts.contains l.2.1) (vE ky Γ m code r _) (cond (Nat.beq l.1 12 && cuts.contains l.2.1) (vE ky Γ m code (vlab code l.2.1) _) (vins ky Γ m code (vunr ky Γ m code cuts (vE ky Γ m code) n) l r _)) = _
      rw [ih, vE_fix (r := l :: r)]
      obtain ⟨o, a, b⟩ := l
      cases h1 : (Nat.beq o 11 && cuts.contains a) with
      | true =>
        have : o = 11 := Nat.eq_of_beq_eq_true (Bool.and_eq_true_iff.1 h1).1
        subst this
        rfl
      | false =>
        dsimp only
        cases h2 : (Nat.beq o 12 && cuts.contains a) with
        | true =>
          have : o = 12 := Nat.eq_of_beq_eq_true (Bool.and_eq_true_iff.1 h2).1
          subst this
          rfl
        | false => rfl
/-- the lines from somewhere on -/
theorem v_cut (ky : List Int) (Γ : vC) (m : Nat) (code : List vl) (cuts : List Nat) (n : Nat) (r : List vl) (x : vL) : vE ky Γ m code r x = vbody ky Γ m code (vunr ky Γ m code cuts (vE ky Γ m code) n) r x := by
  rw [vE_fix, vunr_E]
