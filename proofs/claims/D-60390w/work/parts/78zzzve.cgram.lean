/-! CHIPS, 5: the grammar of chips. K: kinds (0 the end, 1 a word, 2 a name, 3 a number, 4 a sign, 5 none, 7 one too many), V: values -/
abbrev cF : Type := Int × Nat
/-- a link: left name, its range (bracket or -1, two numbers), right token, its range, the token behind it -/
abbrev cLk : Type := Nat × (Int × Int × Int) × Nat × (Int × Int × Int) × Nat
/-- a chip: its name, pins (name, number or -1), how many are IN, parts with links, inner names -/
abbrev cCh : Type := Nat × List (Nat × Int) × Nat × List (Nat × List cLk) × List Nat
section
variable (K V : Nat → Int)
abbrev cSg (c : Int) (i : Nat) : Prop := K i = 4 ∧ V i = c
abbrev cWd (c : Int) (i : Nat) : Prop := K i = 1 ∧ V i = c
def csx (i : Nat) : cF := (if K i = 7 then 2 else 1, i)
def c_rng (i : Nat) : cF ⊕ (Int × Int × Int × Nat) :=
  if cSg K V 91 i then
    (if K (i + 1) = 3 then
      (if cSg K V 256 (i + 2) then
        (if K (i + 3) = 3 then (if cSg K V 93 (i + 4) then .inr ((i : Int), V (i + 1), V (i + 3), i + 5) else .inl (csx K (i + 4))) else .inl (csx K (i + 3)))
      else if cSg K V 93 (i + 2) then .inr ((i : Int), V (i + 1), V (i + 1), i + 3) else .inl (csx K (i + 2)))
    else .inl (csx K (i + 1)))
  else .inr (-1, 0, 0, i)
/-- inner names behind a right side -/
def c_inn (P I : List Nat) (r : Nat) : cF ⊕ List Nat :=
  if V r ∈ P.map V ∨ V r ∈ I.map V then .inr I else if I.length < 100 then .inr (I ++ [r]) else .inl (2, r)
def c_rgt (P I : List Nat) (r : Nat) : cF ⊕ (List Nat × (Int × Int × Int) × Nat) :=
  if cWd K V 4 r ∨ cWd K V 5 r then .inr (I, (-1, 0, 0), r + 1)
  else if K r = 2 then
    match c_inn V P I r with
    | .inl e => .inl e
    | .inr I' => match c_rng K V (r + 1) with
      | .inl e => .inl e
      | .inr q => .inr (I', (q.1, q.2.1, q.2.2.1), q.2.2.2)
  else .inl (csx K r)
def c_lnk (P I : List Nat) (i : Nat) : cF ⊕ (cLk × List Nat) :=
  if K i = 2 then
    match c_rng K V (i + 1) with
    | .inl e => .inl e
    | .inr q =>
      if cSg K V 61 q.2.2.2 then
        match c_rgt K V P I (q.2.2.2 + 1) with
        | .inl e => .inl e
        | .inr w => .inr ((i, (q.1, q.2.1, q.2.2.1), q.2.2.2 + 1, w.2.1, w.2.2), w.1)
      else .inl (csx K q.2.2.2)
  else .inl (csx K i)
def c_lks (P : List Nat) : Nat → List Nat → Nat → List cLk → cF ⊕ (List cLk × List Nat × Nat)
  | 0, _, _, _ => .inl (9, 0)
  | m + 1, I, i, acc => match c_lnk K V P I i with
    | .inl e => .inl e
    | .inr w => if cSg K V 44 w.1.2.2.2.2 then c_lks P m w.2 (w.1.2.2.2.2 + 1) (acc ++ [w.1]) else .inr (acc ++ [w.1], w.2, w.1.2.2.2.2)
def c_prt (m : Nat) (ch : cCh) (i : Nat) : cF ⊕ (cCh × Nat) :=
  if K i = 2 then
    (if ch.2.2.2.1.length < 24 then
      (if cSg K V 40 (i + 1) then
        match c_lks K V (ch.2.1.map (·.1)) m ch.2.2.2.2 (i + 2) [] with
        | .inl e => .inl e
        | .inr w =>
          if cSg K V 41 w.2.2 then
            (if cSg K V 59 (w.2.2 + 1) then .inr ((ch.1, ch.2.1, ch.2.2.1, ch.2.2.2.1 ++ [(i, w.1)], w.2.1), w.2.2 + 2) else .inl (csx K (w.2.2 + 1)))
          else .inl (csx K w.2.2)
      else .inl (csx K (i + 1)))
    else .inl (2, i))
  else .inl (csx K i)
def c_pts (M : Nat) : Nat → cCh → Nat → cF ⊕ (cCh × Nat)
  | 0, _, _ => .inl (9, 0)
  | m + 1, ch, i => if cSg K V 125 i then .inr (ch, i + 1) else match c_prt K V M ch i with
    | .inl e => .inl e
    | .inr w => c_pts M m w.1 w.2
/-- behind a pin's name: its number, the token behind -/
def c_wid (i : Nat) : cF ⊕ (Int × Nat) :=
  if cSg K V 91 i then
    (if K (i + 1) = 3 then (if cSg K V 93 (i + 2) then .inr (((i + 1 : Nat) : Int), i + 3) else .inl (csx K (i + 2))) else .inl (csx K (i + 1)))
  else .inr (-1, i)
def c_pin : Nat → List (Nat × Int) → Nat → cF ⊕ (List (Nat × Int) × Nat)
  | 0, _, _ => .inl (9, 0)
  | m + 1, ps, i =>
    if K i = 2 then
      (if ps.length < 12 then
        match c_wid K V (i + 1) with
        | .inl e => .inl e
        | .inr w => if cSg K V 44 w.2 then c_pin m (ps ++ [(i, w.1)]) (w.2 + 1) else if cSg K V 59 w.2 then .inr (ps ++ [(i, w.1)], w.2 + 1) else .inl (csx K w.2)
      else .inl (2, i))
    else .inl (csx K i)
def c_chp (M nch : Nat) (i : Nat) : cF ⊕ (cCh × Nat) :=
  if cWd K V 0 i then
    (if K (i + 1) = 2 then
      (if nch < 16 then
        (if cSg K V 123 (i + 2) then
          (if cWd K V 1 (i + 3) then
            match c_pin K V M [] (i + 4) with
            | .inl e => .inl e
            | .inr w =>
              if cWd K V 2 w.2 then
                match c_pin K V M w.1 (w.2 + 1) with
                | .inl e => .inl e
                | .inr u =>
                  if cWd K V 3 u.2 then
                    (if cSg K V 58 (u.2 + 1) then c_pts K V M M (i + 1, u.1, w.1.length, [], []) (u.2 + 2) else .inl (csx K (u.2 + 1)))
                  else .inl (csx K u.2)
              else .inl (csx K w.2)
          else .inl (csx K (i + 3)))
        else .inl (csx K (i + 2)))
      else .inl (2, i + 1))
    else .inl (csx K (i + 1)))
  else .inl (csx K i)
def c_chs (M : Nat) : Nat → List cCh → Nat → cF ⊕ List cCh
  | 0, _, _ => .inl (9, 0)
  | m + 1, acc, i => match c_chp K V M acc.length i with
    | .inl e => .inl e
    | .inr w => if K w.2 = 0 then .inr (acc ++ [w.1]) else c_chs M m (acc ++ [w.1]) w.2
/-- the tokens: the last one is no word, name, number or sign -/
def cT (Z : Nat) : Prop := Z ≤ 2000 ∧ (K Z = 0 ∨ K Z = 5 ∨ K Z = 7) ∧ (∀ i, i < Z → 1 ≤ K i ∧ K i ≤ 4) ∧ (Z = 2000 ∨ K Z ≠ 7)
end
section
variable {K V : Nat → Int} {Z : Nat}
/-- a place at which all is wrong -/
def stkx (K : Nat → Int) (j : Nat) : Prop := K j = 5 ∨ K j = 7
theorem cT.lt (T : cT K Z) {i : Nat} (hi : i ≤ Z) (h : 1 ≤ K i ∧ K i ≤ 4) : i < Z := by
  rcases Nat.lt_or_ge i Z with z | z
  · exact z
  · have : i = Z := by omega
    subst this
    rcases T.2.1 with y | y | y <;> omega
theorem stkx.sg {j : Nat} (s : stkx K j) (c : Int) : ¬ cSg K V c j := by rintro ⟨z, -⟩; rcases s with y | y <;> omega
theorem stkx.wd {j : Nat} (s : stkx K j) (c : Int) : ¬ cWd K V c j := by rintro ⟨z, -⟩; rcases s with y | y <;> omega
theorem stkx.k {j : Nat} (s : stkx K j) : K j ≠ 0 ∧ K j ≠ 1 ∧ K j ≠ 2 ∧ K j ≠ 3 ∧ K j ≠ 4 := by rcases s with y | y <;> omega
theorem c_rng_s {j : Nat} (s : stkx K j) : c_rng K V j = .inr (-1, 0, 0, j) := by unfold c_rng; rw [if_neg (s.sg 91)]
theorem c_lnk_s {j : Nat} (s : stkx K j) (P I : List Nat) : c_lnk K V P I j = .inl (csx K j) := by unfold c_lnk; rw [if_neg s.k.2.2.1]
theorem c_lks_s {j m : Nat} (s : stkx K j) (P I : List Nat) (acc : List cLk) : c_lks K V P (m + 1) I j acc = .inl (csx K j) := by unfold c_lks; rw [c_lnk_s s]
theorem c_prt_s {j m : Nat} (s : stkx K j) (ch : cCh) : c_prt K V m ch j = .inl (csx K j) := by unfold c_prt; rw [if_neg s.k.2.2.1]
theorem c_pts_s {j m M : Nat} (s : stkx K j) (ch : cCh) : c_pts K V M (m + 1) ch j = .inl (csx K j) := by unfold c_pts; rw [if_neg (s.sg 125), c_prt_s s]
theorem c_wid_s {j : Nat} (s : stkx K j) : c_wid K V j = .inr (-1, j) := by unfold c_wid; rw [if_neg (s.sg 91)]
theorem c_pin_s {j m : Nat} (s : stkx K j) (ps : List (Nat × Int)) : c_pin K V (m + 1) ps j = .inl (csx K j) := by unfold c_pin; rw [if_neg s.k.2.2.1]
theorem c_chp_s {j M n : Nat} (s : stkx K j) : c_chp K V M n j = .inl (csx K j) := by unfold c_chp; rw [if_neg (s.wd 0)]
theorem c_rgt_s {j : Nat} (s : stkx K j) (P I : List Nat) : c_rgt K V P I j = .inl (csx K j) := by
  unfold c_rgt
  rw [if_neg (by rintro (z | z); exact s.wd 4 z; exact s.wd 5 z), if_neg s.k.2.2.1]
/-- ranges end within the tokens -/
theorem c_rng_rg (T : cT K Z) {i : Nat} (hi : i ≤ Z) : match c_rng K V i with
      | .inl e => e.2 ≤ Z ∧ (e.1 = 1 ∨ e.1 = 2)
      | .inr q => i ≤ q.2.2.2 ∧ q.2.2.2 ≤ Z ∧ (q.1 = -1 ∧ q.2.2.2 = i ∨ q.1 = (i : Int) ∧ cSg K V 91 i ∧ i + 3 ≤ q.2.2.2) := by
  have sx : ∀ j, j ≤ Z → (csx K j).2 ≤ Z ∧ ((csx K j).1 = 1 ∨ (csx K j).1 = 2) := fun j hj => ⟨hj, by unfold csx; dsimp only; split <;> omega⟩
  unfold c_rng
  by_cases c1 : cSg K V 91 i
  · have l1 := T.lt hi (by rw [c1.1]; omega)
    rw [if_pos c1]
    by_cases c2 : K (i + 1) = 3
    · have l2 := T.lt (i := i + 1) (by omega) (by rw [c2]; omega)
      rw [if_pos c2]
      by_cases c3 : cSg K V 256 (i + 2)
      · have l3 := T.lt (i := i + 2) (by omega) (by rw [c3.1]; omega)
        rw [if_pos c3]
        by_cases c4 : K (i + 3) = 3
        · have l4 := T.lt (i := i + 3) (by omega) (by rw [c4]; omega)
          rw [if_pos c4]
          by_cases c5 : cSg K V 93 (i + 4)
          · have l5 := T.lt (i := i + 4) (by omega) (by rw [c5.1]; omega)
            rw [if_pos c5]
            exact ⟨by dsimp only; omega, by dsimp only; omega, Or.inr ⟨rfl, c1, by dsimp only; omega⟩⟩
          · rw [if_neg c5]; exact sx _ (by omega)
        · rw [if_neg c4]; exact sx _ (by omega)
      · rw [if_neg c3]
        by_cases c5 : cSg K V 93 (i + 2)
        · have l5 := T.lt (i := i + 2) (by omega) (by rw [c5.1]; omega)
          rw [if_pos c5]
          exact ⟨by dsimp only; omega, by dsimp only; omega, Or.inr ⟨rfl, c1, by dsimp only; omega⟩⟩
        · rw [if_neg c5]; exact sx _ (by omega)
    · rw [if_neg c2]; exact sx _ (by omega)
  · rw [if_neg c1]
    exact ⟨Nat.le_refl _, hi, Or.inl ⟨rfl, rfl⟩⟩
theorem csx_rg (j : Nat) : (csx K j).2 = j ∧ ((csx K j).1 = 1 ∨ (csx K j).1 = 2) := ⟨rfl, by unfold csx; dsimp only; split <;> omega⟩
theorem c_rgt_rg (T : cT K Z) {P I : List Nat} {r : Nat} (hr : r ≤ Z) : match c_rgt K V P I r with
      | .inl e => e.2 ≤ Z ∧ (e.1 = 1 ∨ e.1 = 2)
      | .inr q => r < q.2.2 ∧ q.2.2 ≤ Z := by
  unfold c_rgt
  by_cases c1 : cWd K V 4 r ∨ cWd K V 5 r
  · have l1 := T.lt hr (by rcases c1 with z | z <;> (rw [z.1]; omega))
    rw [if_pos c1]
    exact ⟨by dsimp only; omega, by dsimp only; omega⟩
  rw [if_neg c1]
  by_cases c2 : K r = 2
  · have l1 := T.lt hr (by rw [c2]; omega)
    rw [if_pos c2]
    cases h1 : c_inn V P I r with
    | inl e =>
      unfold c_inn at h1
      split at h1
      · cases h1
      · split at h1
        · cases h1
        · cases h1; exact ⟨hr, Or.inr rfl⟩
    | inr I' =>
      dsimp only
      have q1 := c_rng_rg (V := V) T (i := r + 1) (by omega)
      cases h2 : c_rng K V (r + 1) with
      | inl e => rw [h2] at q1; exact q1
      | inr q => rw [h2] at q1; dsimp only at q1 ⊢; omega
  · rw [if_neg c2]; have := csx_rg (K := K) r; exact ⟨by omega, this.2⟩
theorem c_lnk_rg (T : cT K Z) {P I : List Nat} {i : Nat} (hi : i ≤ Z) : match c_lnk K V P I i with
      | .inl e => e.2 ≤ Z ∧ (e.1 = 1 ∨ e.1 = 2)
      | .inr q => i < q.1.2.2.2.2 ∧ q.1.2.2.2.2 ≤ Z := by
  unfold c_lnk
  by_cases c1 : K i = 2
  · have l1 := T.lt hi (by rw [c1]; omega)
    rw [if_pos c1]
    have q1 := c_rng_rg (V := V) T (i := i + 1) (by omega)
    cases h2 : c_rng K V (i + 1) with
    | inl e => rw [h2] at q1; exact q1
    | inr q =>
      rw [h2] at q1
      dsimp only at q1 ⊢
      by_cases c2 : cSg K V 61 q.2.2.2
      · have l2 := T.lt q1.2.1 (by rw [c2.1]; omega)
        rw [if_pos c2]
        have q2 := c_rgt_rg (V := V) T (P := P) (I := I) (r := q.2.2.2 + 1) (by omega)
        cases h3 : c_rgt K V P I (q.2.2.2 + 1) with
        | inl e => rw [h3] at q2; exact q2
        | inr w => rw [h3] at q2; dsimp only at q2 ⊢; omega
      · rw [if_neg c2]; have := csx_rg (K := K) q.2.2.2; exact ⟨by omega, this.2⟩
  · rw [if_neg c1]; have := csx_rg (K := K) i; exact ⟨by omega, this.2⟩
theorem c_lks_rg (T : cT K Z) {P : List Nat} : ∀ (m : Nat) {I : List Nat} {i : Nat} {acc : List cLk}, i ≤ Z → Z < i + m → match c_lks K V P m I i acc with
      | .inl e => e.2 ≤ Z ∧ (e.1 = 1 ∨ e.1 = 2)
      | .inr q => i < q.2.2 ∧ q.2.2 ≤ Z
  | 0, I, i, acc, hi, hm => by omega
  | m + 1, I, i, acc, hi, hm => by
    unfold c_lks
    have q1 := c_lnk_rg (V := V) T (P := P) (I := I) hi
    cases h1 : c_lnk K V P I i with
    | inl e => rw [h1] at q1; exact q1
    | inr w =>
      rw [h1] at q1
      dsimp only at q1 ⊢
      by_cases c : cSg K V 44 w.1.2.2.2.2
      · have l2 := T.lt q1.2 (by rw [c.1]; omega)
        rw [if_pos c]
        have q2 := c_lks_rg T (P := P) m (I := w.2) (i := w.1.2.2.2.2 + 1) (acc := acc ++ [w.1]) (by omega) (by omega)
        cases h2 : c_lks K V P m w.2 (w.1.2.2.2.2 + 1) (acc ++ [w.1]) with
        | inl e => rw [h2] at q2; exact q2
        | inr u => rw [h2] at q2; dsimp only at q2 ⊢; omega
      · rw [if_neg c]
        exact q1
theorem c_prt_rg (T : cT K Z) {m : Nat} {ch : cCh} {i : Nat} (hi : i ≤ Z) (hm : Z < i + m) : match c_prt K V m ch i with
      | .inl e => e.2 ≤ Z ∧ (e.1 = 1 ∨ e.1 = 2)
      | .inr q => i < q.2 ∧ q.2 ≤ Z := by
  have sx : ∀ j, j ≤ Z → (csx K j).2 ≤ Z ∧ ((csx K j).1 = 1 ∨ (csx K j).1 = 2) := fun j hj => ⟨hj, (csx_rg j).2⟩
  unfold c_prt
  by_cases c1 : K i = 2
  · have l1 := T.lt hi (by rw [c1]; omega)
    rw [if_pos c1]
    by_cases c2 : ch.2.2.2.1.length < 24
    · rw [if_pos c2]
      by_cases c3 : cSg K V 40 (i + 1)
      · have l2 := T.lt (i := i + 1) (by omega) (by rw [c3.1]; omega)
        rw [if_pos c3]
        have q2 := c_lks_rg (V := V) T (P := ch.2.1.map (·.1)) m (I := ch.2.2.2.2) (i := i + 2) (acc := []) (by omega) (by omega)
        cases h2 : c_lks K V (ch.2.1.map (·.1)) m ch.2.2.2.2 (i + 2) [] with
        | inl e => rw [h2] at q2; exact q2
        | inr w =>
          rw [h2] at q2
          dsimp only at q2 ⊢
          by_cases c4 : cSg K V 41 w.2.2
          · have l3 := T.lt q2.2 (by rw [c4.1]; omega)
            rw [if_pos c4]
            by_cases c5 : cSg K V 59 (w.2.2 + 1)
            · have l4 := T.lt (i := w.2.2 + 1) (by omega) (by rw [c5.1]; omega)
              rw [if_pos c5]; exact ⟨by dsimp only; omega, by dsimp only; omega⟩
            · rw [if_neg c5]; exact sx _ (by omega)
          · rw [if_neg c4]; exact sx _ (by omega)
      · rw [if_neg c3]; exact sx _ (by omega)
    · rw [if_neg c2]; exact ⟨hi, Or.inr rfl⟩
  · rw [if_neg c1]; exact sx _ hi
theorem c_pts_rg (T : cT K Z) {M : Nat} (hM : Z < M) : ∀ (m : Nat) {ch : cCh} {i : Nat}, i ≤ Z → Z < i + m → match c_pts K V M m ch i with
      | .inl e => e.2 ≤ Z ∧ (e.1 = 1 ∨ e.1 = 2)
      | .inr q => i < q.2 ∧ q.2 ≤ Z
  | 0, ch, i, hi, hm => by omega
  | m + 1, ch, i, hi, hm => by
    unfold c_pts
    by_cases c : cSg K V 125 i
    · have l1 := T.lt hi (by rw [c.1]; omega)
      rw [if_pos c]; exact ⟨by dsimp only; omega, by dsimp only; omega⟩
    · rw [if_neg c]
      have q1 := c_prt_rg (V := V) T (m := M) (ch := ch) hi (by omega)
      cases h1 : c_prt K V M ch i with
      | inl e => rw [h1] at q1; exact q1
      | inr w =>
        rw [h1] at q1
        dsimp only at q1 ⊢
        have q2 := c_pts_rg T hM m (ch := w.1) (i := w.2) q1.2 (by omega)
        cases h2 : c_pts K V M m w.1 w.2 with
        | inl e => rw [h2] at q2; exact q2
        | inr u => rw [h2] at q2; dsimp only at q2 ⊢; omega
theorem c_wid_rg (T : cT K Z) {i : Nat} (hi : i ≤ Z) : match c_wid K V i with
      | .inl e => e.2 ≤ Z ∧ (e.1 = 1 ∨ e.1 = 2)
      | .inr q => i ≤ q.2 ∧ q.2 ≤ Z ∧ (q.1 = -1 ∧ q.2 = i ∧ ¬ cSg K V 91 i ∨ q.1 = ((i + 1 : Nat) : Int) ∧ q.2 = i + 3 ∧ cSg K V 91 i ∧ K (i + 1) = 3) := by
  have sx : ∀ j, j ≤ Z → (csx K j).2 ≤ Z ∧ ((csx K j).1 = 1 ∨ (csx K j).1 = 2) := fun j hj => ⟨hj, (csx_rg j).2⟩
  unfold c_wid
  by_cases c1 : cSg K V 91 i
  · have l1 := T.lt hi (by rw [c1.1]; omega)
    rw [if_pos c1]
    by_cases c2 : K (i + 1) = 3
    · have l2 := T.lt (i := i + 1) (by omega) (by rw [c2]; omega)
      rw [if_pos c2]
      by_cases c3 : cSg K V 93 (i + 2)
      · have l3 := T.lt (i := i + 2) (by omega) (by rw [c3.1]; omega)
        rw [if_pos c3]; exact ⟨by dsimp only; omega, by dsimp only; omega, Or.inr ⟨rfl, rfl, c1, c2⟩⟩
      · rw [if_neg c3]; exact sx _ (by omega)
    · rw [if_neg c2]; exact sx _ (by omega)
  · rw [if_neg c1]; exact ⟨Nat.le_refl _, hi, Or.inl ⟨rfl, rfl, c1⟩⟩
theorem c_pin_rg (T : cT K Z) : ∀ (m : Nat) {ps : List (Nat × Int)} {i : Nat}, i ≤ Z → Z < i + m → match c_pin K V m ps i with
      | .inl e => e.2 ≤ Z ∧ (e.1 = 1 ∨ e.1 = 2)
      | .inr q => i < q.2 ∧ q.2 ≤ Z
  | 0, ps, i, hi, hm => by omega
  | m + 1, ps, i, hi, hm => by
    have sx : ∀ j, j ≤ Z → (csx K j).2 ≤ Z ∧ ((csx K j).1 = 1 ∨ (csx K j).1 = 2) := fun j hj => ⟨hj, (csx_rg j).2⟩
    unfold c_pin
    by_cases c1 : K i = 2
    · have l1 := T.lt hi (by rw [c1]; omega)
      rw [if_pos c1]
      by_cases c2 : ps.length < 12
      · rw [if_pos c2]
        have q1 := c_wid_rg (V := V) T (i := i + 1) (by omega)
        cases h1 : c_wid K V (i + 1) with
        | inl e => rw [h1] at q1; exact q1
        | inr w =>
          rw [h1] at q1
          dsimp only at q1 ⊢
          by_cases c3 : cSg K V 44 w.2
          · have l2 := T.lt q1.2.1 (by rw [c3.1]; omega)
            rw [if_pos c3]
            have q2 := c_pin_rg T m (ps := ps ++ [(i, w.1)]) (i := w.2 + 1) (by omega) (by omega)
            cases h2 : c_pin K V m (ps ++ [(i, w.1)]) (w.2 + 1) with
            | inl e => rw [h2] at q2; exact q2
            | inr u => rw [h2] at q2; dsimp only at q2 ⊢; omega
          · rw [if_neg c3]
            by_cases c4 : cSg K V 59 w.2
            · have l2 := T.lt q1.2.1 (by rw [c4.1]; omega)
              rw [if_pos c4]; exact ⟨by dsimp only; omega, by dsimp only; omega⟩
            · rw [if_neg c4]; exact sx _ (by omega)
      · rw [if_neg c2]; exact ⟨hi, Or.inr rfl⟩
    · rw [if_neg c1]; exact sx _ hi
end
