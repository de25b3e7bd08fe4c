/-! PURE LAYER, 5: how a text is cut into tokens. t: its bytes (0 .. 255), n: how many -/
def lx_at (t : Nat → Int) (n k : Nat) : Int := if k < n then t k else -1
abbrev lx_digit (c : Int) : Prop := 48 ≤ c ∧ c ≤ 57
abbrev lx_letter (c : Int) : Prop := (97 ≤ c ∧ c ≤ 122) ∨ (65 ≤ c ∧ c ≤ 90) ∨ c = 95
abbrev lx_part (c : Int) : Prop := lx_digit c ∨ lx_letter c
abbrev lx_sign (c : Int) : Prop := c = 38 ∨ (40 ≤ c ∧ c ≤ 47) ∨ (59 ≤ c ∧ c ≤ 62) ∨ c = 91 ∨ c = 93 ∨ (123 ≤ c ∧ c ≤ 126)
abbrev lx_blank (c : Int) : Prop := c = 32 ∨ c = 9 ∨ c = 10 ∨ c = 13
section
variable (t : Nat → Int) (n : Nat)
/-- the end of a line comment -/
def lx_line : Nat → Nat → Nat
  | 0, k => k
  | m + 1, k => if k < n ∧ t k ≠ 10 then lx_line m (k + 1) else k
/-- the end of a long comment: where its last two bytes begin, or n -/
def lx_star : Nat → Nat → Nat
  | 0, k => k
  | m + 1, k => if k < n ∧ ¬ (t k = 42 ∧ lx_at t n (k + 1) = 47) then lx_star m (k + 1) else k
/-- behind blanks and comments: whether each comment ends, and where -/
def lx_skip : Nat → Nat → Bool × Nat
  | 0, k => (true, k)
  | m + 1, k =>
    if n ≤ k then (true, k)
    else if t k = 47 ∧ lx_at t n (k + 1) = 47 then lx_skip m (lx_line t n n k)
    else if t k = 47 ∧ lx_at t n (k + 1) = 42 then (if n ≤ lx_star t n n (k + 2) then (false, k) else lx_skip m (lx_star t n n (k + 2) + 2))
    else if lx_blank (t k) then lx_skip m (k + 1)
    else (true, k)
/-- the end of a word, of digits, of a string -/
def lx_word : Nat → Nat → Nat
  | 0, k => k
  | m + 1, k => if lx_part (lx_at t n k) then lx_word m (k + 1) else k
def lx_digs : Nat → Nat → Nat
  | 0, k => k
  | m + 1, k => if lx_digit (lx_at t n k) then lx_digs m (k + 1) else k
def lx_num : Nat → Nat → Int → Int
  | 0, _, v => v
  | m + 1, k, v => lx_num m (k + 1) (10 * v + t k - 48)
def lx_str : Nat → Nat → Nat
  | 0, k => k
  | m + 1, k => if 32 ≤ lx_at t n k ∧ lx_at t n k < 127 ∧ lx_at t n k ≠ 34 then lx_str m (k + 1) else k
end
theorem lx_line_rg (t : Nat → Int) (n : Nat) : ∀ m k, n ≤ k + m → k ≤ lx_line t n m k ∧ (k ≤ n → lx_line t n m k ≤ n) ∧ (lx_line t n m k < n → t (lx_line t n m k) = 10)
  | 0, k, h => ⟨Nat.le_refl k, fun z => z, fun z => by unfold lx_line at z; omega⟩
  | m + 1, k, h => by
    unfold lx_line
    split
    · rename_i c
      obtain ⟨a, b, e⟩ := lx_line_rg t n m (k + 1) (by omega)
      exact ⟨by omega, fun _ => b (by omega), e⟩
    · rename_i c
      refine ⟨Nat.le_refl k, fun z => z, fun z => ?_⟩
      apply Classical.byContradiction
      intro z2
      exact c ⟨z, z2⟩
theorem lx_star_rg (t : Nat → Int) (n : Nat) : ∀ m k, n ≤ k + m → k ≤ lx_star t n m k ∧ (lx_star t n m k < n → t (lx_star t n m k) = 42 ∧ lx_at t n (lx_star t n m k + 1) = 47)
  | 0, k, h => ⟨Nat.le_refl k, fun z => by unfold lx_star at z; omega⟩
  | m + 1, k, h => by
    unfold lx_star
    split
    · rename_i c
      obtain ⟨a, e⟩ := lx_star_rg t n m (k + 1) (by omega)
      exact ⟨by omega, e⟩
    · rename_i c
      refine ⟨Nat.le_refl k, fun z => ?_⟩
      apply Classical.byContradiction
      intro z2
      exact c ⟨z, z2⟩
/-- behind what is skipped something else begins -/
theorem lx_skip_rg (t : Nat → Int) (n : Nat) : ∀ m k, k ≤ n → n < k + m → k ≤ (lx_skip t n m k).2 ∧ (lx_skip t n m k).2 ≤ n ∧ ((lx_skip t n m k).1 = false → (lx_skip t n m k).2 < n) ∧ ((lx_skip t n m k).1 = true → (lx_skip t n m k).2 < n → ¬ lx_blank (t (lx_skip t n m k).2))
  | 0, k, h1, h2 => by omega
  | m + 1, k, h1, h2 => by
    unfold lx_skip
    split
    · exact ⟨Nat.le_refl k, h1, fun z => (by cases z), fun _ z => (by dsimp only at z; omega)⟩
    · rename_i c
      split
      · rename_i c1
        obtain ⟨a, b, e⟩ := lx_line_rg t n n k (by omega)
        have hlt : k < lx_line t n n k := by
          apply Classical.byContradiction
          intro z
          have hk : lx_line t n n k = k := by omega
          rw [hk] at e
          have := e (by omega)
          omega
        obtain ⟨r1, r2, r3, r4⟩ := lx_skip_rg t n m (lx_line t n n k) (b h1) (by omega)
        exact ⟨by omega, r2, r3, r4⟩
      · split
        · rename_i c2
          split
          · exact ⟨Nat.le_refl k, h1, fun _ => (by dsimp only; omega), fun z => (by cases z)⟩
          · rename_i c3
            obtain ⟨a, e⟩ := lx_star_rg t n n (k + 2) (by omega)
            have e2 := (e (by omega)).2
            have : lx_star t n n (k + 2) + 1 < n := by
              apply Classical.byContradiction
              intro z
              unfold lx_at at e2
              rw [if_neg z] at e2
              cases e2
            obtain ⟨r1, r2, r3, r4⟩ := lx_skip_rg t n m (lx_star t n n (k + 2) + 2) (by omega) (by omega)
            exact ⟨by omega, r2, r3, r4⟩
        · split
          · obtain ⟨r1, r2, r3, r4⟩ := lx_skip_rg t n m (k + 1) (by omega) (by omega)
            exact ⟨by omega, r2, r3, r4⟩
          · rename_i c4
            exact ⟨Nat.le_refl k, h1, fun z => (by cases z), fun _ _ => c4⟩
section
variable (t : Nat → Int) (n : Nat)
/-- what stands between two places -/
def lx_span (a b : Nat) : List Int := (List.range (b - a)).map fun i => t (a + i)
/-- a token that begins at a place: kind (2 a word, 3 a number, 4 a string, 5 a sign, 6 none), value, the place behind it -/
def lx_tok (k : Nat) : Int × Int × Nat :=
  if lx_letter (t k) then (if 16 < lx_word t n n k - k then (6, 0, lx_word t n n k) else (2, 0, lx_word t n n k))
  else if lx_digit (t k) then (if lx_digs t n n k - k ≤ 5 ∧ lx_num t (lx_digs t n n k - k) k 0 ≤ 32767 ∧ ¬ lx_part (lx_at t n (lx_digs t n n k)) then (3, lx_num t (lx_digs t n n k - k) k 0, lx_digs t n n k) else (6, 0, lx_digs t n n k))
  else if t k = 34 then (if lx_at t n (lx_str t n 60 (k + 1)) = 34 then (4, (lx_str t n 60 (k + 1) - k - 1 : Nat), lx_str t n 60 (k + 1) + 1) else (6, 0, lx_str t n 60 (k + 1) + 1))
  else if lx_sign (t k) then (5, t k, k + 1) else (6, t k, k + 1)
/-- the token with its name's number, the names behind it, the place behind it -/
def lx_res (N : List (List Int)) (k : Nat) : (Int × Int × Int) × List (List Int) × Nat :=
  if (lx_tok t n k).1 = 2 then (((if N.idxOf (lx_span t k (lx_tok t n k).2.2) < 21 then 1 else 2 : Int), ((N.idxOf (lx_span t k (lx_tok t n k).2.2) : Nat) : Int), (k : Int)), pn_add N (lx_span t k (lx_tok t n k).2.2), (lx_tok t n k).2.2)
  else (((lx_tok t n k).1, (lx_tok t n k).2.1, (k : Int)), N, (lx_tok t n k).2.2)
/-- all tokens from a place on (c are there already): kinds (0 the end, 1 a word of the language, 2 a name, 3 .. 6), values, places; the names -/
def lx_toks (most : Nat) : Nat → Nat → Nat → List (List Int) → List (Int × Int × Int) × List (List Int)
  | 0, _, _, N => ([], N)
  | m + 1, c, k, N =>
    if (lx_skip t n (n + 1) k).1 = false then ([(6, 0, ((lx_skip t n (n + 1) k).2 : Nat))], N)
    else if n ≤ (lx_skip t n (n + 1) k).2 then ([(0, 0, ((lx_skip t n (n + 1) k).2 : Nat))], N)
    else if (lx_res t n N (lx_skip t n (n + 1) k).2).1.1 = 6 ∨ most < c + 1 then ([(lx_res t n N (lx_skip t n (n + 1) k).2).1], (lx_res t n N (lx_skip t n (n + 1) k).2).2.1)
    else ((lx_res t n N (lx_skip t n (n + 1) k).2).1 :: (lx_toks most m (c + 1) (lx_res t n N (lx_skip t n (n + 1) k).2).2.2 (lx_res t n N (lx_skip t n (n + 1) k).2).2.1).1, (lx_toks most m (c + 1) (lx_res t n N (lx_skip t n (n + 1) k).2).2.2 (lx_res t n N (lx_skip t n (n + 1) k).2).2.1).2)
end
section
variable {t : Nat → Int} {n : Nat}
theorem lx_word_rg : ∀ m k, k ≤ n → n ≤ k + m → k ≤ lx_word t n m k ∧ lx_word t n m k ≤ n ∧ (∀ j, k ≤ j → j < lx_word t n m k → lx_part (t j)) ∧ ¬ lx_part (lx_at t n (lx_word t n m k))
  | 0, k, h1, h2 => ⟨Nat.le_refl k, h1, fun j a b => by unfold lx_word at b; omega, by
      unfold lx_word lx_at; rw [if_neg (by omega)]; unfold lx_part lx_digit lx_letter; omega⟩
  | m + 1, k, h1, h2 => by
    unfold lx_word
    split
    · rename_i c
      have hkn : k < n := by
        apply Classical.byContradiction
        intro z
        unfold lx_at at c
        rw [if_neg z] at c
        unfold lx_part lx_digit lx_letter at c
        omega
      have e : lx_at t n k = t k := if_pos hkn
      obtain ⟨a, b, f, g⟩ := lx_word_rg m (k + 1) (by omega) (by omega)
      refine ⟨by omega, b, fun j hj1 hj2 => ?_, g⟩
      by_cases hj : j = k
      · subst hj; rw [← e]; exact c
      · exact f j (by omega) hj2
    · rename_i c
      exact ⟨Nat.le_refl k, h1, fun j a b => by omega, c⟩
theorem lx_digs_rg : ∀ m k, k ≤ n → n ≤ k + m → k ≤ lx_digs t n m k ∧ lx_digs t n m k ≤ n ∧ (∀ j, k ≤ j → j < lx_digs t n m k → lx_digit (t j)) ∧ ¬ lx_digit (lx_at t n (lx_digs t n m k))
  | 0, k, h1, h2 => ⟨Nat.le_refl k, h1, fun j a b => by unfold lx_digs at b; omega, by
      unfold lx_digs lx_at; rw [if_neg (by omega)]; unfold lx_digit; omega⟩
  | m + 1, k, h1, h2 => by
    unfold lx_digs
    split
    · rename_i c
      have hkn : k < n := by
        apply Classical.byContradiction
        intro z
        unfold lx_at at c
        rw [if_neg z] at c
        unfold lx_digit at c
        omega
      have e : lx_at t n k = t k := if_pos hkn
      obtain ⟨a, b, f, g⟩ := lx_digs_rg m (k + 1) (by omega) (by omega)
      refine ⟨by omega, b, fun j hj1 hj2 => ?_, g⟩
      by_cases hj : j = k
      · subst hj; rw [← e]; exact c
      · exact f j (by omega) hj2
    · rename_i c
      exact ⟨Nat.le_refl k, h1, fun j a b => by omega, c⟩
theorem lx_str_rg : ∀ m k, k ≤ n → k ≤ lx_str t n m k ∧ lx_str t n m k ≤ n ∧ lx_str t n m k ≤ k + m
  | 0, k, h1 => ⟨Nat.le_refl k, h1, Nat.le_refl k⟩
  | m + 1, k, h1 => by
    unfold lx_str
    split
    · rename_i c
      have hkn : k < n := by
        apply Classical.byContradiction
        intro z
        unfold lx_at at c
        rw [if_neg z] at c
        omega
      obtain ⟨a, b, e⟩ := lx_str_rg m (k + 1) (by omega)
      exact ⟨by omega, b, by omega⟩
    · exact ⟨Nat.le_refl k, h1, by omega⟩
theorem lx_span_len (a b : Nat) : (lx_span t a b).length = b - a := by unfold lx_span; simp
theorem lx_span_at {a b q : Nat} {x : Int} (h : (lx_span t a b)[q]? = some x) : q < b - a ∧ x = t (a + q) := by
  unfold lx_span at h
  rw [List.getElem?_map] at h
  have hq : q < b - a := by
    apply Classical.byContradiction
    intro z
    rw [List.getElem?_eq_none (by simp; omega)] at h
    cases h
  rw [List.getElem?_range hq] at h
  exact ⟨hq, (Option.some.inj h).symm⟩
/-- a number of at most m digits -/
theorem lx_num_rg : ∀ m k v, 0 ≤ v → (∀ j, k ≤ j → j < k + m → lx_digit (t j)) → 0 ≤ lx_num t m k v
  | 0, k, v, h, _ => h
  | m + 1, k, v, h, hd => by
    unfold lx_num
    have := hd k (by omega) (by omega)
    unfold lx_digit at this
    exact lx_num_rg m (k + 1) _ (by omega) (fun j a b => hd j (by omega) (by omega))
end
theorem lx_part_of_letter {c : Int} (h : lx_letter c) : lx_part c := Or.inr h
theorem lx_part_of_digit {c : Int} (h : lx_digit c) : lx_part c := Or.inl h
/-- a token that is one ends behind its beginning, and not behind the text -/
theorem lx_tok_rg {t : Nat → Int} {n k : Nat} (hk : k < n) (h6 : (lx_tok t n k).1 ≠ 6) : k < (lx_tok t n k).2.2 ∧ (lx_tok t n k).2.2 ≤ n ∧ ((lx_tok t n k).1 = 2 → (lx_tok t n k).2.2 - k ≤ 16) := by
  unfold lx_tok at h6 ⊢
  have e : lx_at t n k = t k := if_pos hk
  by_cases c1 : lx_letter (t k)
  · rw [if_pos c1] at h6 ⊢
    obtain ⟨a, b, f, g⟩ := lx_word_rg (t := t) (n := n) n k (by omega) (by omega)
    by_cases c2 : 16 < lx_word t n n k - k
    · rw [if_pos c2] at h6; exact absurd rfl h6
    · rw [if_neg c2]
      refine ⟨?_, b, fun _ => by dsimp only; omega⟩
      show k < lx_word t n n k
      apply Classical.byContradiction
      intro z
      have ez : lx_word t n n k = k := by omega
      rw [ez, e] at g
      exact g (Or.inr c1)
  · rw [if_neg c1] at h6 ⊢
    by_cases c2 : lx_digit (t k)
    · rw [if_pos c2] at h6 ⊢
      obtain ⟨a, b, f, g⟩ := lx_digs_rg (t := t) (n := n) n k (by omega) (by omega)
      by_cases c3 : lx_digs t n n k - k ≤ 5 ∧ lx_num t (lx_digs t n n k - k) k 0 ≤ 32767 ∧ ¬ lx_part (lx_at t n (lx_digs t n n k))
      · rw [if_pos c3]
        refine ⟨?_, b, fun z => by cases z⟩
        show k < lx_digs t n n k
        apply Classical.byContradiction
        intro z
        have ez : lx_digs t n n k = k := by omega
        rw [ez, e] at g
        exact g c2
      · rw [if_neg c3] at h6; exact absurd rfl h6
    · rw [if_neg c2] at h6 ⊢
      by_cases c3 : t k = 34
      · rw [if_pos c3] at h6 ⊢
        obtain ⟨a, b, f⟩ := lx_str_rg (t := t) (n := n) 60 (k + 1) (by omega)
        by_cases c4 : lx_at t n (lx_str t n 60 (k + 1)) = 34
        · rw [if_pos c4]
          refine ⟨?_, ?_, fun z => by cases z⟩
          · show k < lx_str t n 60 (k + 1) + 1; omega
          · show lx_str t n 60 (k + 1) + 1 ≤ n
            apply Classical.byContradiction
            intro z
            unfold lx_at at c4
            rw [if_neg (by omega)] at c4
            cases c4
        · rw [if_neg c4] at h6; exact absurd rfl h6
      · rw [if_neg c3] at h6 ⊢
        by_cases c4 : lx_sign (t k)
        · rw [if_pos c4]
          exact ⟨Nat.lt_succ_self k, hk, fun z => by cases z⟩
        · rw [if_neg c4] at h6; exact absurd rfl h6
theorem lx_res_kind {t : Nat → Int} {n : Nat} {N : List (List Int)} {k : Nat} : (lx_res t n N k).1.1 = 6 ↔ (lx_tok t n k).1 = 6 := by
  unfold lx_res
  by_cases c : (lx_tok t n k).1 = 2
  · rw [if_pos c, c]
    dsimp only
    split <;> simp
  · rw [if_neg c]
theorem lx_res_rg {t : Nat → Int} {n : Nat} {N : List (List Int)} {k : Nat} (hk : k < n) (h6 : (lx_res t n N k).1.1 ≠ 6) : k < (lx_res t n N k).2.2 ∧ (lx_res t n N k).2.2 ≤ n := by
  have h6' : (lx_tok t n k).1 ≠ 6 := fun z => h6 (lx_res_kind.mpr z)
  obtain ⟨a, b, -⟩ := lx_tok_rg hk h6'
  have e : (lx_res t n N k).2.2 = (lx_tok t n k).2.2 := by unfold lx_res; split <;> rfl
  rw [e]; exact ⟨a, b⟩
theorem lx_res_num {t : Nat → Int} {n : Nat} {N : List (List Int)} {k : Nat} : 1 ≤ (lx_res t n N k).1.1 ∧ (lx_res t n N k).1.1 ≤ 6 := by
  unfold lx_res
  split
  · dsimp only; split <;> omega
  · dsimp only
    unfold lx_tok
    repeat' split
    all_goals (dsimp only; omega)
theorem pn_add_le (N : List (List Int)) (w : List Int) : N.length ≤ (pn_add N w).length ∧ pn_used N ≤ pn_used (pn_add N w) ∧ (pn_add N w).length ≤ N.length + 1 ∧ pn_used (pn_add N w) ≤ pn_used N + w.length := by
  by_cases h : w ∈ N
  · rw [pn_add_old h]; omega
  · rw [pn_add_new h, pn_used_app, List.length_append, List.length_singleton]; omega
theorem lx_res_le {t : Nat → Int} {n : Nat} (N : List (List Int)) (k : Nat) : N.length ≤ (lx_res t n N k).2.1.length ∧ pn_used N ≤ pn_used (lx_res t n N k).2.1 := by
  unfold lx_res
  split
  · have := pn_add_le N (lx_span t k (lx_tok t n k).2.2); exact ⟨this.1, this.2.1⟩
  · exact ⟨Nat.le_refl _, Nat.le_refl _⟩
theorem lx_toks_le {t : Nat → Int} {n most : Nat} : ∀ (m c k : Nat) (N : List (List Int)), N.length ≤ (lx_toks t n most m c k N).2.length ∧ pn_used N ≤ pn_used (lx_toks t n most m c k N).2
  | 0, c, k, N => ⟨Nat.le_refl _, Nat.le_refl _⟩
  | m + 1, c, k, N => by
    unfold lx_toks
    split
    · exact ⟨Nat.le_refl _, Nat.le_refl _⟩
    · split
      · exact ⟨Nat.le_refl _, Nat.le_refl _⟩
      · have h1 := lx_res_le (t := t) (n := n) N (lx_skip t n (n + 1) k).2
        split
        · exact h1
        · have h2 := lx_toks_le (t := t) (n := n) (most := most) m (c + 1) (lx_res t n N (lx_skip t n (n + 1) k).2).2.2 (lx_res t n N (lx_skip t n (n + 1) k).2).2.1
          exact ⟨Nat.le_trans h1.1 h2.1, Nat.le_trans h1.2 h2.2⟩
