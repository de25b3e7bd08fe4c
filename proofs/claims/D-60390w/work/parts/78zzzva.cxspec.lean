/-! CHIPS, 1: how a text of chips is cut into tokens -/
abbrev cx_sg (c : Int) : Prop := c = 123 ∨ c = 125 ∨ c = 40 ∨ c = 41 ∨ c = 91 ∨ c = 93 ∨ c = 44 ∨ c = 59 ∨ c = 58 ∨ c = 61
/-- the words that are there from the beginning -/
def cx_ws : List (List Int) := [[67, 72, 73, 80], [73, 78], [79, 85, 84], [80, 65, 82, 84, 83], [116, 114, 117, 101], [102, 97, 108, 115, 101]]
def cx_N0 : List (List Int) := cx_ws ++ [[78, 97, 110, 100], [68, 102, 102], [97], [98], [105, 110], [111, 117, 116]]
section
variable (t : Nat → Int) (n : Nat)
/-- a token that begins at a place: kind (2 a word, 3 a number, 4 a sign, 5 none), value, the place behind it -/
def cx_tok (k : Nat) : Int × Int × Nat :=
  if lx_alpha (t k) then (if 16 < lx_word t n n k - k then (5, 0, lx_word t n n k) else (2, 0, lx_word t n n k))
  else if lx_digit (t k) then (if lx_digs t n n k - k ≤ 2 ∧ ¬ lx_part (lx_at t n (lx_digs t n n k)) then (3, lx_num t (lx_digs t n n k - k) k 0, lx_digs t n n k) else (5, 0, lx_digs t n n k))
  else if t k = 46 ∧ lx_at t n (k + 1) = 46 then (4, 256, k + 2)
  else if cx_sg (t k) then (4, t k, k + 1) else (5, t k, k + 1)
def cx_res (N : List (List Int)) (k : Nat) : (Int × Int × Int) × List (List Int) × Nat :=
  if (cx_tok t n k).1 = 2 then (((if N.idxOf (lx_span t k (cx_tok t n k).2.2) < 6 then 1 else 2 : Int), ((N.idxOf (lx_span t k (cx_tok t n k).2.2) : Nat) : Int), (k : Int)), pn_add N (lx_span t k (cx_tok t n k).2.2), (cx_tok t n k).2.2)
  else (((cx_tok t n k).1, (cx_tok t n k).2.1, (k : Int)), N, (cx_tok t n k).2.2)
/-- all tokens: kinds (0 the end, 1 a word of the language, 2 a name, 3 a number, 4 a sign, 5 none), values, places; the names -/
def cx_toks (most : Nat) : Nat → Nat → Nat → List (List Int) → List (Int × Int × Int) × List (List Int)
  | 0, _, _, N => ([], N)
  | m + 1, c, k, N =>
    if (lx_skip t n (n + 1) k).1 = false then ([(5, 0, ((lx_skip t n (n + 1) k).2 : Nat))], N)
    else if n ≤ (lx_skip t n (n + 1) k).2 then ([(0, 0, ((lx_skip t n (n + 1) k).2 : Nat))], N)
    else if (cx_res t n N (lx_skip t n (n + 1) k).2).1.1 = 5 ∨ most < c + 1 then ([(cx_res t n N (lx_skip t n (n + 1) k).2).1], (cx_res t n N (lx_skip t n (n + 1) k).2).2.1)
    else ((cx_res t n N (lx_skip t n (n + 1) k).2).1 :: (cx_toks most m (c + 1) (cx_res t n N (lx_skip t n (n + 1) k).2).2.2 (cx_res t n N (lx_skip t n (n + 1) k).2).2.1).1, (cx_toks most m (c + 1) (cx_res t n N (lx_skip t n (n + 1) k).2).2.2 (cx_res t n N (lx_skip t n (n + 1) k).2).2.1).2)
end
section
variable {t : Nat → Int} {n : Nat}
theorem cx_al_part {c : Int} (h : lx_alpha c) : lx_part c ∧ lx_letter c := by
  unfold lx_alpha at h
  unfold lx_part lx_digit lx_letter
  omega
theorem lx_word_lt {k : Nat} (hk : k < n) (h : lx_part (t k)) : k < lx_word t n n k := by
  obtain ⟨n', hn'⟩ : ∃ n', n = n' + 1 := ⟨n - 1, by omega⟩
  have e : lx_word t n n k = lx_word t n (n' + 1) k := by rw [← hn']
  rw [e]
  unfold lx_word
  have e0 : lx_at t n k = t k := if_pos hk
  rw [e0, if_pos h]
  have := (lx_word_rg (t := t) (n := n) n' (k + 1) (by omega) (by omega)).1
  omega
theorem lx_digs_lt {k : Nat} (hk : k < n) (h : lx_digit (t k)) : k < lx_digs t n n k := by
  obtain ⟨n', hn'⟩ : ∃ n', n = n' + 1 := ⟨n - 1, by omega⟩
  have e : lx_digs t n n k = lx_digs t n (n' + 1) k := by rw [← hn']
  rw [e]
  unfold lx_digs
  have e0 : lx_at t n k = t k := if_pos hk
  rw [e0, if_pos h]
  have := (lx_digs_rg (t := t) (n := n) n' (k + 1) (by omega) (by omega)).1
  omega
theorem cx_tok_rg {k : Nat} (hk : k < n) : k < (cx_tok t n k).2.2 ∧ (cx_tok t n k).2.2 ≤ n ∧ (2 ≤ (cx_tok t n k).1 ∧ (cx_tok t n k).1 ≤ 5) ∧ ((cx_tok t n k).1 = 2 → lx_alpha (t k) ∧ (cx_tok t n k).2.2 - k ≤ 16 ∧ (cx_tok t n k).2.2 = lx_word t n n k ∧ ¬ lx_part (lx_at t n (cx_tok t n k).2.2)) ∧ ((cx_tok t n k).1 = 3 → 0 ≤ (cx_tok t n k).2.1 ∧ (cx_tok t n k).2.1 ≤ 99) := by
  unfold cx_tok
  by_cases c1 : lx_alpha (t k)
  · have p1 := lx_word_lt hk (cx_al_part c1).1
    obtain ⟨r1, r2, r3, r4⟩ := lx_word_rg (t := t) (n := n) n k (by omega) (by omega)
    rw [if_pos c1]
    by_cases c2 : 16 < lx_word t n n k - k
    · rw [if_pos c2]; exact ⟨p1, r2, ⟨by dsimp only; omega, by dsimp only; omega⟩, fun z => (by cases z), fun z => (by cases z)⟩
    · rw [if_neg c2]; exact ⟨p1, r2, ⟨by dsimp only; omega, by dsimp only; omega⟩, fun _ => ⟨c1, by dsimp only; omega, rfl, r4⟩, fun z => (by cases z)⟩
  rw [if_neg c1]
  by_cases c2 : lx_digit (t k)
  · have p1 := lx_digs_lt hk c2
    obtain ⟨r1, r2, r3, r4⟩ := lx_digs_rg (t := t) (n := n) n k (by omega) (by omega)
    rw [if_pos c2]
    by_cases c3 : lx_digs t n n k - k ≤ 2 ∧ ¬ lx_part (lx_at t n (lx_digs t n n k))
    · rw [if_pos c3]
      refine ⟨p1, r2, ⟨by dsimp only; omega, by dsimp only; omega⟩, fun z => (by cases z), fun _ => ?_⟩
      show 0 ≤ lx_num t (lx_digs t n n k - k) k 0 ∧ lx_num t (lx_digs t n n k - k) k 0 ≤ 99
      have d0 := r3 k (Nat.le_refl _) p1
      unfold lx_digit at d0
      have : lx_digs t n n k - k = 1 ∨ lx_digs t n n k - k = 2 := by omega
      rcases this with e | e
      · rw [e]; show 0 ≤ 10 * 0 + t k - 48 ∧ 10 * 0 + t k - 48 ≤ 99; omega
      · have d1 := r3 (k + 1) (by omega) (by omega)
        unfold lx_digit at d1
        rw [e]; show 0 ≤ 10 * (10 * 0 + t k - 48) + t (k + 1) - 48 ∧ 10 * (10 * 0 + t k - 48) + t (k + 1) - 48 ≤ 99; omega
    · rw [if_neg c3]; exact ⟨p1, r2, ⟨by dsimp only; omega, by dsimp only; omega⟩, fun z => (by cases z), fun z => (by cases z)⟩
  rw [if_neg c2]
  by_cases c3 : t k = 46 ∧ lx_at t n (k + 1) = 46
  · have : k + 1 < n := by
      apply Classical.byContradiction
      intro z
      have := c3.2
      unfold lx_at at this
      rw [if_neg z] at this
      cases this
    rw [if_pos c3]; exact ⟨by show k < k + 2; omega, by show k + 2 ≤ n; omega, ⟨by dsimp only; omega, by dsimp only; omega⟩, fun z => (by cases z), fun z => (by cases z)⟩
  rw [if_neg c3]
  by_cases c4 : cx_sg (t k)
  · rw [if_pos c4]; exact ⟨by show k < k + 1; omega, by show k + 1 ≤ n; omega, ⟨show (2 : Int) ≤ 4 by decide, show (4 : Int) ≤ 5 by decide⟩, fun z => (by cases z), fun z => (by cases z)⟩
  · rw [if_neg c4]; exact ⟨by show k < k + 1; omega, by show k + 1 ≤ n; omega, ⟨show (2 : Int) ≤ 5 by decide, show (5 : Int) ≤ 5 by decide⟩, fun z => (by cases z), fun z => (by cases z)⟩
theorem cx_res_rg {N : List (List Int)} {k : Nat} (hk : k < n) : k < (cx_res t n N k).2.2 ∧ (cx_res t n N k).2.2 ≤ n ∧ (cx_res t n N k).2.2 = (cx_tok t n k).2.2 ∧ (1 ≤ (cx_res t n N k).1.1 ∧ (cx_res t n N k).1.1 ≤ 5) ∧ ((cx_res t n N k).1.1 = 5 ↔ (cx_tok t n k).1 = 5) ∧ (cx_res t n N k).1.2.2 = (k : Int) := by
  obtain ⟨r1, r2, r3, -⟩ := cx_tok_rg (t := t) hk
  unfold cx_res
  by_cases c : (cx_tok t n k).1 = 2
  · rw [if_pos c]
    refine ⟨r1, r2, rfl, ?_, ?_, rfl⟩
    · dsimp only; split <;> omega
    · dsimp only
      rw [c]
      constructor
      · intro z; split at z <;> omega
      · intro z; omega
  · rw [if_neg c]
    exact ⟨r1, r2, rfl, by dsimp only; omega, Iff.rfl, rfl⟩
/-! there is room for all names -/
def cx_w2 (N : List (List Int)) : Nat := (N.filter (fun w => decide (2 ≤ w.length))).length
def cx_w1 (N : List (List Int)) : Nat := (N.filter (fun w => !decide (2 ≤ w.length))).length
theorem cx_w12 (N : List (List Int)) : cx_w2 N + cx_w1 N = N.length := by
  induction N with
  | nil => rfl
  | cons w N ih =>
    unfold cx_w2 cx_w1 at ih ⊢
    by_cases c : 2 ≤ w.length
    · simp [List.filter_cons, c]; omega
    · simp [List.filter_cons, c]; omega
theorem nodup_sub : ∀ {l m : List (List Int)}, l.Nodup → (∀ x ∈ l, x ∈ m) → l.length ≤ m.length
  | [], m, _, _ => Nat.zero_le _
  | x :: l, m, hn, hs => by
    obtain ⟨h1, h2⟩ := List.nodup_cons.1 hn
    have hx : x ∈ m := hs x (List.mem_cons_self ..)
    have := nodup_sub (l := l) (m := m.erase x) h2 (fun y hy => by
      have hne : y ≠ x := fun z => h1 (by rw [← z]; exact hy)
      exact (List.mem_erase_of_ne hne).2 (hs y (List.mem_cons_of_mem _ hy)))
    rw [List.length_erase_of_mem hx] at this
    have : 0 < m.length := List.length_pos_of_mem hx
    rw [List.length_cons]; omega
/-- names are once there, and letters -/
def cx_ok (N : List (List Int)) : Prop := N.Nodup ∧ (∀ w ∈ N, 1 ≤ w.length ∧ w.length ≤ 16 ∧ (w.length = 1 → ∃ c, w = [c] ∧ lx_alpha c))
def cx_one : List (List Int) := ((List.range 26).map fun i => [((97 + i : Nat) : Int)]) ++ ((List.range 26).map fun i => [((65 + i : Nat) : Int)])
theorem cx_w1_le {N : List (List Int)} (H : cx_ok N) : cx_w1 N ≤ 52 := by
  have : (N.filter (fun w => !decide (2 ≤ w.length))).length ≤ cx_one.length := by
    refine nodup_sub (H.1.filter _) (fun x hx => ?_)
    obtain ⟨m1, m2⟩ := List.mem_filter.1 hx
    obtain ⟨a1, a2, a3⟩ := H.2 x m1
    have l1 : x.length = 1 := by
      simp at m2; omega
    obtain ⟨c, rfl, hc⟩ := a3 l1
    unfold lx_alpha at hc
    unfold cx_one
    rw [List.mem_append, List.mem_map, List.mem_map]
    rcases hc with z | z
    · exact Or.inl ⟨(c - 97).toNat, List.mem_range.2 (by omega), by congr 1; omega⟩
    · exact Or.inr ⟨(c - 65).toNat, List.mem_range.2 (by omega), by congr 1; omega⟩
  exact this
theorem cx_ok_add {N : List (List Int)} {w : List Int} (H : cx_ok N) (h1 : 1 ≤ w.length) (h2 : w.length ≤ 16) (h3 : w.length = 1 → ∃ c, w = [c] ∧ lx_alpha c) : cx_ok (pn_add N w) := by
  by_cases c : w ∈ N
  · rw [pn_add_old c]; exact H
  · rw [pn_add_new c]
    refine ⟨?_, fun v hv => ?_⟩
    · rw [List.nodup_append]
      refine ⟨H.1, by simp, fun a ha b hb => ?_⟩
      rw [List.mem_singleton] at hb
      subst hb
      exact fun z => c (by rw [← z]; exact ha)
    · rcases List.mem_append.1 hv with z | z
      · exact H.2 v z
      · rw [List.mem_singleton] at z; subst z; exact ⟨h1, h2, h3⟩
theorem cx_w2_add {N : List (List Int)} {w : List Int} : cx_w2 N ≤ cx_w2 (pn_add N w) ∧ cx_w2 (pn_add N w) ≤ cx_w2 N + (if 2 ≤ w.length then 1 else 0) := by
  by_cases c : w ∈ N
  · rw [pn_add_old c]; omega
  · rw [pn_add_new c]
    unfold cx_w2
    rw [List.filter_append, List.length_append]
    by_cases z : 2 ≤ w.length
    · simp [List.filter_cons, z]
    · simp [List.filter_cons, z]
def cx_Q (t : Nat → Int) (n : Nat) (N : List (List Int)) (k : Nat) : Prop := (3 * cx_w2 N ≤ k + 30 ∨ (3 * cx_w2 N ≤ k + 31 ∧ ¬ lx_part (lx_at t n k))) ∧ pn_used N ≤ k + 40
theorem cx_room_res {N : List (List Int)} {k p : Nat} (hp : p < n) (hk : k ≤ p) (H : cx_ok N) (Q : cx_Q t n N k) : cx_ok (cx_res t n N p).2.1 ∧ cx_Q t n (cx_res t n N p).2.1 (cx_res t n N p).2.2 ∧ 3 * cx_w2 N ≤ p + 31 := by
  obtain ⟨Q, U⟩ := Q
  obtain ⟨r1, r2, r3, r4, r5⟩ := cx_tok_rg (t := t) hp
  have l1 : 3 * cx_w2 N ≤ p + 31 := by rcases Q with z | z; omega; omega
  unfold cx_res
  by_cases c : (cx_tok t n p).1 = 2
  · obtain ⟨a1, a2, a3, a4⟩ := r4 c
    rw [if_pos c]
    have hl : (lx_span t p (cx_tok t n p).2.2).length = (cx_tok t n p).2.2 - p := lx_span_len _ _
    refine ⟨cx_ok_add H (by omega) (by omega) (fun z => ⟨t p, ?_, a1⟩), ?_, l1⟩
    · rw [span_eqx]
      refine ⟨by rw [hl] at z; rw [z]; rfl, fun q hq => ?_⟩
      have : q = 0 := by omega
      subst this; rfl
    · refine ⟨?_, ?_⟩
      rotate_left
      · dsimp only
        by_cases z : lx_span t p (cx_tok t n p).2.2 ∈ N
        · rw [pn_add_old z]; omega
        · rw [pn_add_new z, pn_used_app, hl]; omega
      have w := cx_w2_add (N := N) (w := lx_span t p (cx_tok t n p).2.2)
      rw [hl] at w
      dsimp only
      have b1 : 3 * cx_w2 N ≤ p + 30 := by
        rcases Q with z | ⟨z1, z2⟩
        · omega
        · by_cases y : p = k
          · exfalso
            subst y
            apply z2
            have : lx_at t n p = t p := if_pos hp
            rw [this]; exact (cx_al_part a1).1
          · omega
      by_cases y : 2 ≤ (cx_tok t n p).2.2 - p
      · rw [if_pos y] at w
        right
        exact ⟨by omega, a4⟩
      · rw [if_neg y] at w
        left; omega
  · rw [if_neg c]
    refine ⟨H, ⟨?_, ?_⟩, l1⟩
    · left
      dsimp only
      omega
    · dsimp only; omega
theorem cx_room : ∀ (m c k : Nat) (N : List (List Int)) {most : Nat}, k ≤ n → cx_ok N → cx_Q t n N k → n ≤ 4000 → cx_ok (cx_toks t n most m c k N).2 ∧ (cx_toks t n most m c k N).2.length ≤ 1396
  | 0, c, k, N, most, hk, H, Q, hn => by
    refine ⟨H, ?_⟩
    show N.length ≤ 1396
    have := cx_w12 N
    have := cx_w1_le H
    rcases Q.1 with z | ⟨z, -⟩ <;> omega
  | m + 1, c, k, N, most, hk, H, Q, hn => by
    have b0 : N.length ≤ 1396 := by
      have := cx_w12 N
      have := cx_w1_le H
      rcases Q.1 with z | ⟨z, -⟩ <;> omega
    obtain ⟨s1, s2, s3, s4⟩ := lx_skip_rg t n (n + 1) k hk (by omega)
    unfold cx_toks
    split
    · exact ⟨H, b0⟩
    · split
      · exact ⟨H, b0⟩
      · rename_i c1 c2
        have hlt : (lx_skip t n (n + 1) k).2 < n := by omega
        obtain ⟨r1, r2, r3⟩ := cx_room_res (N := N) hlt s1 H Q
        obtain ⟨q1, q2, -⟩ := cx_res_rg (t := t) (N := N) hlt
        split
        · refine ⟨r1, ?_⟩
          have := cx_w12 (cx_res t n N (lx_skip t n (n + 1) k).2).2.1
          have := cx_w1_le r1
          dsimp only
          rcases r2.1 with z | ⟨z, -⟩ <;> omega
        · exact cx_room m (c + 1) _ _ q2 r1 r2 hn
theorem cx_N0_ok : cx_ok cx_N0 ∧ cx_w2 cx_N0 = 10 ∧ pn_used cx_N0 = 37 := by
  refine ⟨⟨by decide, ?_⟩, by decide, by decide⟩
  intro w hw
  unfold cx_N0 cx_ws at hw
  simp only [List.cons_append, List.nil_append, List.mem_cons, List.not_mem_nil, or_false] at hw
  rcases hw with rfl | rfl | rfl | rfl | rfl | rfl | rfl | rfl | rfl | rfl | rfl | rfl
  · exact ⟨by decide, by decide, fun z => (by cases z)⟩
  · exact ⟨by decide, by decide, fun z => (by cases z)⟩
  · exact ⟨by decide, by decide, fun z => (by cases z)⟩
  · exact ⟨by decide, by decide, fun z => (by cases z)⟩
  · exact ⟨by decide, by decide, fun z => (by cases z)⟩
  · exact ⟨by decide, by decide, fun z => (by cases z)⟩
  · exact ⟨by decide, by decide, fun z => (by cases z)⟩
  · exact ⟨by decide, by decide, fun z => (by cases z)⟩
  · exact ⟨by decide, by decide, fun _ => ⟨_, rfl, by decide⟩⟩
  · exact ⟨by decide, by decide, fun _ => ⟨_, rfl, by decide⟩⟩
  · exact ⟨by decide, by decide, fun z => (by cases z)⟩
  · exact ⟨by decide, by decide, fun z => (by cases z)⟩
end
