/-! RUN, 1: the heap: Memory.alloc and deAlloc beside make() and drop() -/
/-- the first gap of n words -/
def ff (n lo : Int) : List (Int × Int) → Int
  | [] => lo
  | q :: r => if q.1 - lo < n then ff n (q.1 + q.2) r else lo
/-- its place in the row -/
def fx (n lo : Int) : List (Int × Int) → Nat
  | [] => 0
  | q :: r => if q.1 - lo < n then fx n (q.1 + q.2) r + 1 else 0
/-- the row with it -/
def fi (n lo : Int) : List (Int × Int) → List (Int × Int)
  | [] => [(lo, n)]
  | q :: r => if q.1 - lo < n then q :: fi n (q.1 + q.2) r else (lo, n) :: q :: r
theorem fi_perm (n : Int) : ∀ (lo : Int) (bl : List (Int × Int)), (fi n lo bl).Perm ((ff n lo bl, n) :: bl)
  | lo, [] => List.Perm.refl _
  | lo, q :: r => by
    unfold fi ff
    split
    · exact ((fi_perm n (q.1 + q.2) r).cons q).trans (List.Perm.swap _ _ _)
    · exact List.Perm.refl _
theorem fi_get (n : Int) : ∀ (lo : Int) (bl : List (Int × Int)) (j : Nat), (fi n lo bl)[j]? = if j < fx n lo bl then bl[j]? else if j = fx n lo bl then some (ff n lo bl, n) else bl[j - 1]?
  | lo, [], j => by
    unfold fi fx ff
    cases j with
    | zero => rfl
    | succ j => simp
  | lo, q :: r, j => by
    unfold fi fx ff
    by_cases c : q.1 - lo < n
    · rw [if_pos c, if_pos c, if_pos c]
      cases j with
      | zero => simp
      | succ j =>
        rw [List.getElem?_cons_succ, fi_get n (q.1 + q.2) r j, List.getElem?_cons_succ]
        by_cases c1 : j < fx n (q.1 + q.2) r
        · rw [if_pos c1, if_pos (by omega)]
        · rw [if_neg c1, if_neg (show ¬ (j + 1 < fx n (q.1 + q.2) r + 1) by omega)]
          by_cases c2 : j = fx n (q.1 + q.2) r
          · rw [if_pos c2, if_pos (show j + 1 = fx n (q.1 + q.2) r + 1 by omega)]
          · rw [if_neg c2, if_neg (show ¬ (j + 1 = fx n (q.1 + q.2) r + 1) by omega), Nat.add_sub_cancel]
            obtain ⟨i, rfl⟩ : ∃ i, j = i + 1 := ⟨j - 1, by omega⟩
            rw [List.getElem?_cons_succ, Nat.add_sub_cancel]
    · rw [if_neg c, if_neg c, if_neg c]
      cases j with
      | zero => simp
      | succ j => simp
theorem fi_len (n : Int) : ∀ (lo : Int) (bl : List (Int × Int)), (fi n lo bl).length = bl.length + 1
  | lo, [] => rfl
  | lo, q :: r => by
    unfold fi; split
    · rw [List.length_cons, fi_len, List.length_cons]
    · rfl
theorem fx_le (n : Int) : ∀ (lo : Int) (bl : List (Int × Int)), fx n lo bl ≤ bl.length
  | lo, [] => Nat.le_refl _
  | lo, q :: r => by
    unfold fx; split
    · have := fx_le n (q.1 + q.2) r; rw [List.length_cons]; omega
    · exact Nat.zero_le _
theorem bS_lo {lo : Int} : ∀ {bl : List (Int × Int)}, bS lo bl → ∀ q ∈ bl, lo ≤ q.1 ∧ 1 ≤ q.2 ∧ q.1 + q.2 ≤ 14336
  | [], _, q, h => by cases h
  | p :: r, ⟨h1, h2, h3, h4⟩, q, h => by
    rcases List.mem_cons.1 h with rfl | h
    · exact ⟨h1, h2, h3⟩
    · have := bS_lo h4 q h; omega
theorem ff_ge (n : Int) : ∀ (lo : Int) (bl : List (Int × Int)), bS lo bl → lo ≤ ff n lo bl
  | lo, [], _ => Int.le_refl _
  | lo, q :: r, ⟨h1, h2, h3, h4⟩ => by
    unfold ff; split
    · have := ff_ge n _ r h4; omega
    · exact Int.le_refl _
theorem ff_le (n : Int) : ∀ (lo : Int) (bl : List (Int × Int)), bS lo bl → lo ≤ 14336 → ff n lo bl ≤ 14336
  | lo, [], _, h => h
  | lo, q :: r, ⟨h1, h2, h3, h4⟩, h => by
    unfold ff; split
    · exact ff_le n _ r h4 h3
    · exact h
/-- the gap is free -/
theorem ff_free (n : Int) (hn : 1 ≤ n) : ∀ (lo : Int) (bl : List (Int × Int)), bS lo bl → ∀ q ∈ bl, q.1 + q.2 ≤ ff n lo bl ∨ ff n lo bl + n ≤ q.1
  | lo, [], _, q, h => by cases h
  | lo, p :: r, ⟨h1, h2, h3, h4⟩, q, h => by
    unfold ff
    by_cases c : p.1 - lo < n
    · rw [if_pos c]
      rcases List.mem_cons.1 h with rfl | h
      · left; exact ff_ge n _ r h4
      · exact ff_free n hn _ r h4 q h
    · rw [if_neg c]
      right
      rcases List.mem_cons.1 h with rfl | h
      · omega
      · have := bS_lo h4 q h; omega
/-- and the first one -/
theorem ff_first (n : Int) : ∀ (lo : Int) (bl : List (Int × Int)), bS lo bl → ∀ a, lo ≤ a → a < ff n lo bl → ∃ q ∈ bl, q.1 < a + n ∧ a < q.1 + q.2
  | lo, [], _, a, h1, h2 => by unfold ff at h2; omega
  | lo, p :: r, ⟨h1, h2, h3, h4⟩, a, g1, g2 => by
    unfold ff at g2
    by_cases c : p.1 - lo < n
    · rw [if_pos c] at g2
      by_cases c2 : a < p.1 + p.2
      · exact ⟨p, List.mem_cons_self, by omega, c2⟩
      · obtain ⟨q, q1, q2⟩ := ff_first n _ r h4 a (by omega) g2
        exact ⟨q, List.mem_cons_of_mem _ q1, q2⟩
    · rw [if_neg c] at g2; omega
theorem fi_bS (n : Int) (hn : 1 ≤ n) : ∀ (lo : Int) (bl : List (Int × Int)), bS lo bl → ff n lo bl + n ≤ 14336 → bS lo (fi n lo bl)
  | lo, [], _, h => ⟨Int.le_refl _, hn, h, trivial⟩
  | lo, q :: r, ⟨h1, h2, h3, h4⟩, h => by
    unfold fi ff at *
    by_cases c : q.1 - lo < n
    · rw [if_pos c] at h ⊢
      exact ⟨h1, h2, h3, fi_bS n hn _ r h4 h⟩
    · rw [if_neg c] at h ⊢
      exact ⟨Int.le_refl _, hn, h, by show lo + n ≤ q.1; omega, h2, h3, h4⟩
/-- a gap within the row has room -/
theorem ff_in (n : Int) : ∀ (lo : Int) (bl : List (Int × Int)), bS lo bl → fx n lo bl < bl.length → ff n lo bl + n ≤ 14336
  | lo, [], _, h => by cases h
  | lo, q :: r, ⟨h1, h2, h3, h4⟩, h => by
    unfold fx at h
    unfold ff
    by_cases c : q.1 - lo < n
    · rw [if_pos c] at h ⊢; exact ff_in n _ r h4 (by rw [List.length_cons] at h; omega)
    · rw [if_neg c]; omega
section
variable (d L : Nat) {ky : List Int} {G : vG} {h : am_H}
/-- the model's search -/
theorem m_free {bl : List (Int × Int)} (hb : 0 ≤ h 254 81 ∧ h 254 81 ≤ 100) (P : bl.Perm (bk h)) (S : bS 2048 bl) (n : Int) (hn : 1 ≤ n) (hn2 : n ≤ 32767) : am_D (d + 1) 17 83 [am_r (am_a 254), am_i n] (zS L, h) = pI L (if 14336 < ff n 2048 bl + n then -1 else ff n 2048 bl) h := by
  have mem : ∀ b : Nat, (b : Int) < h 254 81 → (h 309 b, h 310 b) ∈ bl := fun b hb => by
    rw [P.mem_iff]; unfold bk
    exact List.mem_map.2 ⟨b, List.mem_range.2 (by omega), rfl⟩
  have memi : ∀ q ∈ bl, ∃ b : Nat, (b : Int) < h 254 81 ∧ q = (h 309 b, h 310 b) := fun q hq => by
    rw [P.mem_iff] at hq; unfold bk at hq
    obtain ⟨b, b1, b2⟩ := List.mem_map.1 hq
    exact ⟨b, by rw [List.mem_range] at b1; omega, b2.symm⟩
  have F1 := ff_ge n 2048 bl S
  have F2 := ff_le n 2048 bl S (by omega)
  obtain ⟨F, hF⟩ : ∃ F, F = ff n 2048 bl := ⟨_, rfl⟩
  rw [← hF] at F1 F2 ⊢
  -- a pass over the blocks
  have pass : ∀ (m : Nat) (b : Nat) (a x3 : Int), (b : Int) + m = h 254 81 → 2048 ≤ a → a ≤ F → ∃ a' x3' : Int, am_E (am_D d) m_17_83 (.inl 2) [some (am_r (am_a 254)), some (am_i n), some (am_i a), some (am_i x3), some (am_i (b : Int))] [] (zS L, h) = am_E (am_D d) m_17_83 (.inl 1) [some (am_r (am_a 254)), some (am_i n), some (am_i a'), some (am_i x3'), some (am_i (h 254 81))] [] (zS L, h) ∧ a ≤ a' ∧ a' ≤ F ∧ (x3' = 0 → x3 = 0 ∧ a' = a ∧ ∀ c : Nat, b ≤ c → (c : Int) < h 254 81 → ¬ (h 309 c < a + n ∧ a < h 309 c + h 310 c)) ∧ (x3' ≠ 0 → x3 ≠ 0 ∨ a < a') := by
    intro m
    induction m with
    | zero =>
      intro b a x3 hm a1 a2
      refine ⟨a, x3, ?_, Int.le_refl _, a2, fun z => ⟨z, rfl, fun c c1 c2 => by omega⟩, fun z => Or.inl z⟩
      rw [q_17_83_2, if_neg (by omega), show (b : Int) = h 254 81 by omega]
    | succ m ih =>
      intro b a x3 hm a1 a2
      have hB := mem b (by omega)
      have hlo := bS_lo S _ hB
      dsimp only at hlo
      rw [q_17_83_2, if_pos (by omega), p_idx (by omega) (by omega), Int.toNat_natCast, p_w (by omega) (by omega)]
      by_cases c1 : h 309 b < a + n
      · rw [if_pos c1, p_idx (by omega) (by omega), p_idx (by omega) (by omega), Int.toNat_natCast, p_w (by omega) (by omega)]
        by_cases c2 : a < h 309 b + h 310 b
        · rw [if_pos c2, p_idx (by omega) (by omega), p_idx (by omega) (by omega), Int.toNat_natCast, p_w (by omega) (by omega), p_w (by omega) (by omega), show (b : Int) + 1 = ((b + 1 : Nat) : Int) by omega]
          have hle : h 309 b + h 310 b ≤ F := by
            rcases ff_free n hn 2048 bl S _ hB with z | z
            · rw [← hF] at z; exact z
            · rw [← hF] at z; dsimp only at z; omega
          obtain ⟨a', x3', e1, e2, e3, e4, e5⟩ := ih (b + 1) (h 309 b + h 310 b) 1 (by omega) (by omega) hle
          exact ⟨a', x3', e1, by omega, e3, fun z => absurd (e4 z).1 (by decide), fun z => Or.inr (by omega)⟩
        · rw [if_neg c2, p_w (by omega) (by omega), show (b : Int) + 1 = ((b + 1 : Nat) : Int) by omega]
          obtain ⟨a', x3', e1, e2, e3, e4, e5⟩ := ih (b + 1) a x3 (by omega) a1 a2
          refine ⟨a', x3', e1, e2, e3, fun z => ⟨(e4 z).1, (e4 z).2.1, fun c g1 g2 => ?_⟩, e5⟩
          by_cases g : c = b
          · rw [g]; omega
          · exact (e4 z).2.2 c (by omega) g2
      · rw [if_neg c1, p_w (by omega) (by omega), show (b : Int) + 1 = ((b + 1 : Nat) : Int) by omega]
        obtain ⟨a', x3', e1, e2, e3, e4, e5⟩ := ih (b + 1) a x3 (by omega) a1 a2
        refine ⟨a', x3', e1, e2, e3, fun z => ⟨(e4 z).1, (e4 z).2.1, fun c g1 g2 => ?_⟩, e5⟩
        by_cases g : c = b
        · rw [g]; omega
        · exact (e4 z).2.2 c (by omega) g2
  have loop : ∀ (k : Nat) (a x3 : Int) (u4 : Option am_V), F - a ≤ k → 2048 ≤ a → a ≤ F → x3 ≠ 0 → am_E (am_D d) m_17_83 (.inl 1) [some (am_r (am_a 254)), some (am_i n), some (am_i a), some (am_i x3), u4] [] (zS L, h) = pI L (if 14336 < F + n then -1 else F) h := by
    intro k
    induction k with
    | zero =>
      intro a x3 u4 hk a1 a2 h3
      rw [q_17_83_1, if_neg h3]
      obtain ⟨a', x3', e1, e2, e3, e4, e5⟩ := pass (h 254 81).toNat 0 a 0 (by omega) a1 a2
      rw [show ((0 : Nat) : Int) = 0 from rfl] at e1
      rw [e1, q_17_83_1]
      have : x3' = 0 := by
        apply Classical.byContradiction; intro z
        rcases e5 z with q | q
        · exact q rfl
        · omega
      rw [if_pos this, p_w (by omega) (by omega), show a' = F by omega]
      split <;> rfl
    | succ k ih =>
      intro a x3 u4 hk a1 a2 h3
      rw [q_17_83_1, if_neg h3]
      obtain ⟨a', x3', e1, e2, e3, e4, e5⟩ := pass (h 254 81).toNat 0 a 0 (by omega) a1 a2
      rw [show ((0 : Nat) : Int) = 0 from rfl] at e1
      rw [e1]
      by_cases z : x3' = 0
      · obtain ⟨-, z2, z3⟩ := e4 z
        have : a = F := by
          apply Classical.byContradiction; intro w
          obtain ⟨q, q1, q2, q3⟩ := ff_first n 2048 bl S a a1 (by omega)
          obtain ⟨b, b1, b2⟩ := memi q q1
          rw [b2] at q2 q3
          exact z3 b (Nat.zero_le _) b1 ⟨q2, q3⟩
        rw [q_17_83_1, if_pos z, p_w (by omega) (by omega), show a' = F by omega]
        split <;> rfl
      · have := e5 z
        exact ih a' x3' _ (by omega) (by omega) e3 z
  rw [D_17_83]
  exact loop (F - 2048).toNat 2048 1 _ (by omega) (by omega) F1 (by decide)
/-- what the machine finds in its rows -/
theorem vBk.row {m : Nat → Int} {bl : List (Int × Int)} (B : vBk m bl) {j : Nat} (hj : j < bl.length) : m (16520 + j) = bl[j].1 ∧ m (16640 + j) = bl[j].2 := B.2.1 j _ (List.getElem?_eq_getElem hj)
theorem v_rd_m {ky : List Int} {a : Int} {G : vG} {k : Int → vG → Option vO} (h1 : 16 ≤ a) (h2 : a < 17000) : v_rd ky a G k = k (G.1 a.toNat) G := if_pos ⟨h1, h2⟩
theorem v_wr_m {a v : Int} {G : vG} {k : vG → Option vO} (h1 : 16 ≤ a) (h2 : a < 17000) : v_wr a v G k = k (p_set G.1 a.toNat v, G.2) := if_pos ⟨h1, h2⟩
/-- Memory.alloc: the search -/
theorem v_find {bl : List (Int × Int)} (B : vBk G.1 bl) (n : Int) (hn : 1 ≤ n) (hn2 : n ≤ 32767) (th : Option Int) : ∀ (r : List (Int × Int)) (i : Nat) (lo : Int) (tm : Option Int), bl = bl.take i ++ r → i + r.length = bl.length → bS lo r → 2048 ≤ lo → lo ≤ 14336 → ff n 2048 bl = ff n lo r → fx n 2048 bl = i + fx n lo r →
    ∀ y2 : Int, (14336 < ff n 2048 bl + n → vE ky (vD ky (d + 1)) 8 c_3 (vlab c_3 4) ([n], [lo, (i : Int), y2, 16520, 16640], th, tm, [], G) = some (.inr (3, 6), G)) ∧ (ff n 2048 bl + n ≤ 14336 → vE ky (vD ky (d + 1)) 8 c_3 (vlab c_3 4) ([n], [lo, (i : Int), y2, 16520, 16640], th, tm, [], G) = vE ky (vD ky (d + 1)) 8 c_3 (vlab c_3 11) ([n], [ff n 2048 bl, (fx n 2048 bl : Int), (bl.length : Int), 16520, 16640], th, tm, [], G))
  | [], i, lo, tm, e, hl, S, lo1, lo2, ef, ex, y2 => by
    have hlen := B.1.2.2.2
    rw [List.length_nil] at hl
    have ei : i = bl.length := by omega
    have ef : ff n 2048 bl = lo := ef
    have ex : fx n 2048 bl = i := ex
    rw [w_3_4, s16_id (x := 16520 + (i : Int)) ⟨by omega, by omega⟩, v_rd_m (by omega) (by omega)]
    try dsimp only
    rw [tf_and, v_if_f (by rw [B.1.2.2.1]; omega), v_if_t (by rw [B.1.2.2.1]; omega), s16_id (x := 14336 - lo) ⟨by omega, by omega⟩, ef]
    constructor
    · intro z
      rw [v_if_t (by omega), v_err]; rfl
    · intro z
      rw [v_if_f (by omega), ex, B.1.2.2.1]
  | q :: r, i, lo, tm, e, hl, S, lo1, lo2, ef, ex, y2 => by
    have hlen := B.1.2.2.2
    obtain ⟨s1, s2, s3, s4⟩ := S
    rw [List.length_cons] at hl
    have hi : i < bl.length := by omega
    have hq : bl[i] = q := by
      have e1 : bl[i]? = some q := by
        rw [e, List.getElem?_append_right (by rw [List.length_take]; omega), List.length_take, show i - min i bl.length = 0 by omega]; rfl
      rw [List.getElem?_eq_getElem hi] at e1
      exact Option.some.inj e1
    have row := B.row hi
    rw [hq] at row
    rw [w_3_4, s16_id (x := 16520 + (i : Int)) ⟨by omega, by omega⟩, v_rd_m (by omega) (by omega), show ((16520 : Int) + (i : Int)).toNat = 16520 + i by omega, row.1]
    try dsimp only
    rw [tf_and, B.1.2.2.1, s16_id (x := q.1 - lo) ⟨by omega, by omega⟩]
    have ef : ff n 2048 bl = if q.1 - lo < n then ff n (q.1 + q.2) r else lo := ef
    have ex : fx n 2048 bl = i + if q.1 - lo < n then fx n (q.1 + q.2) r + 1 else 0 := ex
    by_cases c : q.1 - lo < n
    · rw [if_pos c] at ef ex
      rw [v_if_t ⟨by omega, c⟩, v_rd_m (by omega) (by omega), s16_id (x := 16640 + (i : Int)) ⟨by omega, by omega⟩]
      try dsimp only
      rw [v_rd_m (by omega) (by omega), show ((16520 : Int) + (i : Int)).toNat = 16520 + i by omega, row.1, show ((16640 : Int) + (i : Int)).toNat = 16640 + i by omega, row.2, s16_id (x := q.1 + q.2) ⟨by omega, by omega⟩, s16_id (x := (i : Int) + 1) ⟨by omega, by omega⟩]
      exact v_find B n hn hn2 th r (i + 1) (q.1 + q.2) tm (by
        have t1 : bl.take (i + 1) = bl.take i ++ [bl[i]] := by rw [List.take_succ, List.getElem?_eq_getElem hi]; rfl
        rw [t1, hq, List.append_assoc]; exact e) (by omega) s4 (by omega) s3 ef (by omega) y2
    · rw [if_neg c] at ef ex
      rw [v_if_f (fun z => c z.2), v_if_f (by omega)]
      constructor
      · intro z; exfalso; omega
      · intro z; rw [ef, ex]; rfl
/-- Memory.alloc: the rest moves on -/
theorem v_shift (n at_ : Int) (i : Nat) (th : Option Int) : ∀ (m k : Nat) (tm : Option Int) (G1 : vG), k = i + m → k ≤ 99 → ∃ G2 tm', vE ky (vD ky (d + 1)) 8 c_3 (vlab c_3 11) ([n], [at_, (i : Int), (k : Int), 16520, 16640], th, tm, [], G1) = vE ky (vD ky (d + 1)) 8 c_3 (vlab c_3 11) ([n], [at_, (i : Int), (i : Int), 16520, 16640], th, tm', [], G2) ∧ G2.2 = G1.2 ∧ (∀ a, ¬ (16520 ≤ a ∧ a < 16620) → ¬ (16640 ≤ a ∧ a < 16740) → G2.1 a = G1.1 a) ∧ (∀ j, j ≤ 99 → G2.1 (16520 + j) = (if i < j ∧ j ≤ k then G1.1 (16520 + (j - 1)) else G1.1 (16520 + j)) ∧ G2.1 (16640 + j) = (if i < j ∧ j ≤ k then G1.1 (16640 + (j - 1)) else G1.1 (16640 + j)))
  | 0, k, tm, G1, hk, h9 => ⟨G1, tm, (by subst hk; rfl), rfl, fun _ _ _ => rfl, fun j hj => by rw [if_neg (by omega), if_neg (by omega)]; exact ⟨rfl, rfl⟩⟩
  | m + 1, k, tm, G1, hk, h9 => by
    obtain ⟨k', rfl⟩ : ∃ k', k = k' + 1 := ⟨k - 1, by omega⟩
    rw [w_3_11, v_if_t (by omega), s16_id (x := ((k' + 1 : Nat) : Int) - 1) ⟨by omega, by omega⟩, s16_id (x := 16520 + (((k' + 1 : Nat) : Int) - 1)) ⟨by omega, by omega⟩, v_rd_m (by omega) (by omega)]
    try dsimp only
    rw [s16_id (x := 16520 + ((k' + 1 : Nat) : Int)) ⟨by omega, by omega⟩, v_wr_m (by omega) (by omega)]
    try dsimp only
    rw [s16_id (x := 16640 + (((k' + 1 : Nat) : Int) - 1)) ⟨by omega, by omega⟩, v_rd_m (by omega) (by omega)]
    try dsimp only
    rw [s16_id (x := 16640 + ((k' + 1 : Nat) : Int)) ⟨by omega, by omega⟩, v_wr_m (by omega) (by omega)]
    try dsimp only
    rw [show ((k' + 1 : Nat) : Int) - 1 = (k' : Int) by omega, show ((16520 : Int) + (k' : Int)).toNat = 16520 + k' by omega, show ((16640 : Int) + (k' : Int)).toNat = 16640 + k' by omega, show ((16520 : Int) + ((k' + 1 : Nat) : Int)).toNat = 16520 + (k' + 1) by omega, show ((16640 : Int) + ((k' + 1 : Nat) : Int)).toNat = 16640 + (k' + 1) by omega, p_set_n _ _ _ (16640 + k') (by omega)]
    obtain ⟨G2, tm', e1, e2, e3, e4⟩ := v_shift n at_ i th m k' (some (G1.1 (16640 + k'))) (p_set (p_set G1.1 (16520 + (k' + 1)) (G1.1 (16520 + k'))) (16640 + (k' + 1)) (G1.1 (16640 + k')), G1.2) (by omega) (by omega)
    refine ⟨G2, tm', e1, e2, fun a h1 h2 => ?_, fun j hj => ?_⟩
    · rw [e3 a h1 h2]
      try dsimp only
      rw [p_set_n _ _ _ _ (by omega), p_set_n _ _ _ _ (by omega)]
    · obtain ⟨f1, f2⟩ := e4 j hj
      dsimp only at f1 f2
      rw [f1, f2]
      by_cases c : i < j ∧ j ≤ k'
      · rw [if_pos c, if_pos c, if_pos (show i < j ∧ j ≤ k' + 1 by omega), if_pos (show i < j ∧ j ≤ k' + 1 by omega)]
        rw [p_set_n _ _ _ _ (by omega), p_set_n _ _ _ _ (by omega), p_set_n _ _ _ _ (by omega), p_set_n _ _ _ _ (by omega)]
        exact ⟨rfl, rfl⟩
      · rw [if_neg c, if_neg c]
        by_cases c2 : j = k' + 1
        · subst c2
          rw [if_pos (by omega), if_pos (by omega), p_set_n _ _ _ _ (by omega), p_set_s, p_set_s]
          exact ⟨rfl, rfl⟩
        · rw [if_neg (by omega), if_neg (by omega), p_set_n _ _ _ _ (by omega), p_set_n _ _ _ _ (by omega), p_set_n _ _ _ _ (by omega), p_set_n _ _ _ _ (by omega)]
          exact ⟨rfl, rfl⟩
/-- Memory.alloc and make() -/
theorem j_alloc (R : MR ky G h) (e : h 254 99 = -1) (n : Int) (hn : rg16 n) : ∃ o h' r, vD ky (d + 2) 3 [n] G = some o ∧ am_D (d + 2) 17 84 [am_r (am_a 254), am_i n] (zS L, h) = pI L r h' ∧ JO ky G h o h' ∧ (∀ v, o.1 = .inl v → r = v ∧ 2048 ≤ v ∧ v + n ≤ 14336 ∧ 1 ≤ n) ∧ (∀ a, v_pl (a : Nat) → o.2.1 a = G.1 a) := by
  obtain ⟨r1, ⟨bl, B, hb, P⟩, r4, r5, r6, r7⟩ := id R
  have hlen := B.1.2.2.2
  have hcnt : h 254 81 = (bl.length : Int) := by
    have := P.length_eq
    unfold bk at this
    rw [List.length_map, List.length_range] at this
    omega
  rw [D_17_84]
  by_cases c1 : n < 1
  · rw [if_pos c1, m_err, p_xV, erh_99 e, if_neg (by decide), q_17_84_3, if_neg (by decide), erh_f2 (by decide) (by decide)]
    have fin : ∀ x, am_E (am_D (d + 1)) m_17_84 (.inl 5) [some (am_r (am_a 254)), some (am_i n), some (am_i x)] [] (zS L, erh 5 h) = pI L 0 (erh 5 h) := fun x => by rw [q_17_84_5, erh_99 e, if_neg (by decide)]
    refine ⟨(.inr (3, 5), G), erh 5 h, 0, ?_, ?_, JO_err R e 5, fun v hv => (by cases hv), fun a _ => rfl⟩
    · rw [w_3, v_if_t c1, v_err]; rfl
    · by_cases c2 : h 254 81 = 100
      · rw [if_pos c2, m_err, p_xV, erh_f (by rw [erh_99 e]; decide)]; exact fin 0
      · rw [if_neg c2]; exact fin 0
  · rw [if_neg c1, if_pos e, m_free d L hb P B.2.2 n (by omega) hn.2, p_xI]
    rw [w_3, v_if_f c1, B.1.1, B.1.2.1, w_3_1, B.1.2.2.1]
    have err6 : ∃ o h' r, some ((.inr (3, 6), G) : vO) = some o ∧ am_xV (zS L) (am_D (d + 1) 17 77 [am_r (am_a 254), am_i 6] (zS L, h)) (am_up1 (zS L)) (fun h1 => am_E (am_D (d + 1)) m_17_84 (.inl 5) [some (am_r (am_a 254)), some (am_i n), some (am_i (if 14336 < ff n 2048 bl + n then -1 else ff n 2048 bl))] [] (zS L, h1)) = pI L r h' ∧ JO ky G h o h' ∧ (∀ v, o.1 = .inl v → r = v ∧ 2048 ≤ v ∧ v + n ≤ 14336 ∧ 1 ≤ n) ∧ (∀ a, v_pl (a : Nat) → o.2.1 a = G.1 a) := by
      refine ⟨_, erh 6 h, 0, rfl, ?_, JO_err R e 6, fun v hv => (by cases hv), fun a _ => rfl⟩
      rw [m_err, p_xV, q_17_84_5, erh_99 e, if_neg (by decide)]
    by_cases c2 : bl.length = 100
    · rw [v_if_t (by omega), v_err, q_17_84_3]
      by_cases c3 : (if 14336 < ff n 2048 bl + n then -1 else ff n 2048 bl) = -1
      · rw [if_pos c3]; exact err6
      · rw [if_neg c3, if_pos (by omega)]; exact err6
    · rw [v_if_f (by omega), q_17_84_3]
      have F1 := ff_ge n 2048 bl B.2.2
      have vf := v_find d (ky := ky) B n (by omega) hn.2 none bl 0 2048 none (by simp) (by omega) B.2.2 (by omega) (by omega) rfl (by omega) 0
      rw [show ((0 : Nat) : Int) = 0 from rfl] at vf
      by_cases c3 : 14336 < ff n 2048 bl + n
      · rw [vf.1 c3, if_pos c3, if_pos rfl]
        rw [if_pos c3] at err6; exact err6
      · rw [vf.2 (by omega), if_neg c3, if_neg (by omega), if_neg (by omega), q_17_84_5, if_pos e, p_idx (by omega) (by omega), p_idx (by omega) (by omega), p_w (by omega) (by omega)]
        have hfx := fx_le n 2048 bl
        obtain ⟨G2, tm', e1, e2, e3, e4⟩ := v_shift d (ky := ky) n (ff n 2048 bl) (fx n 2048 bl) none (bl.length - fx n 2048 bl) bl.length none G (by omega) (by omega)
        rw [e1, w_3_11, v_if_f (by omega), s16_id (x := 16520 + (fx n 2048 bl : Int)) ⟨by omega, by omega⟩, v_wr_m (by omega) (by omega)]
        try dsimp only
        rw [s16_id (x := 16640 + (fx n 2048 bl : Int)) ⟨by omega, by omega⟩, v_wr_m (by omega) (by omega)]
        try dsimp only
        rw [show ((16520 : Int) + (fx n 2048 bl : Int)).toNat = 16520 + fx n 2048 bl by omega, show ((16640 : Int) + (fx n 2048 bl : Int)).toNat = 16640 + fx n 2048 bl by omega, p_set_n _ _ _ 18 (by omega), p_set_n _ _ _ 18 (by omega), e3 18 (by omega) (by omega), B.1.2.2.1, s16_id (x := (bl.length : Int) + 1) ⟨by omega, by omega⟩]
        have keep : ∀ a : Nat, a ≠ 18 → ¬ (16520 ≤ a ∧ a < 16620) → ¬ (16640 ≤ a ∧ a < 16740) → p_set (p_set (p_set G2.1 (16520 + fx n 2048 bl) (ff n 2048 bl)) (16640 + fx n 2048 bl) n) 18 ((bl.length : Int) + 1) a = G.1 a := fun a a1 a2 a3 => by
          rw [p_set_n _ _ _ _ a1, p_set_n _ _ _ _ (by omega), p_set_n _ _ _ _ (by omega), e3 a a2 a3]
        have pl : ∀ a : Nat, v_pl (a : Int) → p_set (p_set (p_set G2.1 (16520 + fx n 2048 bl) (ff n 2048 bl)) (16640 + fx n 2048 bl) n) 18 ((bl.length : Int) + 1) a = G.1 a := fun a ha => keep a (by unfold v_pl at ha; omega) (by unfold v_pl at ha; omega) (by unfold v_pl at ha; omega)
        have cc : ∀ a, a ≠ 254 → a ≠ 309 → a ≠ 310 → am_up (am_up (am_up h 309 (h 254 81).toNat (ff n 2048 bl)) 310 (h 254 81).toNat n) 254 81 (h 254 81 + 1) a = h a := fun a a1 a2 a3 => by rw [p_up_c _ _ _ _ _ a1, p_up_c _ _ _ _ _ a3, p_up_c _ _ _ _ _ a2]
        have cf : ∀ k, k ≠ 81 → am_up (am_up (am_up h 309 (h 254 81).toNat (ff n 2048 bl)) 310 (h 254 81).toNat n) 254 81 (h 254 81 + 1) 254 k = h 254 k := fun k hk => by rw [p_up_n _ _ _ _ _ _ (Or.inr hk), p_up_c _ _ _ _ _ (by decide), p_up_c _ _ _ _ _ (by decide)]
        have rows : ∀ j, j ≤ 99 → p_set (p_set (p_set G2.1 (16520 + fx n 2048 bl) (ff n 2048 bl)) (16640 + fx n 2048 bl) n) 18 ((bl.length : Int) + 1) (16520 + j) = (if j = fx n 2048 bl then ff n 2048 bl else G2.1 (16520 + j)) ∧ p_set (p_set (p_set G2.1 (16520 + fx n 2048 bl) (ff n 2048 bl)) (16640 + fx n 2048 bl) n) 18 ((bl.length : Int) + 1) (16640 + j) = (if j = fx n 2048 bl then n else G2.1 (16640 + j)) := fun j hj => by
          by_cases c : j = fx n 2048 bl
          · subst c
            rw [if_pos rfl, if_pos rfl, p_set_n _ _ _ _ (by omega), p_set_n _ _ _ _ (by omega), p_set_s, p_set_n _ _ _ _ (by omega), p_set_s]
            exact ⟨rfl, rfl⟩
          · rw [if_neg c, if_neg c, p_set_n _ _ _ _ (by omega), p_set_n _ _ _ _ (by omega), p_set_n _ _ _ _ (by omega), p_set_n _ _ _ _ (by omega), p_set_n _ _ _ _ (by omega), p_set_n _ _ _ _ (by omega)]
            exact ⟨rfl, rfl⟩
        refine ⟨_, _, _, rfl, rfl, ⟨⟨fun a ha => ?_, ⟨fi n 2048 bl, ⟨⟨?_, ?_, ?_, ?_⟩, fun j q hq => ?_, ?_⟩, ?_, ?_⟩, ?_, ?_, ?_, fun a => ?_⟩, fun a a1 a2 => keep a (by omega) (by omega) (by omega), ?_, ?_⟩, fun v hv => ?_, pl⟩
        · rw [cc 308 (by decide) (by decide) (by decide)]; exact (pl a ha).trans (r1 a ha)
        · exact (keep 16 (by decide) (by omega) (by omega)).trans B.1.1
        · exact (keep 17 (by decide) (by omega) (by omega)).trans B.1.2.1
        · rw [fi_len]; dsimp only; rw [p_set_s]; omega
        · rw [fi_len]; omega
        · have hj : j < (fi n 2048 bl).length := (List.getElem?_eq_some_iff.1 hq).1
          rw [fi_len] at hj
          rw [fi_get] at hq
          obtain ⟨f1, f2⟩ := rows j (by omega)
          obtain ⟨g1, g2⟩ := e4 j (by omega)
          refine ⟨f1.trans ?_, f2.trans ?_⟩
          · by_cases c : j = fx n 2048 bl
            · rw [if_neg (by omega), if_pos c] at hq
              rw [if_pos c, ← Option.some.inj hq]
            · rw [if_neg c, g1]
              by_cases c2 : j < fx n 2048 bl
              · rw [if_pos c2] at hq
                rw [if_neg (by omega)]; exact (B.2.1 j q hq).1
              · rw [if_neg c2, if_neg c] at hq
                rw [if_pos (by omega)]; exact (B.2.1 (j - 1) q hq).1
          · by_cases c : j = fx n 2048 bl
            · rw [if_neg (by omega), if_pos c] at hq
              rw [if_pos c, ← Option.some.inj hq]
            · rw [if_neg c, g2]
              by_cases c2 : j < fx n 2048 bl
              · rw [if_pos c2] at hq
                rw [if_neg (by omega)]; exact (B.2.1 j q hq).2
              · rw [if_neg c2, if_neg c] at hq
                rw [if_pos (by omega)]; exact (B.2.1 (j - 1) q hq).2
        · exact fi_bS n (by omega) 2048 bl B.2.2 (by omega)
        · rw [p_up_s]; omega
        · refine (fi_perm n 2048 bl).trans ?_
          unfold bk
          rw [p_up_s, p_up_c _ _ _ _ 309 (by decide), p_up_c _ _ _ _ 309 (by decide), p_up_c _ _ _ _ 310 (by decide), show (h 254 81 + 1).toNat = (h 254 81).toNat + 1 by omega, List.range_succ, List.map_append]
          have m1 : List.map (fun b => (am_up h 309 (h 254 81).toNat (ff n 2048 bl) 309 b, am_up (am_up h 309 (h 254 81).toNat (ff n 2048 bl)) 310 (h 254 81).toNat n 310 b)) (List.range (h 254 81).toNat) = bk h := by
            unfold bk
            refine List.map_congr_left fun b hb' => ?_
            have := List.mem_range.1 hb'
            rw [p_up_f, p_set_n _ _ _ _ (by omega), p_up_f, p_set_n _ _ _ _ (by omega), p_up_c _ _ _ _ _ (by decide)]
          have m2 : List.map (fun b => (am_up h 309 (h 254 81).toNat (ff n 2048 bl) 309 b, am_up (am_up h 309 (h 254 81).toNat (ff n 2048 bl)) 310 (h 254 81).toNat n 310 b)) [(h 254 81).toNat] = [(ff n 2048 bl, n)] := by
            show [(am_up h 309 (h 254 81).toNat (ff n 2048 bl) 309 (h 254 81).toNat, am_up (am_up h 309 (h 254 81).toNat (ff n 2048 bl)) 310 (h 254 81).toNat n 310 (h 254 81).toNat)] = _
            rw [p_up_s, p_up_s]
          rw [m1, m2]
          exact (P.cons _).trans (List.perm_append_comm (l₁ := [(ff n 2048 bl, n)]) (l₂ := bk h))
        · rw [cf 108 (by decide)]; simp only [keep 19 (by decide) (by omega) (by omega)]; exact r4
        · unfold kyR; rw [cf 103 (by decide), cf 102 (by decide), cc 319 (by decide) (by decide) (by decide)]; dsimp only; rw [e2]; exact r5
        · rw [cf 106 (by decide), cc 320 (by decide) (by decide) (by decide)]; dsimp only; rw [e2]; exact r6
        · show rg16 (p_set (p_set (p_set G2.1 (16520 + fx n 2048 bl) (ff n 2048 bl)) (16640 + fx n 2048 bl) n) 18 ((bl.length : Int) + 1) a)
          by_cases z1 : a = 18
          · rw [z1, p_set_s]; exact ⟨by omega, by omega⟩
          · by_cases z2 : 16520 ≤ a ∧ a < 16620
            · obtain ⟨j, rfl⟩ : ∃ j, a = 16520 + j := ⟨a - 16520, by omega⟩
              rw [(rows j (by omega)).1]
              split
              · exact ⟨by omega, by omega⟩
              · rw [(e4 j (by omega)).1]; split <;> exact r7 _
            · by_cases z3 : 16640 ≤ a ∧ a < 16740
              · obtain ⟨j, rfl⟩ : ∃ j, a = 16640 + j := ⟨a - 16640, by omega⟩
                rw [(rows j (by omega)).2]
                split
                · exact hn
                · rw [(e4 j (by omega)).2]; split <;> exact r7 _
              · rw [keep a z1 z2 z3]; exact r7 a
        · exact (((p_fr.refl h).upc _ _ _ rfl).upc _ _ _ rfl).upf _ _ _ rfl
        · exact ⟨(cf 99 (by decide)).trans e, cf 100 (by decide), by omega, by omega⟩
        · have : ff n 2048 bl = v := by injection hv
          subst this
          exact ⟨rfl, F1, by omega, by omega⟩
/-- rows without one entry -/
theorem pm_set {α : Type} : ∀ (l : List α) (b : Nat) (x y : α), l[b]? = some y → (l ++ [x]).Perm (y :: l.set b x)
  | [], b, x, y, h => by cases h
  | z :: l, 0, x, y, h => by
    have : z = y := Option.some.inj h
    subst this
    show (z :: (l ++ [x])).Perm (z :: x :: l)
    exact (List.perm_append_comm (l₁ := l) (l₂ := [x])).cons _
  | z :: l, b + 1, x, y, h => by
    show (z :: (l ++ [x])).Perm (y :: z :: l.set b x)
    exact ((pm_set l b x y h).cons z).trans (List.Perm.swap _ _ _)
theorem pm_er {α : Type} : ∀ (l : List α) (b : Nat) (y : α), l[b]? = some y → l.Perm (y :: l.eraseIdx b)
  | [], b, y, h => by cases h
  | z :: l, 0, y, h => by
    have : z = y := Option.some.inj h
    subst this
    exact List.Perm.refl _
  | z :: l, b + 1, y, h => ((pm_er l b y h).cons z).trans (List.Perm.swap _ _ _)
theorem bS_er {lo : Int} : ∀ {bl : List (Int × Int)} (i : Nat), bS lo bl → bS lo (bl.eraseIdx i)
  | [], _, _ => trivial
  | q :: r, 0, ⟨h1, h2, h3, h4⟩ => by
    show bS lo r
    cases r with
    | nil => trivial
    | cons p r => obtain ⟨g1, g2⟩ := h4; exact ⟨by omega, g2⟩
  | q :: r, i + 1, ⟨h1, h2, h3, h4⟩ => ⟨h1, h2, h3, bS_er i h4⟩
theorem bS_inj {lo : Int} : ∀ {bl : List (Int × Int)}, bS lo bl → ∀ p q, p ∈ bl → q ∈ bl → p.1 = q.1 → p = q
  | [], _, p, _, h, _, _ => by cases h
  | x :: r, ⟨h1, h2, h3, h4⟩, p, q, hp, hq, e => by
    rcases List.mem_cons.1 hp with zp | zp
    · rcases List.mem_cons.1 hq with zq | zq
      · rw [zp, zq]
      · have := bS_lo h4 q zq; rw [zp] at e; omega
    · rcases List.mem_cons.1 hq with zq | zq
      · have := bS_lo h4 p zp; rw [zq] at e; omega
      · exact bS_inj h4 p q zp zq e
/-- Memory.deAlloc: the search -/
theorem v_seek {bl : List (Int × Int)} (B : vBk G.1 bl) (a : Int) (ha : rg16 a) : ∀ (m i : Nat) (th tm : Option Int), i + m = bl.length → (∀ j (hj : j < bl.length), j < i → bl[j].1 ≠ a) →
    (∃ (k : Nat) (hk : k < bl.length), bl[k].1 = a ∧ vE ky (vD ky (d + 1)) 8 c_4 (vlab c_4 14) ([a], [(i : Int), 16520, 16640], th, tm, [], G) = vE ky (vD ky (d + 1)) 8 c_4 (vlab c_4 18) ([a], [(k : Int), 16520, 16640], th, tm, [], G)) ∨ ((∀ j (hj : j < bl.length), bl[j].1 ≠ a) ∧ vE ky (vD ky (d + 1)) 8 c_4 (vlab c_4 14) ([a], [(i : Int), 16520, 16640], th, tm, [], G) = some (.inr (3, 21), G))
  | 0, i, th, tm, hm, hi => by
    have hlen := B.1.2.2.2
    right
    refine ⟨fun j hj => hi j hj (by omega), ?_⟩
    rw [w_4_14, s16_id (x := 16520 + (i : Int)) ⟨by omega, by omega⟩, v_rd_m (by omega) (by omega), tf_not, tf_and, v_if_f (by rw [B.1.2.2.1]; omega), v_if_t (by rw [B.1.2.2.1]; omega), v_err]
    rfl
  | m + 1, i, th, tm, hm, hi => by
    have hlen := B.1.2.2.2
    have hil : i < bl.length := by omega
    rw [w_4_14, s16_id (x := 16520 + (i : Int)) ⟨by omega, by omega⟩, v_rd_m (by omega) (by omega), tf_not, tf_and, show ((16520 : Int) + (i : Int)).toNat = 16520 + i by omega, (B.row hil).1, B.1.2.2.1]
    by_cases c : bl[i].1 = a
    · left
      refine ⟨i, hil, c, ?_⟩
      rw [v_if_f (fun z => z.2 c), v_if_f (by omega)]
    · rw [v_if_t ⟨by omega, c⟩, s16_id (x := (i : Int) + 1) ⟨by omega, by omega⟩]
      exact v_seek B a ha m (i + 1) th tm (by omega) (fun j hj hji => by
        by_cases z : j = i
        · subst z; exact c
        · exact hi j hj (by omega))
/-- Memory.deAlloc: the rest moves up -/
theorem v_close (a : Int) (th : Option Int) : ∀ (m i : Nat) (tm : Option Int) (G1 : vG), G1.1 18 = ((i + m : Nat) : Int) → i + m ≤ 99 → ∃ G2, vE ky (vD ky (d + 1)) 8 c_4 (vlab c_4 19) ([a], [(i : Int), 16520, 16640], th, tm, [], G1) = some (.inl 0, G2) ∧ G2.2 = G1.2 ∧ (∀ a, ¬ (16520 ≤ a ∧ a < 16620) → ¬ (16640 ≤ a ∧ a < 16740) → G2.1 a = G1.1 a) ∧ (∀ j, j ≤ 99 → G2.1 (16520 + j) = (if i ≤ j ∧ j < i + m then G1.1 (16520 + (j + 1)) else G1.1 (16520 + j)) ∧ G2.1 (16640 + j) = (if i ≤ j ∧ j < i + m then G1.1 (16640 + (j + 1)) else G1.1 (16640 + j)))
  | 0, i, tm, G1, h18, h9 => by
    refine ⟨G1, ?_, rfl, fun _ _ _ => rfl, fun j hj => by rw [if_neg (by omega), if_neg (by omega)]; exact ⟨rfl, rfl⟩⟩
    rw [w_4_19, v_if_f (by omega)]
  | m + 1, i, tm, G1, h18, h9 => by
    rw [w_4_19, v_if_t (by omega), s16_id (x := (i : Int) + 1) ⟨by omega, by omega⟩, s16_id (x := 16520 + ((i : Int) + 1)) ⟨by omega, by omega⟩, v_rd_m (by omega) (by omega), s16_id (x := 16520 + (i : Int)) ⟨by omega, by omega⟩, v_wr_m (by omega) (by omega), s16_id (x := 16640 + ((i : Int) + 1)) ⟨by omega, by omega⟩, v_rd_m (by omega) (by omega), s16_id (x := 16640 + (i : Int)) ⟨by omega, by omega⟩, v_wr_m (by omega) (by omega)]
    dsimp only
    rw [show ((16520 : Int) + ((i : Int) + 1)).toNat = 16520 + (i + 1) by omega, show ((16640 : Int) + ((i : Int) + 1)).toNat = 16640 + (i + 1) by omega, show ((16520 : Int) + (i : Int)).toNat = 16520 + i by omega, show ((16640 : Int) + (i : Int)).toNat = 16640 + i by omega, p_set_n _ _ _ (16640 + (i + 1)) (by omega), show (i : Int) + 1 = ((i + 1 : Nat) : Int) by omega]
    obtain ⟨G2, e1, e2, e3, e4⟩ := v_close a th m (i + 1) (some (G1.1 (16640 + (i + 1)))) (p_set (p_set G1.1 (16520 + i) (G1.1 (16520 + (i + 1)))) (16640 + i) (G1.1 (16640 + (i + 1))), G1.2) (by dsimp only; rw [p_set_n _ _ _ _ (by omega), p_set_n _ _ _ _ (by omega), h18]; omega) (by omega)
    refine ⟨G2, e1, e2, fun a h1 h2 => ?_, fun j hj => ?_⟩
    · rw [e3 a h1 h2]
      dsimp only
      rw [p_set_n _ _ _ _ (by omega), p_set_n _ _ _ _ (by omega)]
    · obtain ⟨f1, f2⟩ := e4 j hj
      dsimp only at f1 f2
      rw [f1, f2]
      by_cases c : i + 1 ≤ j ∧ j < i + 1 + m
      · rw [if_pos c, if_pos c, if_pos (show i ≤ j ∧ j < i + (m + 1) by omega), if_pos (show i ≤ j ∧ j < i + (m + 1) by omega)]
        rw [p_set_n _ _ _ _ (by omega), p_set_n _ _ _ _ (by omega), p_set_n _ _ _ _ (by omega), p_set_n _ _ _ _ (by omega)]
        exact ⟨rfl, rfl⟩
      · rw [if_neg c, if_neg c]
        by_cases c2 : j = i
        · subst c2
          rw [if_pos (by omega), if_pos (by omega), p_set_n _ _ _ _ (by omega), p_set_s, p_set_s]
          exact ⟨rfl, rfl⟩
        · rw [if_neg (by omega), if_neg (by omega), p_set_n _ _ _ _ (by omega), p_set_n _ _ _ _ (by omega), p_set_n _ _ _ _ (by omega), p_set_n _ _ _ _ (by omega)]
          exact ⟨rfl, rfl⟩
/-- Memory.deAlloc and drop() -/
theorem j_free (R : MR ky G h) (e : h 254 99 = -1) (a : Int) (ha : rg16 a) : ∃ o h', vD ky (d + 2) 4 [a] G = some o ∧ am_D (d + 2) 17 85 [am_r (am_a 254), am_i a] (zS L, h) = pV L h' ∧ JO ky G h o h' ∧ (∀ v, o.1 = .inl v → v = 0) := by
  obtain ⟨r1, ⟨bl, B, hb, P⟩, r4, r5, r6, r7⟩ := id R
  have hlen := B.1.2.2.2
  have hcnt : h 254 81 = (bl.length : Int) := by
    have := P.length_eq
    unfold bk at this
    rw [List.length_map, List.length_range] at this
    omega
  rw [w_4, B.1.1, B.1.2.1, D_17_85]
  -- the model's search
  have seek : ∀ (m i : Nat), (i : Int) + m = h 254 81 → (∀ j : Nat, j < i → h 309 j ≠ a) → (∃ b : Nat, (b : Int) < h 254 81 ∧ h 309 b = a ∧ am_E (am_D (d + 1)) m_17_85 (.inl 1) [some (am_r (am_a 254)), some (am_i a), some (am_i (i : Int))] [] (zS L, h) = pV L (am_up (am_up (am_up h 254 81 (h 254 81 - 1)) 309 b (h 309 (h 254 81 - 1).toNat)) 310 b (h 310 (h 254 81 - 1).toNat))) ∨ ((∀ b : Nat, (b : Int) < h 254 81 → h 309 b ≠ a) ∧ am_E (am_D (d + 1)) m_17_85 (.inl 1) [some (am_r (am_a 254)), some (am_i a), some (am_i (i : Int))] [] (zS L, h) = pV L (erh 21 h)) := by
    intro m
    induction m with
    | zero =>
      intro i hm hi
      right
      refine ⟨fun b hb => hi b (by omega), ?_⟩
      rw [q_17_85_1, if_neg (by omega), m_err, p_xV]
    | succ m ih =>
      intro i hm hi
      rw [q_17_85_1, if_pos (by omega), p_idx (by omega) (by omega), Int.toNat_natCast]
      by_cases c : h 309 i = a
      · left
        refine ⟨i, by omega, c, ?_⟩
        rw [if_pos c, p_w (by omega) (by omega), p_idx (by omega) (by omega), p_idx (by omega) (by omega), p_idx (by omega) (by omega), p_idx (by omega) (by omega), Int.toNat_natCast]
      · rw [if_neg c, p_w (by omega) (by omega), show (i : Int) + 1 = ((i + 1 : Nat) : Int) by omega]
        exact ih (i + 1) (by omega) (fun j hj => by
          by_cases z : j = i
          · rw [z]; exact c
          · exact hi j (by omega))
  have ms := seek (h 254 81).toNat 0 (by omega) (fun j hj => by omega)
  have vs := v_seek d (ky := ky) B a ha bl.length 0 none none (by omega) (fun j _ hj => by omega)
  rw [show ((0 : Nat) : Int) = 0 from rfl] at ms vs
  have mem : ∀ b : Nat, (b : Int) < h 254 81 → (h 309 b, h 310 b) ∈ bl := fun b hb => by
    rw [P.mem_iff]; unfold bk
    exact List.mem_map.2 ⟨b, List.mem_range.2 (by omega), rfl⟩
  have memi : ∀ q ∈ bl, ∃ b : Nat, (b : Int) < h 254 81 ∧ q = (h 309 b, h 310 b) := fun q hq => by
    rw [P.mem_iff] at hq; unfold bk at hq
    obtain ⟨b, b1, b2⟩ := List.mem_map.1 hq
    exact ⟨b, by rw [List.mem_range] at b1; omega, b2.symm⟩
  rcases vs with ⟨k, hk, k1, k2⟩ | ⟨k1, k2⟩
  · rcases ms with ⟨b, b1, b2, b3⟩ | ⟨b1, b2⟩
    · rw [k2, b3, w_4_18, B.1.2.2.1, s16_id (x := (bl.length : Int) - 1) ⟨by omega, by omega⟩]
      obtain ⟨G2, e1, e2, e3, e4⟩ := v_close d (ky := ky) a none (bl.length - 1 - k) k none (p_set G.1 18 ((bl.length : Int) - 1), G.2) (by dsimp only; rw [p_set_s]; omega) (by omega)
      rw [e1]
      have eq : bl[k] = (h 309 b, h 310 b) := bS_inj B.2.2 _ _ (List.getElem_mem hk) (mem b b1) (by rw [k1]; exact b2.symm)
      have keep : ∀ x : Nat, x ≠ 18 → ¬ (16520 ≤ x ∧ x < 16620) → ¬ (16640 ≤ x ∧ x < 16740) → G2.1 x = G.1 x := fun x x1 x2 x3 => by
        rw [e3 x x2 x3]; exact p_set_n _ _ _ _ x1
      have cc : ∀ x, x ≠ 254 → x ≠ 309 → x ≠ 310 → am_up (am_up (am_up h 254 81 (h 254 81 - 1)) 309 b (h 309 (h 254 81 - 1).toNat)) 310 b (h 310 (h 254 81 - 1).toNat) x = h x := fun x a1 a2 a3 => by rw [p_up_c _ _ _ _ _ a3, p_up_c _ _ _ _ _ a2, p_up_c _ _ _ _ _ a1]
      have cf : ∀ j, j ≠ 81 → am_up (am_up (am_up h 254 81 (h 254 81 - 1)) 309 b (h 309 (h 254 81 - 1).toNat)) 310 b (h 310 (h 254 81 - 1).toNat) 254 j = h 254 j := fun j hj => by rw [p_up_c _ _ _ _ _ (by decide), p_up_c _ _ _ _ _ (by decide), p_up_n _ _ _ _ _ _ (Or.inr hj)]
      have c81 : am_up (am_up (am_up h 254 81 (h 254 81 - 1)) 309 b (h 309 (h 254 81 - 1).toNat)) 310 b (h 310 (h 254 81 - 1).toNat) 254 81 = h 254 81 - 1 := by rw [p_up_c _ _ _ _ _ (by decide), p_up_c _ _ _ _ _ (by decide), p_up_s]
      refine ⟨_, _, rfl, rfl, ⟨⟨fun x hx => ?_, ⟨bl.eraseIdx k, ⟨⟨?_, ?_, ?_, ?_⟩, fun j q hq => ?_, bS_er k B.2.2⟩, ?_, ?_⟩, ?_, ?_, ?_, fun x => ?_⟩, fun x x1 x2 => keep x (by omega) (by omega) (by omega), ?_, ?_⟩, fun v hv => by injection hv with hv; exact hv.symm⟩
      · rw [cc 308 (by decide) (by decide) (by decide), ← r1 x hx]; exact keep x (by unfold v_pl at hx; omega) (by unfold v_pl at hx; omega) (by unfold v_pl at hx; omega)
      · exact (keep 16 (by decide) (by omega) (by omega)).trans B.1.1
      · exact (keep 17 (by decide) (by omega) (by omega)).trans B.1.2.1
      · dsimp only; rw [e3 18 (by omega) (by omega), List.length_eraseIdx_of_lt hk]; dsimp only; rw [p_set_s]; omega
      · rw [List.length_eraseIdx_of_lt hk]; omega
      · have hj : j < (bl.eraseIdx k).length := (List.getElem?_eq_some_iff.1 hq).1
        rw [List.length_eraseIdx_of_lt hk] at hj
        obtain ⟨g1, g2⟩ := e4 j (by omega)
        dsimp only at g1 g2 ⊢
        rw [g1, g2]
        by_cases c : k ≤ j
        · rw [List.getElem?_eraseIdx_of_ge c] at hq
          rw [if_pos (by omega), if_pos (by omega), p_set_n _ _ _ _ (by omega), p_set_n _ _ _ _ (by omega)]
          exact B.2.1 (j + 1) q hq
        · rw [List.getElem?_eraseIdx_of_lt (by omega)] at hq
          rw [if_neg (by omega), if_neg (by omega), p_set_n _ _ _ _ (by omega), p_set_n _ _ _ _ (by omega)]
          exact B.2.1 j q hq
      · rw [c81]; omega
      · have p1 := pm_er bl k _ (List.getElem?_eq_getElem hk)
        have p2 : (bk h).Perm ((h 309 b, h 310 b) :: bk (am_up (am_up (am_up h 254 81 (h 254 81 - 1)) 309 b (h 309 (h 254 81 - 1).toNat)) 310 b (h 310 (h 254 81 - 1).toNat))) := by
          unfold bk
          rw [c81, p_up_c _ _ _ _ 309 (by decide), p_up_f, p_up_f, p_up_c _ _ _ _ 309 (by decide), p_up_c _ _ _ _ 310 (by decide), p_up_c _ _ _ _ 310 (by decide)]
          obtain ⟨n, hn⟩ : ∃ n : Nat, h 254 81 = (n : Int) + 1 := ⟨(h 254 81 - 1).toNat, by omega⟩
          rw [hn, show ((n : Int) + 1).toNat = n + 1 by omega, show ((n : Int) + 1 - 1).toNat = n by omega, List.range_succ, List.map_append]
          by_cases z : b = n
          · subst z
            refine (List.perm_append_comm (l₂ := [(h 309 b, h 310 b)])).trans (List.Perm.of_eq ?_)
            show (h 309 b, h 310 b) :: _ = _
            congr 1
            refine List.map_congr_left fun j hj => ?_
            have := List.mem_range.1 hj
            rw [p_set_n _ _ _ _ (by omega), p_set_n _ _ _ _ (by omega)]
          · have g : ((List.range n).map fun b => (h 309 b, h 310 b))[b]? = some (h 309 b, h 310 b) := by
              rw [List.getElem?_map, List.getElem?_range (by omega)]; rfl
            refine (pm_set _ b (h 309 n, h 310 n) _ g).trans (List.Perm.of_eq ?_)
            congr 1
            apply List.ext_getElem?
            intro j
            rw [List.getElem?_set, List.getElem?_map, List.getElem?_map, List.length_map, List.length_range]
            by_cases zj : b = j
            · subst zj
              rw [if_pos rfl, if_pos (by omega), List.getElem?_range (by omega)]
              show _ = some (_, _)
              rw [p_set_s, p_set_s]
            · rw [if_neg zj]
              by_cases zn : j < n
              · rw [List.getElem?_range zn]
                show some (_, _) = some (_, _)
                rw [p_set_n _ _ _ _ (fun z => zj z.symm), p_set_n _ _ _ _ (fun z => zj z.symm)]
              · rw [List.getElem?_eq_none (by rw [List.length_range]; omega)]; rfl
        rw [eq] at p1
        exact (List.perm_cons _).1 (p1.symm.trans (P.trans p2))
      · rw [cf 108 (by decide)]; dsimp only; simp only [keep 19 (by decide) (by omega) (by omega)]; exact r4
      · unfold kyR; rw [cf 103 (by decide), cf 102 (by decide), cc 319 (by decide) (by decide) (by decide)]; dsimp only; rw [e2]; exact r5
      · rw [cf 106 (by decide), cc 320 (by decide) (by decide) (by decide)]; dsimp only; rw [e2]; exact r6
      · show rg16 (G2.1 x)
        by_cases z1 : x = 18
        · rw [z1, e3 18 (by omega) (by omega)]; dsimp only; rw [p_set_s]; exact ⟨by omega, by omega⟩
        · have rr : ∀ y, rg16 (p_set G.1 18 ((bl.length : Int) - 1) y) := fun y => by
            by_cases zy : y = 18
            · rw [zy, p_set_s]; exact ⟨by omega, by omega⟩
            · rw [p_set_n _ _ _ _ zy]; exact r7 y
          by_cases z2 : 16520 ≤ x ∧ x < 16620
          · obtain ⟨j, rfl⟩ : ∃ j, x = 16520 + j := ⟨x - 16520, by omega⟩
            rw [(e4 j (by omega)).1]; split <;> exact rr _
          · by_cases z3 : 16640 ≤ x ∧ x < 16740
            · obtain ⟨j, rfl⟩ : ∃ j, x = 16640 + j := ⟨x - 16640, by omega⟩
              rw [(e4 j (by omega)).2]; split <;> exact rr _
            · rw [keep x z1 z2 z3]; exact r7 x
      · exact (((p_fr.refl h).upf _ _ _ rfl).upc _ _ _ rfl).upc _ _ _ rfl
      · exact ⟨(cf 99 (by decide)).trans e, cf 100 (by decide), by omega, by omega⟩
    · exfalso
      obtain ⟨b, b3, b4⟩ := memi _ (List.getElem_mem hk)
      exact b1 b b3 (by have := congrArg Prod.fst b4; rw [k1] at this; exact this.symm)
  · rcases ms with ⟨b, b1, b2, b3⟩ | ⟨b1, b2⟩
    · exfalso
      obtain ⟨k, hk, hk2⟩ := List.getElem_of_mem (mem b b1)
      exact k1 k hk (by rw [hk2]; exact b2)
    · rw [k2, b2]
      exact ⟨_, _, rfl, rfl, JO_err R e 21, fun v hv => by cases hv⟩
end
