/-! PURE LAYER, 4: names, each kept once; printed by gen/pnames.py -/
def pn_pos (N : List (List Int)) (i : Nat) : Nat := ((N.take i).map List.length).sum
def pn_used (N : List (List Int)) : Nat := (N.map List.length).sum
def pn_add (N : List (List Int)) (w : List Int) : List (List Int) := if w ∈ N then N else N ++ [w]
theorem pn_add_new {N : List (List Int)} {w : List Int} (h : w ∉ N) : pn_add N w = N ++ [w] := if_neg h
theorem pn_add_old {N : List (List Int)} {w : List Int} (h : w ∈ N) : pn_add N w = N := if_pos h
theorem pn_used_app (N : List (List Int)) (w : List Int) : pn_used (N ++ [w]) = pn_used N + w.length := by unfold pn_used; simp
theorem pn_pos_len (N : List (List Int)) (w : List Int) : pn_pos (N ++ [w]) N.length = pn_used N := by unfold pn_pos pn_used; simp
theorem pn_pos_app {N : List (List Int)} {w : List Int} {i : Nat} (h : i ≤ N.length) : pn_pos (N ++ [w]) i = pn_pos N i := by unfold pn_pos; rw [List.take_append_of_le_length h]
theorem pn_pos_le {N : List (List Int)} {i : Nat} {w : List Int} (h : N[i]? = some w) : pn_pos N i + w.length ≤ pn_used N := by
  unfold pn_pos pn_used
  induction N generalizing i with
  | nil => simp at h
  | cons v N ih =>
    cases i with
    | zero => simp at h; subst h; simp
    | succ i =>
      simp only [List.getElem?_cons_succ] at h
      have := ih h
      simp only [List.take_succ_cons, List.map_cons, List.sum_cons]
      omega
theorem pn_idx {N : List (List Int)} {k : Nat} {w : List Int} (h : N[k]? = some w) (hn : ∀ i v, i < k → N[i]? = some v → v ≠ w) : N.idxOf w = k := by
  induction N generalizing k with
  | nil => simp at h
  | cons v N ih =>
    rw [List.idxOf_cons]
    cases k with
    | zero => simp at h; subst h; simp
    | succ k =>
      have h1 : v ≠ w := hn 0 v (by omega) rfl
      have h2 : (v == w) = false := by simpa using h1
      rw [h2, cond_false, ih (k := k) (by simpa using h) (fun i u hi hu => hn (i + 1) u (by omega) (by simpa using hu))]
/-! names, cells 4 .. -/
/-- the table holds these names, in order -/
def pna_R (h : am_H) (N : List (List Int)) : Prop := h 4 3 = N.length ∧ h 4 4 = pn_used N ∧ ∀ (i : Nat) (w : List Int), N[i]? = some w → h 6 i = pn_pos N i ∧ h 7 i = w.length ∧ ∀ (j : Nat) (x : Int), w[j]? = some x → h 5 (pn_pos N i + j) = x
section
variable (d L : Nat) (h : am_H) {N : List (List Int)} {a : Nat} {na : Nat} {ra : List am_R}
theorem pna_isAt (ha : (zS L)[a]? = some (2, na, ra)) (R : pna_R h N) (hu : pn_used N ≤ 18000) (hm : N.length ≤ 1400) {i b : Nat} {w : List Int} (hw : N[i]? = some w) (hb : b + w.length ≤ na) (hna : na ≤ 100000) : ∀ (m j : Nat) (x4 : Int), j + m = w.length → (x4 = pB (∀ q, q < j → w[q]? = some (h a (b + q)))) →
    am_E (am_D d) m_9_2 (.inl 1) [some (am_r (am_a 4)), some (am_i i), some (am_r (am_a a)), some (am_i b), some (am_i x4), some (am_i j)] [] (zS L, h) = pI L (pB (∀ q, q < w.length → w[q]? = some (h a (b + q)))) h := by
  obtain ⟨r1, r2, r3⟩ := R
  obtain ⟨s1, s2, s3⟩ := r3 i w hw
  have hi : i < N.length := (List.getElem?_eq_some_iff.mp hw).1
  intro m
  induction m with
  | zero =>
    intro j x4 e ex
    have ej : j = w.length := by omega
    subst ej
    rw [q_9_2_1_4, p_idx (by omega) (by omega), Int.toNat_natCast, s2, if_neg (by omega), ex, p_bitB]
  | succ m ih =>
    intro j x4 e ex
    rw [q_9_2_1_4, p_idx (by omega) (by omega), Int.toNat_natCast, s2, if_pos (by omega)]
    obtain ⟨x, hx⟩ : ∃ x, w[j]? = some x := ⟨w[j]'(by omega), List.getElem?_eq_some_iff.mpr ⟨by omega, rfl⟩⟩
    have hpos : pn_pos N i + w.length ≤ pn_used N := pn_pos_le hw
    by_cases c : ∀ q, q < j → w[q]? = some (h a (b + q))
    · rw [ex, pB_t c, if_neg (by decide), p_idx (by omega) (by omega), Int.toNat_natCast, s1, p_w (by omega) (by omega), p_idx (by omega) (by omega)]
      rw [p_arr ha, p_w (x := (b : Int) + j) (by omega) (by omega), p_idx (by omega) (by omega), p_w (x := (j : Int) + 1) (by omega) (by omega)]
      rw [show ((pn_pos N i : Int) + (j : Int)).toNat = pn_pos N i + j by omega, show ((b : Int) + (j : Int)).toNat = b + j by omega, s3 j x hx]
      by_cases c2 : x = h a (b + j)
      · rw [if_pos c2]
        refine ih (j + 1) 1 (by omega) ?_
        rw [pB_t]
        intro q hq
        by_cases hqj : q = j
        · subst hqj; rw [hx, c2]
        · exact c q (by omega)
      · rw [if_neg c2]
        have cf : ¬ ∀ q, q < j + 1 → w[q]? = some (h a (b + q)) := fun z => c2 (by have := z j (by omega); rw [hx] at this; exact Option.some.inj this)
        exact ih (j + 1) 0 (by omega) (by rw [pB_f cf])
    · rw [ex, pB_f c, if_pos rfl, p_bit0]
      rw [pB_f]
      exact fun z => c fun q hq => z q (by omega)
/-- the copy of a new name -/
theorem pna_copy (ha : (zS L)[a]? = some (2, na, ra)) (haa : a ≠ 5 ∧ a ≠ 4) (n b u : Nat) (hb : b + n ≤ na) (hu : u + n ≤ 18000) (hna : na ≤ 100000) (v : Int) (hv : 0 ≤ v ∧ v < 1400) : ∀ (m j : Nat) (g : am_H), j + m = n → g 4 4 = u → g 4 3 = v → (∀ q, q < n → -128 ≤ g a (b + q) ∧ g a (b + q) ≤ 127) →
    ∃ g', am_E (am_D d) m_9_1 (.inl 4) [some (am_r (am_a 4)), some (am_r (am_a a)), some (am_i b), some (am_i n), some (am_i j)] [] (zS L, g) = pI L v g' ∧ g' 4 4 = u + n ∧ g' 4 3 = v + 1 ∧ (∀ q, g' 5 q = if u + j ≤ q ∧ q < u + n then g a (b + (q - u)) else g 5 q) ∧ p_fr [5] [(4, 3), (4, 4)] g g' := by
  intro m
  induction m with
  | zero =>
    intro j g e e4 e3 hr
    rw [q_9_1_4_4, if_neg (by omega), e4, e3, p_w (x := (u : Int) + n) (by omega) (by omega), p_w (x := v + 1) (by omega) (by omega), p_w (by omega) (by omega)]
    refine ⟨_, by rw [show v + 1 - 1 = v by omega], ?_, by rw [p_up_s], fun q => ?_, ((p_fr.refl g).upf _ _ _ rfl).upf _ _ _ rfl⟩
    · rw [p_up_n _ _ _ _ _ _ (Or.inr (by decide)), p_up_s]
    · rw [if_neg (by omega), p_up_n _ _ _ _ _ _ (Or.inl (by decide)), p_up_n _ _ _ _ _ _ (Or.inl (by decide))]
  | succ m ih =>
    intro j g e e4 e3 hr
    rw [q_9_1_4_4, if_pos (by omega)]
    rw [p_arr ha, p_w (x := (b : Int) + j) (by omega) (by omega), p_idx (by omega) (by omega), e4, p_w (x := (u : Int) + j) (by omega) (by omega), p_idx (by omega) (by omega), p_w (x := (j : Int) + 1) (by omega) (by omega), show ((b : Int) + (j : Int)).toNat = b + j by omega, show ((u : Int) + (j : Int)).toNat = u + j by omega, p_s8 (hr j (by omega)).1 (hr j (by omega)).2]
    obtain ⟨g', a1, a2, a3, a4, a5⟩ := ih (j + 1) (am_up g 5 (u + j) (g a (b + j))) (by omega) (by rw [p_up_n _ _ _ _ _ _ (Or.inl (by decide))]; exact e4) (by rw [p_up_n _ _ _ _ _ _ (Or.inl (by decide))]; exact e3) (fun q hq => by rw [p_up_n _ _ _ _ _ _ (Or.inl haa.1)]; exact hr q hq)
    refine ⟨g', a1, a2, a3, fun q => ?_, ((p_fr.refl g).upc _ _ _ rfl).trans a5⟩
    rw [a4 q, p_up_n _ _ _ _ a _ (Or.inl haa.1), p_up g 5 (u + j) (g a (b + j)) 5 q]
    by_cases c : u + (j + 1) ≤ q ∧ q < u + n
    · rw [if_pos c, if_pos (by omega)]
    · rw [if_neg c]
      by_cases c2 : q = u + j
      · rw [if_pos ⟨rfl, c2⟩, if_pos (by omega), c2]; congr 1; omega
      · rw [if_neg (by omega), if_neg (by omega)]
def pna_F : List Nat := [5, 6, 7]
def pna_P : List (Nat × Nat) := [(4, 3), (4, 4)]
/-- the number of what stands in a row -/
theorem pna_find (ha : (zS L)[a]? = some (2, na, ra)) (haa : a ≠ 5 ∧ a ≠ 4 ∧ a ≠ 6 ∧ a ≠ 7) (R : pna_R h N) (b : Nat) (w : List Int) (hb : b + w.length ≤ na) (hna : na ≤ 100000) (hw : ∀ q x, w[q]? = some x → h a (b + q) = x ∧ -128 ≤ x ∧ x ≤ 127) (hm : N.length < 1400) (hu : pn_used N + w.length ≤ 18000) :
    ∃ h', am_D (d + 2) 9 1 [am_r (am_a 4), am_r (am_a a), am_i b, am_i w.length] (zS L, h) = pI L (N.idxOf w) h' ∧ pna_R h' (pn_add N w) ∧ p_fr pna_F pna_P h h' := by
  obtain ⟨r1, r2, r3⟩ := R
  have hwe : ∀ v : List Int, v.length = w.length → ((∀ q, q < v.length → v[q]? = some (h a (b + q))) ↔ v = w) := by
    intro v hv
    constructor
    · intro z
      apply List.ext_getElem?
      intro q
      by_cases hq : q < w.length
      · obtain ⟨x, hx⟩ : ∃ x, w[q]? = some x := ⟨w[q], List.getElem?_eq_some_iff.mpr ⟨hq, rfl⟩⟩
        rw [z q (by omega), hx, (hw q x hx).1]
      · rw [List.getElem?_eq_none (by omega), List.getElem?_eq_none (by omega)]
    · rintro rfl q hq
      obtain ⟨x, hx⟩ : ∃ x, v[q]? = some x := ⟨v[q], List.getElem?_eq_some_iff.mpr ⟨hq, rfl⟩⟩
      rw [hx, (hw q x hx).1]
  rw [D_9_1_4]
  have key : ∀ (m k : Nat), k + m = N.length → (∀ i v, i < k → N[i]? = some v → v ≠ w) → ∃ h', am_E (am_D (d + 1)) m_9_1 (.inl 1) [some (am_r (am_a 4)), some (am_r (am_a a)), some (am_i b), some (am_i w.length), some (am_i k)] [] (zS L, h) = pI L (N.idxOf w) h' ∧ pna_R h' (pn_add N w) ∧ p_fr pna_F pna_P h h' := by
    intro m
    induction m with
    | zero =>
      intro k e hn
      have hnot : w ∉ N := by
        intro z
        obtain ⟨i, hi⟩ := List.mem_iff_getElem?.mp z
        exact hn i w (by have := (List.getElem?_eq_some_iff.mp hi).1; omega) hi rfl
      rw [q_9_1_1_4, if_neg (by omega), p_idx (by omega) (by omega), p_idx (by omega) (by omega), r1, r2, Int.toNat_natCast]
      obtain ⟨h', a1, a2, a3, a4, a5⟩ := pna_copy (d + 1) L ha ⟨haa.1, haa.2.1⟩ w.length b (pn_used N) hb hu hna N.length (by omega) w.length 0 (am_up (am_up h 6 N.length (pn_used N)) 7 N.length w.length) (by omega) (by simp [p_up, r2]) (by simp [p_up, r1])
        (fun q hq => by
          rw [p_up_n _ _ _ _ _ _ (Or.inl haa.2.2.2), p_up_n _ _ _ _ _ _ (Or.inl haa.2.2.1)]
          obtain ⟨x, hx⟩ : ∃ x, w[q]? = some x := ⟨w[q], List.getElem?_eq_some_iff.mpr ⟨hq, rfl⟩⟩
          rw [(hw q x hx).1]; exact (hw q x hx).2)
      refine ⟨h', by rw [List.idxOf_eq_length hnot]; exact a1, ⟨?_, ?_, fun i v hv => ?_⟩, ((((p_fr.refl h).upc 6 N.length (pn_used N) rfl).upc 7 N.length w.length rfl)).trans (a5.mono rfl rfl)⟩
      · rw [a3, pn_add_new hnot, List.length_append]; simp
      · rw [a2, pn_add_new hnot, pn_used_app]; simp
      · have b1 : h' 6 i = am_up (am_up h 6 N.length (pn_used N)) 7 N.length w.length 6 i := a5 6 i rfl rfl
        have b2 : h' 7 i = am_up (am_up h 6 N.length (pn_used N)) 7 N.length w.length 7 i := a5 7 i rfl rfl
        rw [pn_add_new hnot] at hv ⊢
        by_cases hi : i < N.length
        · rw [List.getElem?_append_left hi] at hv
          obtain ⟨s1, s2, s3⟩ := r3 i v hv
          have hpos : pn_pos N i + v.length ≤ pn_used N := pn_pos_le hv
          rw [pn_pos_app (by omega)]
          refine ⟨?_, ?_, fun j x hj => ?_⟩
          · rw [b1]; simp [p_up, s1]; omega
          · rw [b2]; simp [p_up, s2]; omega
          · have hjl := (List.getElem?_eq_some_iff.mp hj).1
            rw [a4, if_neg (by omega)]; simp [p_up, s3 j x hj]
        · have hi2 : i = N.length := by
            have := (List.getElem?_eq_some_iff.mp hv).1
            rw [List.length_append, List.length_singleton] at this
            omega
          subst hi2
          rw [List.getElem?_append_right (by omega), Nat.sub_self] at hv
          cases hv
          rw [pn_pos_len]
          refine ⟨?_, ?_, fun j x hj => ?_⟩
          · rw [b1]; simp [p_up]
          · rw [b2]; simp [p_up]
          · have hjl := (List.getElem?_eq_some_iff.mp hj).1
            rw [a4, if_pos (by omega), show pn_used N + j - pn_used N = j by omega, p_up_n _ _ _ _ _ _ (Or.inl haa.2.2.2), p_up_n _ _ _ _ _ _ (Or.inl haa.2.2.1)]
            exact (hw j x hj).1
    | succ m ih =>
      intro k e hn
      obtain ⟨v, hv⟩ : ∃ v, N[k]? = some v := ⟨N[k]'(by omega), List.getElem?_eq_some_iff.mpr ⟨by omega, rfl⟩⟩
      obtain ⟨s1, s2, s3⟩ := r3 k v hv
      have nx : v ≠ w → ∃ h', am_E (am_D (d + 1)) m_9_1 (.inl 1) [some (am_r (am_a 4)), some (am_r (am_a a)), some (am_i b), some (am_i w.length), some (am_i (am_w (k + 1)))] [] (zS L, h) = pI L (N.idxOf w) h' ∧ pna_R h' (pn_add N w) ∧ p_fr pna_F pna_P h h' := by
        intro hne
        rw [p_w (by omega) (by omega)]
        refine ih (k + 1) (by omega) fun i u hi hu => ?_
        by_cases hik : i = k
        · subst hik; rw [hv] at hu; cases hu; exact hne
        · exact hn i u (by omega) hu
      rw [q_9_1_1_4, if_pos (by omega), p_idx (by omega) (by omega), Int.toNat_natCast, s2]
      by_cases c : v.length = w.length
      · have z0 := pna_isAt d L h ha ⟨r1, r2, r3⟩ (by omega) (by omega) hv (b := b) (by omega) hna v.length 0 1 (by omega) (by rw [pB_t]; intro q hq; omega)
        rw [Int.natCast_zero] at z0
        rw [if_pos (by omega), D_9_2_4, z0, p_xI]
        by_cases c2 : v = w
        · rw [pB_t ((hwe v c).mpr c2), if_neg (by decide)]
          subst c2
          have hm2 : v ∈ N := List.mem_of_getElem? hv
          refine ⟨h, ?_, by rw [pn_add_old hm2]; exact ⟨r1, r2, r3⟩, p_fr.refl h⟩
          rw [pn_idx hv hn]
        · rw [pB_f (fun z => c2 ((hwe v c).mp z)), if_pos rfl]
          exact nx c2
      · rw [if_neg (by omega)]
        exact nx fun z => c (by rw [z])
  obtain ⟨h', b1⟩ := key N.length 0 (by omega) (fun i v hi => by omega)
  exact ⟨h', b1⟩
end
/-! names, cells 74 .. -/
/-- the table holds these names, in order -/
def pnb_R (h : am_H) (N : List (List Int)) : Prop := h 74 3 = N.length ∧ h 74 4 = pn_used N ∧ ∀ (i : Nat) (w : List Int), N[i]? = some w → h 76 i = pn_pos N i ∧ h 77 i = w.length ∧ ∀ (j : Nat) (x : Int), w[j]? = some x → h 75 (pn_pos N i + j) = x
section
variable (d L : Nat) (h : am_H) {N : List (List Int)} {a : Nat} {na : Nat} {ra : List am_R}
theorem pnb_isAt (ha : (zS L)[a]? = some (2, na, ra)) (R : pnb_R h N) (hu : pn_used N ≤ 18000) (hm : N.length ≤ 1400) {i b : Nat} {w : List Int} (hw : N[i]? = some w) (hb : b + w.length ≤ na) (hna : na ≤ 100000) : ∀ (m j : Nat) (x4 : Int), j + m = w.length → (x4 = pB (∀ q, q < j → w[q]? = some (h a (b + q)))) →
    am_E (am_D d) m_9_2 (.inl 1) [some (am_r (am_a 74)), some (am_i i), some (am_r (am_a a)), some (am_i b), some (am_i x4), some (am_i j)] [] (zS L, h) = pI L (pB (∀ q, q < w.length → w[q]? = some (h a (b + q)))) h := by
  obtain ⟨r1, r2, r3⟩ := R
  obtain ⟨s1, s2, s3⟩ := r3 i w hw
  have hi : i < N.length := (List.getElem?_eq_some_iff.mp hw).1
  intro m
  induction m with
  | zero =>
    intro j x4 e ex
    have ej : j = w.length := by omega
    subst ej
    rw [q_9_2_1_74, p_idx (by omega) (by omega), Int.toNat_natCast, s2, if_neg (by omega), ex, p_bitB]
  | succ m ih =>
    intro j x4 e ex
    rw [q_9_2_1_74, p_idx (by omega) (by omega), Int.toNat_natCast, s2, if_pos (by omega)]
    obtain ⟨x, hx⟩ : ∃ x, w[j]? = some x := ⟨w[j]'(by omega), List.getElem?_eq_some_iff.mpr ⟨by omega, rfl⟩⟩
    have hpos : pn_pos N i + w.length ≤ pn_used N := pn_pos_le hw
    by_cases c : ∀ q, q < j → w[q]? = some (h a (b + q))
    · rw [ex, pB_t c, if_neg (by decide), p_idx (by omega) (by omega), Int.toNat_natCast, s1, p_w (by omega) (by omega), p_idx (by omega) (by omega)]
      rw [p_arr ha, p_w (x := (b : Int) + j) (by omega) (by omega), p_idx (by omega) (by omega), p_w (x := (j : Int) + 1) (by omega) (by omega)]
      rw [show ((pn_pos N i : Int) + (j : Int)).toNat = pn_pos N i + j by omega, show ((b : Int) + (j : Int)).toNat = b + j by omega, s3 j x hx]
      by_cases c2 : x = h a (b + j)
      · rw [if_pos c2]
        refine ih (j + 1) 1 (by omega) ?_
        rw [pB_t]
        intro q hq
        by_cases hqj : q = j
        · subst hqj; rw [hx, c2]
        · exact c q (by omega)
      · rw [if_neg c2]
        have cf : ¬ ∀ q, q < j + 1 → w[q]? = some (h a (b + q)) := fun z => c2 (by have := z j (by omega); rw [hx] at this; exact Option.some.inj this)
        exact ih (j + 1) 0 (by omega) (by rw [pB_f cf])
    · rw [ex, pB_f c, if_pos rfl, p_bit0]
      rw [pB_f]
      exact fun z => c fun q hq => z q (by omega)
/-- the copy of a new name -/
theorem pnb_copy (ha : (zS L)[a]? = some (2, na, ra)) (haa : a ≠ 75 ∧ a ≠ 74) (n b u : Nat) (hb : b + n ≤ na) (hu : u + n ≤ 18000) (hna : na ≤ 100000) (v : Int) (hv : 0 ≤ v ∧ v < 1400) : ∀ (m j : Nat) (g : am_H), j + m = n → g 74 4 = u → g 74 3 = v → (∀ q, q < n → -128 ≤ g a (b + q) ∧ g a (b + q) ≤ 127) →
    ∃ g', am_E (am_D d) m_9_1 (.inl 4) [some (am_r (am_a 74)), some (am_r (am_a a)), some (am_i b), some (am_i n), some (am_i j)] [] (zS L, g) = pI L v g' ∧ g' 74 4 = u + n ∧ g' 74 3 = v + 1 ∧ (∀ q, g' 75 q = if u + j ≤ q ∧ q < u + n then g a (b + (q - u)) else g 75 q) ∧ p_fr [75] [(74, 3), (74, 4)] g g' := by
  intro m
  induction m with
  | zero =>
    intro j g e e4 e3 hr
    rw [q_9_1_4_74, if_neg (by omega), e4, e3, p_w (x := (u : Int) + n) (by omega) (by omega), p_w (x := v + 1) (by omega) (by omega), p_w (by omega) (by omega)]
    refine ⟨_, by rw [show v + 1 - 1 = v by omega], ?_, by rw [p_up_s], fun q => ?_, ((p_fr.refl g).upf _ _ _ rfl).upf _ _ _ rfl⟩
    · rw [p_up_n _ _ _ _ _ _ (Or.inr (by decide)), p_up_s]
    · rw [if_neg (by omega), p_up_n _ _ _ _ _ _ (Or.inl (by decide)), p_up_n _ _ _ _ _ _ (Or.inl (by decide))]
  | succ m ih =>
    intro j g e e4 e3 hr
    rw [q_9_1_4_74, if_pos (by omega)]
    rw [p_arr ha, p_w (x := (b : Int) + j) (by omega) (by omega), p_idx (by omega) (by omega), e4, p_w (x := (u : Int) + j) (by omega) (by omega), p_idx (by omega) (by omega), p_w (x := (j : Int) + 1) (by omega) (by omega), show ((b : Int) + (j : Int)).toNat = b + j by omega, show ((u : Int) + (j : Int)).toNat = u + j by omega, p_s8 (hr j (by omega)).1 (hr j (by omega)).2]
    obtain ⟨g', a1, a2, a3, a4, a5⟩ := ih (j + 1) (am_up g 75 (u + j) (g a (b + j))) (by omega) (by rw [p_up_n _ _ _ _ _ _ (Or.inl (by decide))]; exact e4) (by rw [p_up_n _ _ _ _ _ _ (Or.inl (by decide))]; exact e3) (fun q hq => by rw [p_up_n _ _ _ _ _ _ (Or.inl haa.1)]; exact hr q hq)
    refine ⟨g', a1, a2, a3, fun q => ?_, ((p_fr.refl g).upc _ _ _ rfl).trans a5⟩
    rw [a4 q, p_up_n _ _ _ _ a _ (Or.inl haa.1), p_up g 75 (u + j) (g a (b + j)) 75 q]
    by_cases c : u + (j + 1) ≤ q ∧ q < u + n
    · rw [if_pos c, if_pos (by omega)]
    · rw [if_neg c]
      by_cases c2 : q = u + j
      · rw [if_pos ⟨rfl, c2⟩, if_pos (by omega), c2]; congr 1; omega
      · rw [if_neg (by omega), if_neg (by omega)]
def pnb_F : List Nat := [75, 76, 77]
def pnb_P : List (Nat × Nat) := [(74, 3), (74, 4)]
/-- the number of what stands in a row -/
theorem pnb_find (ha : (zS L)[a]? = some (2, na, ra)) (haa : a ≠ 75 ∧ a ≠ 74 ∧ a ≠ 76 ∧ a ≠ 77) (R : pnb_R h N) (b : Nat) (w : List Int) (hb : b + w.length ≤ na) (hna : na ≤ 100000) (hw : ∀ q x, w[q]? = some x → h a (b + q) = x ∧ -128 ≤ x ∧ x ≤ 127) (hm : N.length < 1400) (hu : pn_used N + w.length ≤ 18000) :
    ∃ h', am_D (d + 2) 9 1 [am_r (am_a 74), am_r (am_a a), am_i b, am_i w.length] (zS L, h) = pI L (N.idxOf w) h' ∧ pnb_R h' (pn_add N w) ∧ p_fr pnb_F pnb_P h h' := by
  obtain ⟨r1, r2, r3⟩ := R
  have hwe : ∀ v : List Int, v.length = w.length → ((∀ q, q < v.length → v[q]? = some (h a (b + q))) ↔ v = w) := by
    intro v hv
    constructor
    · intro z
      apply List.ext_getElem?
      intro q
      by_cases hq : q < w.length
      · obtain ⟨x, hx⟩ : ∃ x, w[q]? = some x := ⟨w[q], List.getElem?_eq_some_iff.mpr ⟨hq, rfl⟩⟩
        rw [z q (by omega), hx, (hw q x hx).1]
      · rw [List.getElem?_eq_none (by omega), List.getElem?_eq_none (by omega)]
    · rintro rfl q hq
      obtain ⟨x, hx⟩ : ∃ x, v[q]? = some x := ⟨v[q], List.getElem?_eq_some_iff.mpr ⟨hq, rfl⟩⟩
      rw [hx, (hw q x hx).1]
  rw [D_9_1_74]
  have key : ∀ (m k : Nat), k + m = N.length → (∀ i v, i < k → N[i]? = some v → v ≠ w) → ∃ h', am_E (am_D (d + 1)) m_9_1 (.inl 1) [some (am_r (am_a 74)), some (am_r (am_a a)), some (am_i b), some (am_i w.length), some (am_i k)] [] (zS L, h) = pI L (N.idxOf w) h' ∧ pnb_R h' (pn_add N w) ∧ p_fr pnb_F pnb_P h h' := by
    intro m
    induction m with
    | zero =>
      intro k e hn
      have hnot : w ∉ N := by
        intro z
        obtain ⟨i, hi⟩ := List.mem_iff_getElem?.mp z
        exact hn i w (by have := (List.getElem?_eq_some_iff.mp hi).1; omega) hi rfl
      rw [q_9_1_1_74, if_neg (by omega), p_idx (by omega) (by omega), p_idx (by omega) (by omega), r1, r2, Int.toNat_natCast]
      obtain ⟨h', a1, a2, a3, a4, a5⟩ := pnb_copy (d + 1) L ha ⟨haa.1, haa.2.1⟩ w.length b (pn_used N) hb hu hna N.length (by omega) w.length 0 (am_up (am_up h 76 N.length (pn_used N)) 77 N.length w.length) (by omega) (by simp [p_up, r2]) (by simp [p_up, r1])
        (fun q hq => by
          rw [p_up_n _ _ _ _ _ _ (Or.inl haa.2.2.2), p_up_n _ _ _ _ _ _ (Or.inl haa.2.2.1)]
          obtain ⟨x, hx⟩ : ∃ x, w[q]? = some x := ⟨w[q], List.getElem?_eq_some_iff.mpr ⟨hq, rfl⟩⟩
          rw [(hw q x hx).1]; exact (hw q x hx).2)
      refine ⟨h', by rw [List.idxOf_eq_length hnot]; exact a1, ⟨?_, ?_, fun i v hv => ?_⟩, ((((p_fr.refl h).upc 76 N.length (pn_used N) rfl).upc 77 N.length w.length rfl)).trans (a5.mono rfl rfl)⟩
      · rw [a3, pn_add_new hnot, List.length_append]; simp
      · rw [a2, pn_add_new hnot, pn_used_app]; simp
      · have b1 : h' 76 i = am_up (am_up h 76 N.length (pn_used N)) 77 N.length w.length 76 i := a5 76 i rfl rfl
        have b2 : h' 77 i = am_up (am_up h 76 N.length (pn_used N)) 77 N.length w.length 77 i := a5 77 i rfl rfl
        rw [pn_add_new hnot] at hv ⊢
        by_cases hi : i < N.length
        · rw [List.getElem?_append_left hi] at hv
          obtain ⟨s1, s2, s3⟩ := r3 i v hv
          have hpos : pn_pos N i + v.length ≤ pn_used N := pn_pos_le hv
          rw [pn_pos_app (by omega)]
          refine ⟨?_, ?_, fun j x hj => ?_⟩
          · rw [b1]; simp [p_up, s1]; omega
          · rw [b2]; simp [p_up, s2]; omega
          · have hjl := (List.getElem?_eq_some_iff.mp hj).1
            rw [a4, if_neg (by omega)]; simp [p_up, s3 j x hj]
        · have hi2 : i = N.length := by
            have := (List.getElem?_eq_some_iff.mp hv).1
            rw [List.length_append, List.length_singleton] at this
            omega
          subst hi2
          rw [List.getElem?_append_right (by omega), Nat.sub_self] at hv
          cases hv
          rw [pn_pos_len]
          refine ⟨?_, ?_, fun j x hj => ?_⟩
          · rw [b1]; simp [p_up]
          · rw [b2]; simp [p_up]
          · have hjl := (List.getElem?_eq_some_iff.mp hj).1
            rw [a4, if_pos (by omega), show pn_used N + j - pn_used N = j by omega, p_up_n _ _ _ _ _ _ (Or.inl haa.2.2.2), p_up_n _ _ _ _ _ _ (Or.inl haa.2.2.1)]
            exact (hw j x hj).1
    | succ m ih =>
      intro k e hn
      obtain ⟨v, hv⟩ : ∃ v, N[k]? = some v := ⟨N[k]'(by omega), List.getElem?_eq_some_iff.mpr ⟨by omega, rfl⟩⟩
      obtain ⟨s1, s2, s3⟩ := r3 k v hv
      have nx : v ≠ w → ∃ h', am_E (am_D (d + 1)) m_9_1 (.inl 1) [some (am_r (am_a 74)), some (am_r (am_a a)), some (am_i b), some (am_i w.length), some (am_i (am_w (k + 1)))] [] (zS L, h) = pI L (N.idxOf w) h' ∧ pnb_R h' (pn_add N w) ∧ p_fr pnb_F pnb_P h h' := by
        intro hne
        rw [p_w (by omega) (by omega)]
        refine ih (k + 1) (by omega) fun i u hi hu => ?_
        by_cases hik : i = k
        · subst hik; rw [hv] at hu; cases hu; exact hne
        · exact hn i u (by omega) hu
      rw [q_9_1_1_74, if_pos (by omega), p_idx (by omega) (by omega), Int.toNat_natCast, s2]
      by_cases c : v.length = w.length
      · have z0 := pnb_isAt d L h ha ⟨r1, r2, r3⟩ (by omega) (by omega) hv (b := b) (by omega) hna v.length 0 1 (by omega) (by rw [pB_t]; intro q hq; omega)
        rw [Int.natCast_zero] at z0
        rw [if_pos (by omega), D_9_2_74, z0, p_xI]
        by_cases c2 : v = w
        · rw [pB_t ((hwe v c).mpr c2), if_neg (by decide)]
          subst c2
          have hm2 : v ∈ N := List.mem_of_getElem? hv
          refine ⟨h, ?_, by rw [pn_add_old hm2]; exact ⟨r1, r2, r3⟩, p_fr.refl h⟩
          rw [pn_idx hv hn]
        · rw [pB_f (fun z => c2 ((hwe v c).mp z)), if_pos rfl]
          exact nx c2
      · rw [if_neg (by omega)]
        exact nx fun z => c (by rw [z])
  obtain ⟨h', b1⟩ := key N.length 0 (by omega) (fun i v hi => by omega)
  exact ⟨h', b1⟩
end
