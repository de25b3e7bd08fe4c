/-! PURE LAYER, 7: the model's tokens -/
/-- the text at hand -/
def lm_T (t : Nat → Int) (n : Nat) (h : am_H) : Prop := h 254 3 = n ∧ n ≤ 4000 ∧ ∀ k, k < n → h 256 k = t k ∧ 0 ≤ t k ∧ t k ≤ 255
theorem lm_T.next {t : Nat → Int} {n : Nat} {h h' : am_H} (H : lm_T t n h) (h3 : h' 256 = h 256) (h6 : h' 254 3 = h 254 3) : lm_T t n h' := ⟨by rw [h6]; exact H.1, H.2.1, fun k hk => by rw [h3]; exact H.2.2 k hk⟩
section
variable (d L : Nat) {t : Nat → Int} {n : Nat} {h : am_H}
theorem lm_at (H : lm_T t n h) (k : Nat) : am_D (d + 1) 17 4 [am_r (am_a 254), am_i k] (zS L, h) = pI L (lx_at t n k) h := by
  have hn := H.2.1
  rw [D_17_4, H.1]
  unfold lx_at
  by_cases c : k < n
  · rw [if_pos (by omega), if_pos c, p_idx (by omega) (by omega), Int.toNat_natCast, (H.2.2 k c).1]
  · rw [if_neg (by omega), if_neg c]
abbrev lx_alpha (c : Int) : Prop := (97 ≤ c ∧ c ≤ 122) ∨ (65 ≤ c ∧ c ≤ 90)
theorem lm_alpha (c : Int) : am_D (d + 1) 17 5 [am_i c] (zS L, h) = pI L (pB (lx_alpha c)) h := by
  rw [D_17_5]
  simp only [q_17_5_1, p_bit0, p_bit1]
  by_cases hj : lx_alpha c
  · rw [pB_t hj]; unfold lx_alpha at hj; (repeat' split) <;> first | rfl | (exfalso; omega)
  · rw [pB_f hj]; unfold lx_alpha at hj; (repeat' split) <;> first | rfl | (exfalso; omega)
theorem lm_digit (c : Int) : am_D (d + 1) 17 6 [am_i c] (zS L, h) = pI L (pB (lx_digit c)) h := by
  rw [D_17_6]
  simp only [p_bit0, p_bit1]
  by_cases hj : lx_digit c
  · rw [pB_t hj]; unfold lx_digit at hj; (repeat' split) <;> first | rfl | (exfalso; omega)
  · rw [pB_f hj]; unfold lx_digit at hj; (repeat' split) <;> first | rfl | (exfalso; omega)
theorem lm_part (c : Int) : am_D (d + 2) 17 7 [am_i c] (zS L, h) = pI L (pB (lx_part c)) h := by
  rw [D_17_7, lm_alpha, p_xI, lm_digit]
  simp only [p_bit0, p_bit1, pB_0, p_xI]
  by_cases hj : lx_part c
  · rw [pB_t hj]; unfold lx_part lx_digit lx_letter at hj; unfold lx_alpha lx_digit; (repeat' split) <;> first | rfl | (exfalso; omega)
  · rw [pB_f hj]; unfold lx_part lx_digit lx_letter at hj; unfold lx_alpha lx_digit; (repeat' split) <;> first | rfl | (exfalso; omega)
theorem lm_line (u1 u3 u4 : Option am_V) (H : lm_T t n h) : ∀ (m k : Nat), k ≤ n → n ≤ k + m →
    am_E (am_D d) m_17_9 (.inl 4) [some (am_r (am_a 254)), u1, some (am_i k), u3, u4] [] (zS L, h) = am_E (am_D d) m_17_9 (.inl 1) [some (am_r (am_a 254)), u1, some (am_i (lx_line t n m k)), u3, u4] [] (zS L, h) := by
  have hn := H.2.1
  intro m
  induction m with
  | zero =>
    intro k hk e
    rw [q_17_9_4, H.1, if_neg (by omega)]; rfl
  | succ m ih =>
    intro k hk e
    unfold lx_line
    rw [q_17_9_4, H.1]
    by_cases c : k < n
    · rw [if_pos (by omega), p_idx (by omega) (by omega), Int.toNat_natCast, (H.2.2 k c).1]
      by_cases c2 : t k = 10
      · rw [if_pos c2, if_neg (by omega)]
      · rw [if_neg c2, if_pos ⟨c, c2⟩, p_w (by omega) (by omega)]
        exact ih (k + 1) (by omega) (by omega)
    · rw [if_neg (by omega), if_neg (by omega)]
theorem lm_star (u1 u3 : Option am_V) (x2 : Int) (H : lm_T t n h) : ∀ (m k : Nat), k ≤ n → n ≤ k + m →
    am_E (am_D (d + 1)) m_17_9 (.inl 6) [some (am_r (am_a 254)), u1, some (am_i x2), u3, some (am_i k)] [] (zS L, h) = am_E (am_D (d + 1)) m_17_9 (.inl 8) [some (am_r (am_a 254)), u1, some (am_i x2), u3, some (am_i (lx_star t n m k))] [] (zS L, h) := by
  have hn := H.2.1
  intro m
  induction m with
  | zero =>
    intro k hk e
    rw [q_17_9_6, H.1, if_neg (by omega)]; rfl
  | succ m ih =>
    intro k hk e
    unfold lx_star
    rw [q_17_9_6, H.1]
    by_cases c : k < n
    · have e1 : am_w ((k : Int) + 1) = ((k + 1 : Nat) : Int) := by rw [p_w (by omega) (by omega)]; omega
      rw [if_pos (by omega), p_idx (by omega) (by omega), Int.toNat_natCast, (H.2.2 k c).1, e1]
      by_cases c2 : t k = 42
      · rw [if_pos c2, lm_at d L H, p_xI]
        by_cases c3 : lx_at t n (k + 1) = 47
        · rw [if_pos c3, if_neg (by rintro ⟨-, z⟩; exact z ⟨c2, c3⟩)]
        · rw [if_neg c3, if_pos ⟨c, fun z => c3 z.2⟩]; exact ih (k + 1) (by omega) (by omega)
      · rw [if_neg c2, if_pos ⟨c, fun z => c2 z.1⟩]; exact ih (k + 1) (by omega) (by omega)
    · rw [if_neg (by omega), if_neg (by omega)]
/-- what skip answers -/
def lm_sk (q : Bool × Nat) : Int := if q.1 = true then (q.2 : Int) else -2 - (q.2 : Int)
theorem lm_skip (H : lm_T t n h) : ∀ (m k : Nat) (u1 u3 u4 : Option am_V), k ≤ n → n < k + m →
    am_E (am_D (d + 1)) m_17_9 (.inl 1) [some (am_r (am_a 254)), u1, some (am_i k), u3, u4] [] (zS L, h) = pI L (lm_sk (lx_skip t n m k)) h := by
  have hn := H.2.1
  intro m
  induction m with
  | zero => intro k u1 u3 u4 hk e; omega
  | succ m ih =>
    intro k u1 u3 u4 hk e
    unfold lx_skip
    rw [q_17_9_1, H.1]
    by_cases c0 : n ≤ k
    · rw [if_neg (by omega), if_pos c0]; rfl
    · have hkn : k < n := by omega
      have e1 : am_w ((k : Int) + 1) = ((k + 1 : Nat) : Int) := by rw [p_w (by omega) (by omega)]; omega
      have e2 : am_w ((k : Int) + 2) = ((k + 2 : Nat) : Int) := by rw [p_w (by omega) (by omega)]; omega
      have nx : ∀ u3, am_E (am_D (d + 1)) m_17_9 (.inl 1) [some (am_r (am_a 254)), u1, some (am_i (am_w ((k : Int) + 1))), u3, u4] [] (zS L, h) = pI L (lm_sk (lx_skip t n m (k + 1))) h := fun u3 => by rw [e1]; exact ih (k + 1) u1 u3 u4 (by omega) (by omega)
      rw [if_pos (by omega), p_idx (by omega) (by omega), Int.toNat_natCast, (H.2.2 k hkn).1, if_neg c0]
      by_cases cb : lx_blank (t k)
      · have n1 : ¬ (t k = 47 ∧ lx_at t n (k + 1) = 47) := by unfold lx_blank at cb; omega
        have n2 : ¬ (t k = 47 ∧ lx_at t n (k + 1) = 42) := by unfold lx_blank at cb; omega
        rw [if_neg n1, if_neg n2, if_pos cb]
        unfold lx_blank at cb
        by_cases z1 : t k = 9
        · rw [if_pos z1]; exact nx _
        · rw [if_neg z1]
          by_cases z2 : t k = 10
          · rw [if_pos z2]; exact nx _
          · rw [if_neg z2]
            by_cases z3 : t k = 13
            · rw [if_pos z3]; exact nx _
            · rw [if_neg z3, if_pos (by omega)]; exact nx _
      · have cb' := cb
        unfold lx_blank at cb'
        rw [if_neg (by omega), if_neg (by omega), if_neg (by omega), if_neg (by omega)]
        by_cases c1 : t k = 47
        · rw [if_pos c1, e1, lm_at d L H, p_xI]
          by_cases c2 : lx_at t n (k + 1) = 47
          · obtain ⟨a, b, e3⟩ := lx_line_rg t n n k (by omega)
            have hlt : k < lx_line t n n k := by
              apply Classical.byContradiction
              intro z
              have hk : lx_line t n n k = k := by omega
              rw [hk] at e3
              have := e3 (by omega)
              omega
            rw [if_pos c2, if_pos ⟨c1, c2⟩, lm_line (d + 1) L _ _ _ H n k (by omega) (by omega)]
            exact ih _ _ _ _ (b (by omega)) (by omega)
          · rw [if_neg c2, if_neg (fun z => c2 z.2), q_17_9_5, if_pos c1, e1, lm_at d L H, p_xI]
            by_cases c3 : lx_at t n (k + 1) = 42
            · have hk2 : k + 1 < n := by
                apply Classical.byContradiction
                intro z
                unfold lx_at at c3
                rw [if_neg z] at c3
                cases c3
              obtain ⟨a, e4⟩ := lx_star_rg t n n (k + 2) (by omega)
              rw [if_pos c3, if_pos ⟨c1, c3⟩, e2, lm_star d L _ _ _ H n (k + 2) (by omega) (by omega), q_17_9_8, H.1]
              by_cases c4 : n ≤ lx_star t n n (k + 2)
              · rw [if_neg (by omega), if_pos c4, p_w (by omega) (by omega)]; rfl
              · have e5 := (e4 (by omega)).2
                have hlt : lx_star t n n (k + 2) + 1 < n := by
                  apply Classical.byContradiction
                  intro z
                  unfold lx_at at e5
                  rw [if_neg z] at e5
                  cases e5
                have e6 : am_w (((lx_star t n n (k + 2) : Nat) : Int) + 2) = ((lx_star t n n (k + 2) + 2 : Nat) : Int) := by rw [p_w (by omega) (by omega)]; omega
                rw [if_pos (by omega), if_neg c4, e6]
                exact ih _ _ _ _ (by omega) (by omega)
            · rw [if_neg c3, if_neg (fun z => c3 z.2), if_neg cb]; rfl
        · rw [if_neg c1, if_neg (fun z => c1 z.1), if_neg (fun z => c1 z.1), if_neg cb, q_17_9_5, if_neg c1]; rfl
theorem lm_D_skip (H : lm_T t n h) (k : Nat) (hk : k ≤ n) : am_D (d + 2) 17 9 [am_r (am_a 254), am_i k] (zS L, h) = pI L (lm_sk (lx_skip t n (n + 1) k)) h := by
  rw [D_17_9]; exact lm_skip d L H (n + 1) k _ _ _ hk (by omega)
end
/-! words of a row -/
def wo_pos (ws : List (List Int)) (i : Nat) : Nat := ((ws.take i).map fun w => w.length + 1).sum
/-- the row with this number holds these words, each ended by a blank -/
def wo_row (j : Nat) (ws : List (List Int)) : Prop := 168 ≤ j ∧ j < 176 ∧ am_cl j = wo_pos ws ws.length ∧ (wo_pos ws ws.length ≤ 1000 ∧ ws.length ≤ 1000) ∧ ∀ (i : Nat) (w : List Int), ws[i]? = some w → (∀ q x, w[q]? = some x → am_cc j (wo_pos ws i + q) = x ∧ x ≠ 32) ∧ am_cc j (wo_pos ws i + w.length) = 32
theorem wo_pos_s {ws : List (List Int)} {i : Nat} {w : List Int} (h : ws[i]? = some w) : wo_pos ws (i + 1) = wo_pos ws i + w.length + 1 := by
  unfold wo_pos
  obtain ⟨hl, e⟩ := List.getElem?_eq_some_iff.mp h
  rw [List.take_add_one, h]
  simp
  omega
theorem wo_pos_mono (ws : List (List Int)) : ∀ (m i : Nat), wo_pos ws i ≤ wo_pos ws (i + m)
  | 0, i => Nat.le_refl _
  | m + 1, i => by
    refine Nat.le_trans (wo_pos_mono ws m i) ?_
    cases h : ws[i + m]? with
    | none =>
      have : ws.length ≤ i + m := by rw [List.getElem?_eq_none_iff] at h; exact h
      unfold wo_pos
      rw [List.take_of_length_le this, List.take_of_length_le (by omega)]
      exact Nat.le_refl _
    | some w => rw [show i + (m + 1) = (i + m) + 1 by omega, wo_pos_s h]; omega
def wo_idx (ws : List (List Int)) (s : List Int) : Int := if s ∈ ws then (ws.idxOf s : Nat) else -1
theorem wo_ct (j : Nat) (k : Nat → Option am_O) (h1 : 168 ≤ j ∧ j < 176) (x : Option am_O) (hx : k j = x) : am_ct (am_k j) (fun j1 => cond (Nat.ble am_ns j1 && Nat.blt j1 am_nc) (k j1) none) = x := by
  show cond (Nat.ble am_ns j && Nat.blt j am_nc) (k j) none = x
  have e1 : Nat.ble am_ns j = true := Nat.ble_eq.mpr h1.1
  have e2 : Nat.blt j am_nc = true := Nat.ble_eq.mpr h1.2
  rw [e1, e2]
  exact hx
section
variable (d L : Nat) {h : am_H} {j : Nat} {ws : List (List Int)} {b : Nat} {s : List Int}
/-- to the next word -/
theorem wo_next (W : wo_row j ws) (i : Nat) (w : List Int) (hw : ws[i]? = some w) (u6 : Option am_V) : ∀ (m q : Nat), q + m = w.length →
    am_E (am_D d) m_17_10 (.inl 4) [some (am_r (am_a 254)), some (am_r (am_k j)), some (am_i b), some (am_i s.length), some (am_i i), some (am_i (wo_pos ws i + q : Nat)), u6] [] (zS L, h) = am_E (am_D d) m_17_10 (.inl 1) [some (am_r (am_a 254)), some (am_r (am_k j)), some (am_i b), some (am_i s.length), some (am_i (i + 1 : Nat)), some (am_i (wo_pos ws (i + 1) : Nat)), u6] [] (zS L, h) := by
  obtain ⟨w1, w2, w3, w4, w5⟩ := W
  obtain ⟨v1, v2⟩ := w5 i w hw
  have hps := wo_pos_s hw
  have hi : i < ws.length := (List.getElem?_eq_some_iff.mp hw).1
  have hm := wo_pos_mono ws (ws.length - (i + 1)) (i + 1)
  rw [show i + 1 + (ws.length - (i + 1)) = ws.length by omega] at hm
  intro m
  induction m with
  | zero =>
    intro q e
    have eq : q = w.length := by omega
    subst eq
    rw [q_17_10_4]
    refine wo_ct j _ ⟨w1, w2⟩ _ ?_
    rw [p_idx (by omega) (by omega), Int.toNat_natCast, v2, if_pos rfl, p_w (by omega) (by omega), p_w (by omega) (by omega)]
    rw [show ((wo_pos ws i + w.length : Nat) : Int) + 1 = ((wo_pos ws (i + 1) : Nat) : Int) by rw [hps]; omega]
    rfl
  | succ m ih =>
    intro q e
    obtain ⟨x, hx⟩ : ∃ x, w[q]? = some x := ⟨w[q]'(by omega), List.getElem?_eq_some_iff.mpr ⟨by omega, rfl⟩⟩
    rw [q_17_10_4]
    refine wo_ct j _ ⟨w1, w2⟩ _ ?_
    rw [p_idx (by omega) (by omega), Int.toNat_natCast, (v1 q x hx).1, if_neg (v1 q x hx).2, p_w (x := ((wo_pos ws i + q : Nat) : Int) + 1) (by omega) (by omega)]
    exact ih (q + 1) (by omega)
/-- a word is compared -/
theorem wo_cmp (W : wo_row j ws) (hb : b + s.length ≤ 4000) (hs : ∀ q x, s[q]? = some x → h 256 (b + q) = x ∧ x ≠ 32) (i : Nat) (w : List Int) (hw : ws[i]? = some w) : ∀ (m q : Nat), q + m = s.length → (∀ r, r < q → w[r]? = s[r]?) → q ≤ w.length →
    ∃ u6, am_E (am_D d) m_17_10 (.inl 2) [some (am_r (am_a 254)), some (am_r (am_k j)), some (am_i b), some (am_i s.length), some (am_i i), some (am_i (wo_pos ws i : Nat)), some (am_i q)] [] (zS L, h) = if w = s then pI L i h else am_E (am_D d) m_17_10 (.inl 1) [some (am_r (am_a 254)), some (am_r (am_k j)), some (am_i b), some (am_i s.length), some (am_i (i + 1 : Nat)), some (am_i (wo_pos ws (i + 1) : Nat)), u6] [] (zS L, h) := by
  have W' := W
  obtain ⟨w1, w2, w3, w4, w5⟩ := W
  obtain ⟨v1, v2⟩ := w5 i w hw
  have hps := wo_pos_s hw
  have hi : i < ws.length := (List.getElem?_eq_some_iff.mp hw).1
  have hm := wo_pos_mono ws (ws.length - (i + 1)) (i + 1)
  rw [show i + 1 + (ws.length - (i + 1)) = ws.length by omega] at hm
  have nx : ∀ u6, am_E (am_D d) m_17_10 (.inl 4) [some (am_r (am_a 254)), some (am_r (am_k j)), some (am_i b), some (am_i s.length), some (am_i i), some (am_i (wo_pos ws i : Nat)), u6] [] (zS L, h) = am_E (am_D d) m_17_10 (.inl 1) [some (am_r (am_a 254)), some (am_r (am_k j)), some (am_i b), some (am_i s.length), some (am_i (i + 1 : Nat)), some (am_i (wo_pos ws (i + 1) : Nat)), u6] [] (zS L, h) := fun u6 => wo_next d L W' i w hw u6 w.length 0 (by omega)
  intro m
  induction m with
  | zero =>
    intro q e hq hqw
    have eq : q = s.length := by omega
    refine ⟨some (am_i q), ?_⟩
    rw [q_17_10_2, if_neg (by omega), if_pos (by omega)]
    refine wo_ct j _ ⟨w1, w2⟩ _ ?_
    rw [p_w (by omega) (by omega), p_idx (by omega) (by omega), show (((wo_pos ws i : Nat) : Int) + (q : Int)).toNat = wo_pos ws i + q by omega]
    by_cases c : q = w.length
    · have ews : w = s := by
        apply List.ext_getElem?
        intro r
        by_cases hr : r < q
        · exact hq r hr
        · rw [List.getElem?_eq_none (by omega), List.getElem?_eq_none (by omega)]
      rw [c, v2, if_pos rfl, if_pos ews]
    · obtain ⟨x, hx⟩ : ∃ x, w[q]? = some x := ⟨w[q]'(by omega), List.getElem?_eq_some_iff.mpr ⟨by omega, rfl⟩⟩
      rw [(v1 q x hx).1, if_neg (v1 q x hx).2, if_neg (fun z => c (by rw [z]; exact eq)), nx]
  | succ m ih =>
    intro q e hq hqw
    obtain ⟨y, hy⟩ : ∃ y, s[q]? = some y := ⟨s[q]'(by omega), List.getElem?_eq_some_iff.mpr ⟨by omega, rfl⟩⟩
    obtain ⟨t1, t2⟩ := hs q y hy
    rw [q_17_10_2, if_pos (by omega)]
    have key : ∃ u6, (if am_cc j (wo_pos ws i + q) = y then am_E (am_D d) m_17_10 (.inl 2) [some (am_r (am_a 254)), some (am_r (am_k j)), some (am_i b), some (am_i s.length), some (am_i i), some (am_i (wo_pos ws i : Nat)), some (am_i (am_w ((q : Int) + 1)))] [] (zS L, h) else am_E (am_D d) m_17_10 (.inl 4) [some (am_r (am_a 254)), some (am_r (am_k j)), some (am_i b), some (am_i s.length), some (am_i i), some (am_i (wo_pos ws i : Nat)), some (am_i q)] [] (zS L, h)) = if w = s then pI L i h else am_E (am_D d) m_17_10 (.inl 1) [some (am_r (am_a 254)), some (am_r (am_k j)), some (am_i b), some (am_i s.length), some (am_i (i + 1 : Nat)), some (am_i (wo_pos ws (i + 1) : Nat)), u6] [] (zS L, h) := by
      by_cases c : q = w.length
      · have hne : w ≠ s := by
          rintro rfl
          omega
        refine ⟨some (am_i q), ?_⟩
        rw [c, v2, if_neg (fun z => t2 z.symm), if_neg hne, nx]
      · obtain ⟨x, hx⟩ : ∃ x, w[q]? = some x := ⟨w[q]'(by omega), List.getElem?_eq_some_iff.mpr ⟨by omega, rfl⟩⟩
        rw [(v1 q x hx).1]
        by_cases c2 : x = y
        · rw [if_pos c2, p_w (by omega) (by omega)]
          refine ih (q + 1) (by omega) (fun r hr => ?_) (by omega)
          by_cases hrq : r = q
          · subst hrq; rw [hx, hy, c2]
          · exact hq r (by omega)
        · have hne : w ≠ s := by
            rintro rfl
            rw [hx] at hy
            exact c2 (Option.some.inj hy)
          refine ⟨some (am_i q), ?_⟩
          rw [if_neg c2, if_neg hne, nx]
    obtain ⟨u6, hu6⟩ := key
    refine ⟨u6, ?_⟩
    refine wo_ct j _ ⟨w1, w2⟩ _ ?_
    rw [p_w (x := ((wo_pos ws i : Nat) : Int) + (q : Int)) (by omega) (by omega), p_idx (by omega) (by omega), p_w (x := (b : Int) + (q : Int)) (by omega) (by omega), p_idx (by omega) (by omega), show (((wo_pos ws i : Nat) : Int) + (q : Int)).toNat = wo_pos ws i + q by omega, show ((b : Int) + (q : Int)).toNat = b + q by omega, t1, if_neg (show ¬ (q : Int) = (s.length : Int) by omega)]
    exact hu6
/-- which word of a row -/
theorem wo_of (W : wo_row j ws) (hb : b + s.length ≤ 4000) (hs : ∀ q x, s[q]? = some x → h 256 (b + q) = x ∧ x ≠ 32) : am_D (d + 1) 17 10 [am_r (am_a 254), am_r (am_k j), am_i b, am_i s.length] (zS L, h) = pI L (wo_idx ws s) h := by
  have W' := W
  obtain ⟨w1, w2, w3, w4, w5⟩ := W
  have key : ∀ (m i : Nat) (u6 : Option am_V), i + m = ws.length → (∀ r v, r < i → ws[r]? = some v → v ≠ s) → am_E (am_D d) m_17_10 (.inl 1) [some (am_r (am_a 254)), some (am_r (am_k j)), some (am_i b), some (am_i s.length), some (am_i i), some (am_i (wo_pos ws i : Nat)), u6] [] (zS L, h) = pI L (wo_idx ws s) h := by
    intro m
    induction m with
    | zero =>
      intro i u6 e hn
      have hnot : s ∉ ws := by
        intro z
        obtain ⟨r, hr⟩ := List.mem_iff_getElem?.mp z
        exact hn r s (by have := (List.getElem?_eq_some_iff.mp hr).1; omega) hr rfl
      rw [q_17_10_1]
      refine wo_ct j _ ⟨w1, w2⟩ _ ?_
      rw [if_neg (by rw [w3, show i = ws.length by omega]; omega)]
      unfold wo_idx
      rw [if_neg hnot]
    | succ m ih =>
      intro i u6 e hn
      obtain ⟨w, hw⟩ : ∃ w, ws[i]? = some w := ⟨ws[i]'(by omega), List.getElem?_eq_some_iff.mpr ⟨by omega, rfl⟩⟩
      have hps := wo_pos_s hw
      have hm := wo_pos_mono ws (ws.length - (i + 1)) (i + 1)
      rw [show i + 1 + (ws.length - (i + 1)) = ws.length by omega] at hm
      rw [q_17_10_1]
      refine wo_ct j _ ⟨w1, w2⟩ _ ?_
      rw [if_pos (by rw [w3]; omega)]
      obtain ⟨u, hu⟩ := wo_cmp d L W' hb hs i w hw s.length 0 (by omega) (fun r hr => by omega) (by omega)
      refine Eq.trans hu ?_
      by_cases c : w = s
      · rw [if_pos c]
        subst c
        unfold wo_idx
        rw [if_pos (List.mem_of_getElem? hw), pn_idx hw hn]
      · rw [if_neg c]
        refine ih (i + 1) u (by omega) fun r v hr hv => ?_
        by_cases hri : r = i
        · subst hri; rw [hw] at hv; cases hv; exact c
        · exact hn r v (by omega) hv
  rw [D_17_10]
  have := key ws.length 0 none (by omega) (fun r v hr => by omega)
  exact this
end
/-! tokens of the model -/
def lm_K (tk : List (Int × Int × Int × Int)) (h : am_H) : Prop := h 254 9 = tk.length ∧ ∀ (i : Nat) (q : Int × Int × Int × Int), tk[i]? = some q → h 257 i = q.1 ∧ h 258 i = q.2.1 ∧ h 259 i = q.2.2.1 ∧ h 260 i = q.2.2.2
def lm_addh (h : am_H) (s : Nat) (a p z v : Int) : am_H := am_up (am_up (am_up (am_up (am_up h 257 s a) 258 s p) 259 s z) 260 s v) 254 9 (s + 1)
theorem lm_addh_K {tk : List (Int × Int × Int × Int)} {h : am_H} (H : lm_K tk h) (a p z v : Int) : lm_K (tk ++ [(a, p, z, v)]) (lm_addh h tk.length a p z v) := by
  unfold lm_addh
  refine ⟨by rw [p_up_s, List.length_append]; simp, fun i q hi => ?_⟩
  by_cases c : i < tk.length
  · rw [List.getElem?_append_left c] at hi
    obtain ⟨a1, a2, a3, a4⟩ := H.2 i q hi
    have c' : i ≠ tk.length := by omega
    simp [p_up, c', a1, a2, a3, a4]
  · have hl := (List.getElem?_eq_some_iff.mp hi).1
    rw [List.length_append, List.length_singleton] at hl
    have e : i = tk.length := by omega
    subst e
    rw [List.getElem?_append_right (by omega), Nat.sub_self] at hi
    cases hi
    simp [p_up]
theorem lm_add (d L : Nat) {h : am_H} {s : Nat} (hs : h 254 9 = s) (h1 : s < 2002) {a v : Int} {p e : Nat} (hp : p ≤ e ∧ e ≤ 10000) : am_D (d + 1) 17 8 [am_r (am_a 254), am_i a, am_i p, am_i e, am_i v] (zS L, h) = pV L (lm_addh h s a p ((e - p : Nat) : Int) v) := by
  rw [D_17_8, hs, p_idx (by omega) (by omega), p_idx (by omega) (by omega), p_idx (by omega) (by omega), p_idx (by omega) (by omega), p_w (x := (e : Int) - (p : Int)) (by omega) (by omega), p_w (by omega) (by omega), Int.toNat_natCast, show (e : Int) - (p : Int) = ((e - p : Nat) : Int) by omega]
  rfl
def lm_S (t : Nat → Int) (n : Nat) (tk : List (Int × Int × Int × Int)) (h : am_H) : Prop := lm_T t n h ∧ lm_K tk h
def lm_F : List Nat := [257, 258, 259, 260]
def lm_P : List (Nat × Nat) := [(254, 9)]
theorem lm_fr_add {h h' : am_H} (f : p_fr lm_F lm_P h h') (s : Nat) (a p z v : Int) : p_fr lm_F lm_P h (lm_addh h' s a p z v) := ((((f.upc _ _ _ rfl).upc _ _ _ rfl).upc _ _ _ rfl).upc _ _ _ rfl).upf _ _ _ rfl
theorem lm_S.add {t : Nat → Int} {n : Nat} {tk : List (Int × Int × Int × Int)} {h : am_H} (S : lm_S t n tk h) (a p z v : Int) : lm_S t n (tk ++ [(a, p, z, v)]) (lm_addh h tk.length a p z v) :=
  ⟨S.1.next ((lm_fr_add (p_fr.refl h) _ _ _ _ _).cell 256 rfl rfl) (lm_fr_add (p_fr.refl h) _ _ _ _ _ 254 3 rfl rfl), lm_addh_K S.2 a p z v⟩
/-- the model's token -/
def lx_mtok (t : Nat → Int) (n : Nat) (ws : List (List Int)) (k : Nat) : Int × Int × Int × Int :=
  if (lx_tok t n k).1 = 2 then (if lx_span t k (lx_tok t n k).2.2 ∈ ws then 5 else 1, (k : Int), (((lx_tok t n k).2.2 - k : Nat) : Int), wo_idx ws (lx_span t k (lx_tok t n k).2.2))
  else ((lx_tok t n k).1 - 1, (k : Int), (((lx_tok t n k).2.2 - k : Nat) : Int), (lx_tok t n k).2.1)
section
variable {t : Nat → Int} {n : Nat}
theorem lx_digs_min : ∀ (m m' k : Nat), n ≤ k + m' → lx_digs t n m k = min (lx_digs t n m' k) (k + m)
  | 0, m', k, h => by
    have : k ≤ lx_digs t n m' k := by
      clear h
      induction m' generalizing k with
      | zero => exact Nat.le_refl k
      | succ m ih => unfold lx_digs; split; exact Nat.le_trans (Nat.le_succ k) (ih (k + 1)); exact Nat.le_refl k
    show k = _
    omega
  | m + 1, 0, k, h => by
    have hn : ¬ lx_digit (lx_at t n k) := by unfold lx_at; rw [if_neg (by omega)]; unfold lx_digit; omega
    unfold lx_digs
    rw [if_neg hn]; omega
  | m + 1, m' + 1, k, h => by
    unfold lx_digs
    by_cases c : lx_digit (lx_at t n k)
    · rw [if_pos c, if_pos c, lx_digs_min m m' (k + 1) (by omega)]; omega
    · rw [if_neg c, if_neg c]; omega
theorem lx_str_succ : ∀ (m k : Nat), lx_str t n (m + 1) k = if lx_str t n m k = k + m ∧ (32 ≤ lx_at t n (k + m) ∧ lx_at t n (k + m) < 127 ∧ lx_at t n (k + m) ≠ 34) then k + m + 1 else lx_str t n m k
  | 0, k => by
    show (if 32 ≤ lx_at t n k ∧ lx_at t n k < 127 ∧ lx_at t n k ≠ 34 then k + 1 else k) = _
    by_cases c : 32 ≤ lx_at t n k ∧ lx_at t n k < 127 ∧ lx_at t n k ≠ 34
    · rw [if_pos c, if_pos ⟨rfl, c⟩]
    · rw [if_neg c, if_neg (fun z => c z.2)]; rfl
  | m + 1, k => by
    rw [lx_str]
    have e2 : lx_str t n (m + 1) k = if 32 ≤ lx_at t n k ∧ lx_at t n k < 127 ∧ lx_at t n k ≠ 34 then lx_str t n m (k + 1) else k := rfl
    by_cases c : 32 ≤ lx_at t n k ∧ lx_at t n k < 127 ∧ lx_at t n k ≠ 34
    · rw [if_pos c, e2, if_pos c, lx_str_succ m (k + 1), show k + 1 + m = k + (m + 1) by omega]
    · rw [if_neg c, e2, if_neg c, if_neg (by omega)]
end
section
variable (d L : Nat) {t : Nat → Int} {n : Nat} {h : am_H} {tk : List (Int × Int × Int × Int)}
theorem lm_wordend (H : lm_T t n h) (x1 x3 : Int) (X2 : am_R) (u5 : Option am_V) : ∀ (m k : Nat), k ≤ n → n ≤ k + m →
    am_E (am_D (d + 2)) m_17_12 (.inl 1) [some (am_r (am_a 254)), some (am_i x1), some (am_r X2), some (am_i x3), some (am_i k), u5] [] (zS L, h) = am_E (am_D (d + 2)) m_17_12 (.inl 1) [some (am_r (am_a 254)), some (am_i x1), some (am_r X2), some (am_i x3), some (am_i (lx_word t n m k)), u5] [] (zS L, h) := by
  have hn := H.2.1
  intro m
  induction m with
  | zero => intro k hk e; rfl
  | succ m ih =>
    intro k hk e
    unfold lx_word
    by_cases c : lx_part (lx_at t n k)
    · have hkn2 : k < n := by
        apply Classical.byContradiction
        intro z
        unfold lx_at at c
        rw [if_neg z] at c
        unfold lx_part lx_digit lx_letter at c
        omega
      rw [if_pos c, ← ih (k + 1) (by omega) (by omega), q_17_12_1, lm_at (d + 1) L H, p_xI, lm_part, p_xI, pB_t c, if_neg (by decide), p_w (by omega) (by omega)]
      rfl
    · rw [if_neg c]
/-- a word of the language, or a name -/
theorem lm_word (S : lm_S t n tk h) {j : Nat} {ws : List (List Int)} (W : wo_row j ws) {k : Nat} (hk : k < n) (hl : lx_letter (t k)) (htk : tk.length < 2002) (x3 : Int) (hx3 : x3 = 0 ∨ t k ≠ 95) :
    ∃ h', am_D (d + 3) 17 12 [am_r (am_a 254), am_i k, am_r (am_k j), am_i x3] (zS L, h) = pI L (if (lx_tok t n k).1 = 6 then -1 else ((lx_tok t n k).2.2 : Int)) h' ∧ p_fr lm_F lm_P h h' ∧ ((lx_tok t n k).1 = 6 → h' = h) ∧ ((lx_tok t n k).1 ≠ 6 → lm_S t n (tk ++ [lx_mtok t n ws k]) h') := by
  obtain ⟨r1, r2, r3, r4⟩ := lx_word_rg (t := t) (n := n) n k (by omega) (by omega)
  have H := S.1
  have hn := H.2.1
  rw [D_17_12, lm_wordend d L H k x3 (am_k j) none n k (by omega) (by omega), q_17_12_1, lm_at (d + 1) L H, p_xI, lm_part, p_xI, pB_f r4, if_pos rfl, p_w (by omega) (by omega)]
  by_cases c : 16 < lx_word t n n k - k
  · have et : lx_tok t n k = (6, 0, lx_word t n n k) := by unfold lx_tok; rw [if_pos hl, if_pos c]
    rw [if_pos (by omega), et]
    exact ⟨h, rfl, p_fr.refl h, fun _ => rfl, fun z => absurd rfl z⟩
  · have et : lx_tok t n k = (2, 0, lx_word t n n k) := by unfold lx_tok; rw [if_pos hl, if_neg c]
    have e4 : ∃ h', am_E (am_D (d + 2)) m_17_12 (.inl 4) [some (am_r (am_a 254)), some (am_i (k : Int)), some (am_r (am_k j)), some (am_i x3), some (am_i ((lx_word t n n k : Nat) : Int)), none] [] (zS L, h) = pI L (if (lx_tok t n k).1 = 6 then -1 else ((lx_tok t n k).2.2 : Int)) h' ∧ p_fr lm_F lm_P h h' ∧ ((lx_tok t n k).1 = 6 → h' = h) ∧ ((lx_tok t n k).1 ≠ 6 → lm_S t n (tk ++ [lx_mtok t n ws k]) h') := by
      have hlen := lx_span_len (t := t) k (lx_word t n n k)
      have hw := wo_of (d + 1) L W (h := h) (b := k) (s := lx_span t k (lx_word t n n k)) (by omega) (fun q x hx => by
        obtain ⟨hq, rfl⟩ := lx_span_at hx
        have hp := r3 (k + q) (by omega) (by omega)
        unfold lx_part lx_digit lx_letter at hp
        exact ⟨(H.2.2 (k + q) (by omega)).1, by omega⟩)
      rw [hlen] at hw
      have em : lx_mtok t n ws k = (if lx_span t k (lx_word t n n k) ∈ ws then 5 else 1, (k : Int), ((lx_word t n n k - k : Nat) : Int), wo_idx ws (lx_span t k (lx_word t n n k))) := by unfold lx_mtok; rw [et]; rfl
      rw [q_17_12_4, p_w (by omega) (by omega), show ((lx_word t n n k : Nat) : Int) - (k : Int) = ((lx_word t n n k - k : Nat) : Int) by omega, hw, p_xI, et, em]
      unfold wo_idx
      by_cases c2 : lx_span t k (lx_word t n n k) ∈ ws
      · rw [if_pos c2, if_pos c2, if_neg (by omega), lm_add (d + 1) L S.2.1 htk (by omega), p_xV]
        exact ⟨_, rfl, lm_fr_add (p_fr.refl h) _ _ _ _ _, fun z => (by cases z), fun _ => S.add _ _ _ _⟩
      · rw [if_neg c2, if_neg c2, if_pos (by decide), lm_add (d + 1) L S.2.1 htk (by omega), p_xV]
        exact ⟨_, rfl, lm_fr_add (p_fr.refl h) _ _ _ _ _, fun z => (by cases z), fun _ => S.add _ _ _ _⟩
    rw [if_neg (by omega)]
    by_cases c3 : x3 = 0
    · rw [if_pos c3]; exact e4
    · have h95 : t k ≠ 95 := by rcases hx3 with z | z; exact absurd z c3; exact z
      rw [if_neg c3, p_idx (by omega) (by omega), Int.toNat_natCast, (H.2.2 k hk).1, if_neg h95]; exact e4
/-- digits, not more than most + 1 -/
theorem lm_digs (H : lm_T t n h) (x1 : Nat) (most : Nat) (hmost : most ≤ 5) (x3 : Int) : ∀ (m k : Nat) (v : Int), k ≤ n → k + m = x1 + most + 1 → x1 ≤ k → 0 ≤ v → (v + 1) * 10 ^ m ≤ 1000000 →
    am_E (am_D (d + 1)) m_17_13 (.inl 1) [some (am_r (am_a 254)), some (am_i x1), some (am_i most), some (am_i x3), some (am_i k), some (am_i v)] [] (zS L, h) = am_E (am_D (d + 1)) m_17_13 (.inl 2) [some (am_r (am_a 254)), some (am_i x1), some (am_i most), some (am_i x3), some (am_i (lx_digs t n m k)), some (am_i (lx_num t (lx_digs t n m k - k) k v))] [] (zS L, h) := by
  have hn := H.2.1
  intro m
  induction m with
  | zero =>
    intro k v hk e e2 hv hv2
    unfold lx_digs
    rw [Nat.sub_self]
    unfold lx_num
    rw [q_17_13_1, lm_at d L H, p_xI, lm_digit, p_xI]
    simp only [pB_0]
    by_cases c : lx_digit (lx_at t n k)
    · rw [if_neg (fun z => z c), p_w (by omega) (by omega), if_pos (by omega)]
    · rw [if_pos c]
  | succ m ih =>
    intro k v hk e e2 hv hv2
    unfold lx_digs
    rw [q_17_13_1, lm_at d L H, p_xI, lm_digit, p_xI]
    simp only [pB_0]
    by_cases c : lx_digit (lx_at t n k)
    · have hkn2 : k < n := by
        apply Classical.byContradiction
        intro z
        unfold lx_at at c
        rw [if_neg z] at c
        unfold lx_digit at c
        omega
      have ea : lx_at t n k = t k := if_pos hkn2
      rw [ea] at c
      have cb := c
      unfold lx_digit at cb
      have hp : (10 : Int) ^ (m + 1) = 10 * 10 ^ m := by rw [Int.pow_succ, Int.mul_comm]
      rw [hp] at hv2
      have hpos : (1 : Int) ≤ 10 ^ m := by
        have : (0 : Int) < 10 ^ m := Int.pow_pos (by omega)
        omega
      have h2 : (v + 1) * (10 * 10 ^ m) = (10 * v + 10) * 10 ^ m := by rw [← Int.mul_assoc, Int.add_mul, Int.mul_comm v 10]; rfl
      rw [h2] at hv2
      have h3 : (10 * v + 10) * 1 ≤ (10 * v + 10) * 10 ^ m := Int.mul_le_mul_of_nonneg_left hpos (by omega)
      have h4 : (10 * v + t k - 48 + 1) * 10 ^ m ≤ (10 * v + 10) * 10 ^ m := Int.mul_le_mul_of_nonneg_right (by omega) (by omega)
      have hr : k + 1 ≤ lx_digs t n m (k + 1) := by
        have := lx_digs_min (t := t) (n := n) 0 m (k + 1)
        clear this
        have key : ∀ (m k : Nat), k ≤ lx_digs t n m k := by
          intro m
          induction m with
          | zero => intro k; exact Nat.le_refl k
          | succ m ih => intro k; unfold lx_digs; split; exact Nat.le_trans (Nat.le_succ k) (ih (k + 1)); exact Nat.le_refl k
        exact key m (k + 1)
      rw [ea, if_neg (fun z => z c), if_pos c, p_w (x := (k : Int) - (x1 : Int)) (by omega) (by omega), if_neg (by omega), p_idx (by omega) (by omega), Int.toNat_natCast, (H.2.2 k hkn2).1, p_w (x := (k : Int) + 1) (by omega) (by omega), p_w (x := 10 * v) (by omega) (by omega), p_w (x := 10 * v + t k) (by omega) (by omega), p_w (x := 10 * v + t k - 48) (by omega) (by omega)]
      rw [show lx_digs t n m (k + 1) - k = (lx_digs t n m (k + 1) - (k + 1)) + 1 by omega]
      unfold lx_num
      exact ih (k + 1) (10 * v + t k - 48) (by omega) (by omega) (by omega) (by omega) (by omega)
    · rw [if_pos c, if_neg c, Nat.sub_self]
      rfl
theorem lm_number (S : lm_S t n tk h) {k : Nat} (hk : k < n) (hl : ¬ lx_letter (t k)) (hd : lx_digit (t k)) (htk : tk.length < 2002) :
    ∃ h', am_D (d + 3) 17 13 [am_r (am_a 254), am_i k, am_i 5, am_i 32767] (zS L, h) = pI L (if (lx_tok t n k).1 = 6 then -1 else ((lx_tok t n k).2.2 : Int)) h' ∧ p_fr lm_F lm_P h h' ∧ ((lx_tok t n k).1 = 6 → h' = h) ∧ ∀ ws, ((lx_tok t n k).1 ≠ 6 → lm_S t n (tk ++ [lx_mtok t n ws k]) h') := by
  obtain ⟨r1, r2, r3, r4⟩ := lx_digs_rg (t := t) (n := n) n k (by omega) (by omega)
  have H := S.1
  have hn := H.2.1
  have hmin := lx_digs_min (t := t) (n := n) 6 n k (by omega)
  have e1 := lm_digs (d + 1) L H k 5 (by omega) 32767 6 k 0 (by omega) (by omega) (by omega) (by omega) (by decide)
  rw [D_17_13]
  refine (fun z => ?_) (id e1)
  have e1' : am_E (am_D (d + 2)) m_17_13 (.inl 1) [some (am_r (am_a 254)), some (am_i (k : Int)), some (am_i 5), some (am_i 32767), some (am_i (k : Int)), some (am_i 0)] [] (zS L, h) = am_E (am_D (d + 2)) m_17_13 (.inl 2) [some (am_r (am_a 254)), some (am_i (k : Int)), some (am_i 5), some (am_i 32767), some (am_i ((lx_digs t n 6 k : Nat) : Int)), some (am_i (lx_num t (lx_digs t n 6 k - k) k 0))] [] (zS L, h) := e1
  rw [e1', q_17_13_2, p_w (by omega) (by omega)]
  by_cases c5 : lx_digs t n n k - k ≤ 5
  · have e6 : lx_digs t n 6 k = lx_digs t n n k := by omega
    rw [e6, if_neg (by omega), lm_at (d + 1) L H, p_xI, lm_part, p_xI]
    simp only [pB_0]
    by_cases c : ¬ lx_part (lx_at t n (lx_digs t n n k))
    · rw [if_pos c]
      by_cases c3 : 32767 < lx_num t (lx_digs t n n k - k) k 0
      · have et : lx_tok t n k = (6, 0, lx_digs t n n k) := by unfold lx_tok; rw [if_neg hl, if_pos hd, if_neg (by omega)]
        rw [if_pos c3, et]
        exact ⟨h, rfl, p_fr.refl h, fun _ => rfl, fun _ z => absurd rfl z⟩
      · have et : lx_tok t n k = (3, lx_num t (lx_digs t n n k - k) k 0, lx_digs t n n k) := by unfold lx_tok; rw [if_neg hl, if_pos hd, if_pos ⟨c5, by omega, c⟩]
        rw [if_neg c3, et, lm_add (d + 1) L S.2.1 htk (by omega), p_xV]
        refine ⟨_, rfl, lm_fr_add (p_fr.refl h) _ _ _ _ _, fun z => (by cases z), fun ws _ => ?_⟩
        have em : lx_mtok t n ws k = (2, (k : Int), ((lx_digs t n n k - k : Nat) : Int), lx_num t (lx_digs t n n k - k) k 0) := by unfold lx_mtok; rw [et]; rfl
        rw [em]
        exact S.add _ _ _ _
    · have et : lx_tok t n k = (6, 0, lx_digs t n n k) := by unfold lx_tok; rw [if_neg hl, if_pos hd, if_neg (fun z => c z.2.2)]
      rw [if_neg c, et]
      exact ⟨h, rfl, p_fr.refl h, fun _ => rfl, fun _ z => absurd rfl z⟩
  · have et : lx_tok t n k = (6, 0, lx_digs t n n k) := by unfold lx_tok; rw [if_neg hl, if_pos hd, if_neg (fun z => c5 z.1)]
    rw [if_pos (by omega), et]
    exact ⟨h, rfl, p_fr.refl h, fun _ => rfl, fun _ z => absurd rfl z⟩
end
section
variable (d L : Nat) {t : Nat → Int} {n : Nat} {h : am_H} {tk : List (Int × Int × Int × Int)}
theorem lm_str (H : lm_T t n h) (x1 : Nat) (u2 : Option am_V) : ∀ (m k : Nat), k ≤ n → k + m = x1 + 62 → x1 < k →
    am_E (am_D d) m_17_14 (.inl 4) [some (am_r (am_a 254)), some (am_i x1), u2, some (am_i k)] [] (zS L, h) = am_E (am_D d) m_17_14 (.inl 5) [some (am_r (am_a 254)), some (am_i x1), u2, some (am_i (lx_str t n m k))] [] (zS L, h) := by
  have hn := H.2.1
  intro m
  induction m with
  | zero =>
    intro k hk e e2
    unfold lx_str
    rw [q_17_14_4, H.1]
    by_cases c : k < n
    · rw [if_pos (by omega), p_idx (by omega) (by omega), p_idx (by omega) (by omega), p_idx (by omega) (by omega), p_w (by omega) (by omega), if_pos (show (61 : Int) < (k : Int) - (x1 : Int) by omega)]
      simp only [ite_self]
    · rw [if_neg (by omega)]
  | succ m ih =>
    intro k hk e e2
    unfold lx_str
    rw [q_17_14_4, H.1]
    by_cases c : k < n
    · have ea : lx_at t n k = t k := if_pos c
      rw [if_pos (by omega), p_idx (by omega) (by omega), p_idx (by omega) (by omega), p_idx (by omega) (by omega), Int.toNat_natCast, (H.2.2 k c).1, ea, p_w (x := (k : Int) - (x1 : Int)) (by omega) (by omega), if_neg (show ¬ (61 : Int) < (k : Int) - (x1 : Int) by omega), p_w (by omega) (by omega)]
      by_cases c1 : t k = 34
      · rw [if_pos c1, if_neg (by omega)]
      · rw [if_neg c1]
        by_cases c2 : t k < 32
        · rw [if_pos c2, if_neg (by omega)]
        · rw [if_neg c2]
          by_cases c3 : 126 < t k
          · rw [if_pos c3, if_neg (by omega)]
          · rw [if_neg c3, if_pos (by omega)]
            exact ih (k + 1) (by omega) (by omega) (by omega)
    · have ea : lx_at t n k = -1 := if_neg c
      rw [if_neg (by omega), ea, if_neg (by omega)]
/-- a token of the language -/
theorem lm_lang (S : lm_S t n tk h) {ws : List (List Int)} (W : wo_row 170 ws) {k : Nat} (hk : k < n) (htk : tk.length < 2002) :
    ∃ h', am_D (d + 4) 17 14 [am_r (am_a 254), am_i k] (zS L, h) = pI L (if (lx_tok t n k).1 = 6 then -1 else ((lx_tok t n k).2.2 : Int)) h' ∧ p_fr lm_F lm_P h h' ∧ ((lx_tok t n k).1 = 6 → h' = h) ∧ ((lx_tok t n k).1 ≠ 6 → lm_S t n (tk ++ [lx_mtok t n ws k]) h') := by
  have H := S.1
  have hn := H.2.1
  have hr := (H.2.2 k hk).2
  rw [D_17_14, p_idx (by omega) (by omega), Int.toNat_natCast, (H.2.2 k hk).1, lm_alpha, p_xI]
  by_cases c1 : lx_letter (t k)
  · obtain ⟨h', a1, a2, a3, a4⟩ := lm_word d L S W hk c1 htk 0 (Or.inl rfl)
    by_cases c2 : lx_alpha (t k)
    · rw [pB_t c2, if_neg (by decide), a1, p_xI]
      exact ⟨h', rfl, a2, a3, a4⟩
    · have c3 : t k = 95 := by unfold lx_letter at c1; unfold lx_alpha at c2; omega
      rw [pB_f c2, if_pos rfl, if_pos c3, a1, p_xI]
      exact ⟨h', rfl, a2, a3, a4⟩
  · have c2 : ¬ lx_alpha (t k) := by unfold lx_letter at c1; unfold lx_alpha; omega
    have c3 : ¬ t k = 95 := by unfold lx_letter at c1; omega
    rw [pB_f c2, if_pos rfl, if_neg c3, lm_digit, p_xI]
    by_cases c4 : lx_digit (t k)
    · obtain ⟨h', a1, a2, a3, a4⟩ := lm_number d L S hk c1 c4 htk
      rw [pB_t c4, if_neg (by decide), a1, p_xI]
      exact ⟨h', rfl, a2, a3, a4 ws⟩
    · rw [pB_f c4, if_pos rfl]
      by_cases c5 : t k = 34
      · obtain ⟨r1, r2, r3⟩ := lx_str_rg (t := t) (n := n) 60 (k + 1) (by omega)
        obtain ⟨q1, q2, q3⟩ := lx_str_rg (t := t) (n := n) 61 (k + 1) (by omega)
        have hs := lx_str_succ (t := t) (n := n) 60 (k + 1)
        have e1 := lm_str (d + 3) L H k (some (am_i (t k))) 61 (k + 1) (by omega) (by omega) (by omega)
        have ew : am_w ((k : Int) + 1) = ((k + 1 : Nat) : Int) := by rw [p_w (by omega) (by omega)]; omega
        rw [if_pos c5, ew, e1, q_17_14_5, lm_at (d + 2) L H, p_xI, p_w (x := ((lx_str t n 61 (k + 1) : Nat) : Int) - (k : Int)) (by omega) (by omega)]
        by_cases c6 : lx_str t n 60 (k + 1) = k + 1 + 60 ∧ (32 ≤ lx_at t n (k + 1 + 60) ∧ lx_at t n (k + 1 + 60) < 127 ∧ lx_at t n (k + 1 + 60) ≠ 34)
        · rw [if_pos c6] at hs
          have et : lx_tok t n k = (6, 0, lx_str t n 60 (k + 1) + 1) := by unfold lx_tok; rw [if_neg c1, if_neg c4, if_pos c5, if_neg (by rw [c6.1]; exact c6.2.2.2)]
          rw [hs, et]
          by_cases c7 : lx_at t n (k + 1 + 60 + 1) = 34
          · rw [if_pos c7, if_pos (by omega)]
            exact ⟨h, rfl, p_fr.refl h, fun _ => rfl, fun z => absurd rfl z⟩
          · rw [if_neg c7]
            exact ⟨h, rfl, p_fr.refl h, fun _ => rfl, fun z => absurd rfl z⟩
        · rw [if_neg c6] at hs
          rw [hs]
          by_cases c7 : lx_at t n (lx_str t n 60 (k + 1)) = 34
          · have et : lx_tok t n k = (4, ((lx_str t n 60 (k + 1) - k - 1 : Nat) : Int), lx_str t n 60 (k + 1) + 1) := by unfold lx_tok; rw [if_neg c1, if_neg c4, if_pos c5, if_pos c7]
            have hlt : lx_str t n 60 (k + 1) < n := by
              apply Classical.byContradiction
              intro z
              unfold lx_at at c7
              rw [if_neg z] at c7
              cases c7
            have ew2 : am_w (((lx_str t n 60 (k + 1) : Nat) : Int) + 1) = ((lx_str t n 60 (k + 1) + 1 : Nat) : Int) := by rw [p_w (by omega) (by omega)]; omega
            rw [if_pos c7, if_neg (by omega), p_w (x := ((lx_str t n 60 (k + 1) : Nat) : Int) - (k : Int) - 1) (by omega) (by omega), ew2, lm_add (d + 2) L S.2.1 htk (by omega), p_xV, et]
            refine ⟨_, rfl, lm_fr_add (p_fr.refl h) _ _ _ _ _, fun z => (by cases z), fun _ => ?_⟩
            have em : lx_mtok t n ws k = (3, (k : Int), ((lx_str t n 60 (k + 1) + 1 - k : Nat) : Int), ((lx_str t n 60 (k + 1) : Nat) : Int) - (k : Int) - 1) := by
              unfold lx_mtok; rw [et]
              show ((4 : Int) - 1, (k : Int), ((lx_str t n 60 (k + 1) + 1 - k : Nat) : Int), ((lx_str t n 60 (k + 1) - k - 1 : Nat) : Int)) = _
              rw [show ((lx_str t n 60 (k + 1) : Nat) : Int) - (k : Int) - 1 = ((lx_str t n 60 (k + 1) - k - 1 : Nat) : Int) by omega]; rfl
            rw [em]
            exact S.add _ _ _ _
          · have et : lx_tok t n k = (6, 0, lx_str t n 60 (k + 1) + 1) := by unfold lx_tok; rw [if_neg c1, if_neg c4, if_pos c5, if_neg c7]
            rw [if_neg c7, et]
            exact ⟨h, rfl, p_fr.refl h, fun _ => rfl, fun z => absurd rfl z⟩
      · have ew : am_w ((k : Int) + 1) = ((k + 1 : Nat) : Int) := by rw [p_w (by omega) (by omega)]; omega
        rw [if_neg c5, ew]
        simp only [lm_add (d + 2) L S.2.1 htk (show k ≤ k + 1 ∧ k + 1 ≤ 10000 by omega), p_xV]
        have e11 : ((k + 1 - k : Nat) : Int) = 1 := by omega
        by_cases c6 : lx_sign (t k)
        · have et : lx_tok t n k = (5, t k, k + 1) := by unfold lx_tok; rw [if_neg c1, if_neg c4, if_neg c5, if_pos c6]
          have em : lx_mtok t n ws k = (4, (k : Int), ((k + 1 - k : Nat) : Int), t k) := by unfold lx_mtok; rw [et]; rfl
          have fin : ∃ h', pI L ((k + 1 : Nat) : Int) (lm_addh h tk.length 4 (k : Int) ((k + 1 - k : Nat) : Int) (t k)) = pI L (if (lx_tok t n k).1 = 6 then -1 else ((lx_tok t n k).2.2 : Int)) h' ∧ p_fr lm_F lm_P h h' ∧ ((lx_tok t n k).1 = 6 → h' = h) ∧ ((lx_tok t n k).1 ≠ 6 → lm_S t n (tk ++ [lx_mtok t n ws k]) h') := by
            rw [et, em]
            exact ⟨_, rfl, lm_fr_add (p_fr.refl h) _ _ _ _ _, fun z => (by cases z), fun _ => S.add _ _ _ _⟩
          unfold lx_sign at c6
          have h1 : t k = 38 ∨ t k = 40 ∨ t k = 41 ∨ t k = 42 ∨ t k = 43 ∨ t k = 44 ∨ t k = 45 ∨ t k = 46 ∨ t k = 47 ∨ t k = 59 ∨ t k = 60 ∨ t k = 61 ∨ t k = 62 ∨ t k = 91 ∨ t k = 93 ∨ t k = 123 ∨ t k = 124 ∨ t k = 125 ∨ t k = 126 := by omega
          have : ∀ v : Int, (v = 38 ∨ v = 40 ∨ v = 41 ∨ v = 42 ∨ v = 43 ∨ v = 44 ∨ v = 45 ∨ v = 46 ∨ v = 47 ∨ v = 59 ∨ v = 60 ∨ v = 61 ∨ v = 62 ∨ v = 91 ∨ v = 93 ∨ v = 123 ∨ v = 124 ∨ v = 125 ∨ v = 126) → ∀ (P Q : Option am_O), (if v = 38 then P else if v = 40 then P else if v = 41 then P else if v = 42 then P else if v = 43 then P else if v = 44 then P else if v = 45 then P else if v = 46 then P else if v = 47 then P else if v = 59 then P else if v = 60 then P else if v = 61 then P else if v = 62 then P else if v = 91 then P else if v = 93 then P else if v = 123 then P else if v = 124 then P else if v = 125 then P else if v = 126 then P else Q) = P := by
            intro v hv P Q
            rcases hv with rfl | rfl | rfl | rfl | rfl | rfl | rfl | rfl | rfl | rfl | rfl | rfl | rfl | rfl | rfl | rfl | rfl | rfl | rfl <;> simp
          rw [this (t k) h1]
          exact fin
        · have et : lx_tok t n k = (6, t k, k + 1) := by unfold lx_tok; rw [if_neg c1, if_neg c4, if_neg c5, if_neg c6]
          have hj := c6
          unfold lx_sign at hj
          simp only [if_neg (show ¬ t k = 38 by omega), if_neg (show ¬ t k = 40 by omega), if_neg (show ¬ t k = 41 by omega), if_neg (show ¬ t k = 42 by omega), if_neg (show ¬ t k = 43 by omega), if_neg (show ¬ t k = 44 by omega), if_neg (show ¬ t k = 45 by omega), if_neg (show ¬ t k = 46 by omega), if_neg (show ¬ t k = 47 by omega), if_neg (show ¬ t k = 59 by omega), if_neg (show ¬ t k = 60 by omega), if_neg (show ¬ t k = 61 by omega), if_neg (show ¬ t k = 62 by omega), if_neg (show ¬ t k = 91 by omega), if_neg (show ¬ t k = 93 by omega), if_neg (show ¬ t k = 123 by omega), if_neg (show ¬ t k = 124 by omega), if_neg (show ¬ t k = 125 by omega), if_neg (show ¬ t k = 126 by omega)]
          rw [et]
          exact ⟨h, rfl, p_fr.refl h, fun _ => rfl, fun z => absurd rfl z⟩
end
/-- all tokens of the model -/
def lx_mods (t : Nat → Int) (n : Nat) (ws : List (List Int)) (most : Nat) : Nat → Nat → Nat → List (Int × Int × Int × Int)
  | 0, _, _ => []
  | m + 1, c, k =>
    if (lx_skip t n (n + 1) k).1 = false then [(6, ((lx_skip t n (n + 1) k).2 : Nat), 0, 0)]
    else if n ≤ (lx_skip t n (n + 1) k).2 then [(0, (n : Int), 0, 0)]
    else if (lx_tok t n (lx_skip t n (n + 1) k).2).1 = 6 then [(6, ((lx_skip t n (n + 1) k).2 : Nat), 0, 0)]
    else if most < c + 1 then [(7, (lx_mtok t n ws (lx_skip t n (n + 1) k).2).2)]
    else lx_mtok t n ws (lx_skip t n (n + 1) k).2 :: lx_mods t n ws most m (c + 1) (lx_tok t n (lx_skip t n (n + 1) k).2).2.2
section
variable (d L : Nat) {t : Nat → Int} {n : Nat}
theorem lm_read (most : Nat) (hmost : most ≤ 2000) {ws : List (List Int)} (W : wo_row 170 ws) : ∀ (m : Nat) (h : am_H) (k : Nat) (tk : List (Int × Int × Int × Int)) (u5 : Option am_V), lm_S t n tk h → k ≤ n → n < k + m → tk.length ≤ most →
    ∃ h', am_E (am_D (d + 5)) m_17_11 (.inl 1) [some (am_r (am_a 254)), some (am_i most), some (am_i 0), some (am_i (lm_sk (lx_skip t n (n + 1) k))), some (am_i 1), u5] [] (zS L, h) = pV L h' ∧ p_fr lm_F lm_P h h' ∧ lm_S t n (tk ++ lx_mods t n ws most m tk.length k) h' := by
  intro m
  induction m with
  | zero => intro h k tk u5 S hk hm; omega
  | succ m ih =>
    intro h k tk u5 S hk hm htk
    have H := S.1
    have hn := H.2.1
    obtain ⟨s1, s2, s3, s4⟩ := lx_skip_rg t n (n + 1) k hk (by omega)
    rw [q_17_11_1, if_neg (by decide), H.1]
    unfold lx_mods
    have stop : ∀ (g : am_H) (q : Int × Int × Int × Int) (x3 : Int) (v5 : Option am_V), p_fr lm_F lm_P h g → lm_S t n (tk ++ [q]) g → ∃ h', am_E (am_D (d + 5)) m_17_11 (.inl 1) [some (am_r (am_a 254)), some (am_i most), some (am_i 0), some (am_i x3), some (am_i 0), v5] [] (zS L, g) = pV L h' ∧ p_fr lm_F lm_P h h' ∧ lm_S t n (tk ++ [q]) h' := by
      intro g q x3 v5 fr Sg
      rw [q_17_11_1, if_pos rfl]
      exact ⟨g, rfl, fr, Sg⟩
    by_cases c1 : (lx_skip t n (n + 1) k).1 = false
    · have e0 : lm_sk (lx_skip t n (n + 1) k) = -2 - ((lx_skip t n (n + 1) k).2 : Int) := by unfold lm_sk; rw [if_neg (by rw [c1]; decide)]
      rw [e0, if_pos (by omega), p_w (by omega) (by omega), show (-2 : Int) - (-2 - ((lx_skip t n (n + 1) k).2 : Int)) = ((lx_skip t n (n + 1) k).2 : Int) by omega, lm_add (d + 4) L S.2.1 (by omega) ⟨Nat.le_refl _, by omega⟩, p_xV, if_pos c1, Nat.sub_self]
      exact stop _ _ _ _ (lm_fr_add (p_fr.refl h) _ _ _ _ _) (S.add _ _ _ _)
    · have c1' : (lx_skip t n (n + 1) k).1 = true := by simpa using c1
      have e0 : lm_sk (lx_skip t n (n + 1) k) = ((lx_skip t n (n + 1) k).2 : Int) := by unfold lm_sk; rw [if_pos c1']
      rw [e0, if_neg (by omega), if_neg c1]
      by_cases c2 : n ≤ (lx_skip t n (n + 1) k).2
      · rw [if_neg (by omega), lm_add (d + 4) L S.2.1 (by omega) ⟨Nat.le_refl _, by omega⟩, p_xV, if_pos c2, Nat.sub_self]
        exact stop _ _ _ _ (lm_fr_add (p_fr.refl h) _ _ _ _ _) (S.add _ _ _ _)
      · rw [if_pos (by omega), if_pos rfl, if_neg c2]
        have hlt : (lx_skip t n (n + 1) k).2 < n := by omega
        generalize (lx_skip t n (n + 1) k).2 = p at *
        obtain ⟨g, a1, a2, a3, a4⟩ := lm_lang (d + 1) L S W hlt (by omega)
        rw [a1, p_xI, q_17_11_5]
        by_cases c3 : (lx_tok t n p).1 = 6
        · have eg := a3 c3
          subst eg
          rw [if_pos c3, if_pos (by decide), lm_add (d + 4) L S.2.1 (by omega) ⟨Nat.le_refl _, by omega⟩, p_xV, if_pos c3, Nat.sub_self]
          exact stop _ _ _ _ (lm_fr_add (p_fr.refl g) _ _ _ _ _) (S.add _ _ _ _)
        · have Sg := a4 c3
          obtain ⟨b1, b2, -⟩ := lx_tok_rg hlt c3
          have hl2 : (tk ++ [lx_mtok t n ws p]).length = tk.length + 1 := by rw [List.length_append]; rfl
          have h9 : g 254 9 = tk.length + 1 := by rw [Sg.2.1, hl2]; omega
          rw [if_neg c3, if_neg (by omega), if_neg c3, h9]
          by_cases c4 : most < tk.length + 1
          · have em : most = tk.length := by omega
            rw [if_pos (by omega), p_idx (by omega) (by omega), Int.toNat_natCast, if_pos c4]
            refine stop _ _ _ _ (a2.upc _ _ _ rfl) ⟨Sg.1.next (p_up_c _ _ _ _ _ (by decide)) (p_up_n _ _ _ _ _ _ (Or.inl (by decide))), ?_, fun i q hi => ?_⟩
            · rw [p_up_n _ _ _ _ _ _ (Or.inl (by decide)), h9, List.length_append]; simp
            · by_cases hi2 : i < tk.length
              · rw [List.getElem?_append_left hi2] at hi
                have := Sg.2.2 i q (by rw [List.getElem?_append_left hi2]; exact hi)
                have hne : i ≠ most := by omega
                simp only [p_up, hne, and_false, if_false, show ¬ (258 = 257) by decide, show ¬ (259 = 257) by decide, show ¬ (260 = 257) by decide, false_and]
                exact this
              · have hl := (List.getElem?_eq_some_iff.mp hi).1
                rw [List.length_append, List.length_singleton] at hl
                have e : i = tk.length := by omega
                subst e
                rw [List.getElem?_append_right (by omega), Nat.sub_self] at hi
                cases hi
                have := Sg.2.2 tk.length (lx_mtok t n ws p) (by rw [List.getElem?_append_right (by omega), Nat.sub_self]; rfl)
                simp only [p_up, em, and_self, if_true, show ¬ (258 = 257) by decide, show ¬ (259 = 257) by decide, show ¬ (260 = 257) by decide, false_and, if_false]
                exact ⟨trivial, this.2⟩
          · rw [if_neg (by omega), lm_D_skip (d + 3) L Sg.1 _ b2, p_xI, if_neg c4]
            obtain ⟨h', e1, e2, e3⟩ := ih g (lx_tok t n p).2.2 (tk ++ [lx_mtok t n ws p]) (some (am_i ((lx_tok t n p).2.2 : Int))) Sg b2 (by omega) (by rw [hl2]; omega)
            rw [hl2, List.append_assoc] at e3
            exact ⟨h', e1, a2.trans e2, e3⟩
end
