/-! SIGNS, 10: the model's leaves -/
theorem wo_row_of {j : Nat} {ws : List (List Int)} (h1 : 168 ≤ j ∧ j < 176) (hl : am_cl j = wo_pos ws ws.length) (hb : wo_pos ws ws.length ≤ 1000 ∧ ws.length ≤ 1000) (H : ∀ i, i < ws.length → (∀ q, q < (ws.getD i []).length → am_cc j (wo_pos ws i + q) = (ws.getD i []).getD q 0 ∧ (ws.getD i []).getD q 0 ≠ 32) ∧ am_cc j (wo_pos ws i + (ws.getD i []).length) = 32) : wo_row j ws := by
  refine ⟨h1.1, h1.2, hl, hb, fun i w hw => ?_⟩
  obtain ⟨hi, e⟩ := List.getElem?_eq_some_iff.1 hw
  have eg : ws.getD i [] = w := by rw [List.getD_eq_getElem?_getD, hw]; rfl
  obtain ⟨q1, q2⟩ := H i hi
  rw [eg] at q1 q2
  refine ⟨fun q x hx => ?_, q2⟩
  obtain ⟨hq, e2⟩ := List.getElem?_eq_some_iff.1 hx
  have := q1 q hq
  rw [List.getD_eq_getElem?_getD, hx] at this
  exact this
theorem wo_171 : wo_row 171 kws := wo_row_of ⟨by decide, by decide⟩ (by decide) ⟨by decide, by decide⟩ (by decide)
theorem wo_172 : wo_row 172 dws := wo_row_of ⟨by decide, by decide⟩ (by decide) ⟨by decide, by decide⟩ (by decide)
theorem wo_173 : wo_row 173 jws := wo_row_of ⟨by decide, by decide⟩ (by decide) ⟨by decide, by decide⟩ (by decide)
section
variable {d L : Nat} {t : Nat → Int} {n : Nat} {h : am_H} {T : List (List Int × Int)}
theorem sd_blank (c : Int) : am_D (d + 1) 17 128 [am_i c] (zS L, h) = pI L (pB (sbl c)) h := by
  rw [D_17_128]
  simp only [p_bit0, p_bit1]
  by_cases hj : sbl c
  · rw [pB_t hj]; unfold sbl at hj; (repeat' split) <;> first | rfl | (exfalso; omega)
  · rw [pB_f hj]; unfold sbl at hj; (repeat' split) <;> first | rfl | (exfalso; omega)
theorem sd_part (c : Int) : am_D (d + 3) 17 129 [am_i c] (zS L, h) = pI L (pB (spt c)) h := by
  rw [D_17_129, lm_part, p_xI]
  by_cases z : lx_part c
  · rw [pB_t z, if_neg (by decide), p_bit1, pB_t (Or.inl z)]
  · rw [pB_f z, if_pos rfl]
    simp only [p_bit0, p_bit1]
    by_cases hj : spt c
    · rw [pB_t hj]
      have hj : c = 46 ∨ c = 36 ∨ c = 58 := by rcases hj with y | y; exact absurd y z; exact y
      (repeat' split) <;> first | rfl | (exfalso; omega)
    · rw [pB_f hj]
      have hj : ¬ (c = 46 ∨ c = 36 ∨ c = 58) := fun y => hj (Or.inr y)
      (repeat' split) <;> first | rfl | (exfalso; omega)
theorem sd_syml (H : lm_T t n h) {a m : Nat} (he : a + m ≤ n) : ∀ (q k : Nat) (x3 : Int), k + q = m → x3 = 0 ∨ x3 = 1 → am_E (am_D (d + 3)) m_17_130 (.inl 3) [some (am_r (am_a 254)), some (am_i (a : Int)), some (am_i (m : Int)), some (am_i x3), some (am_i (k : Int))] [] (zS L, h) = pI L (pB (x3 = 1 ∧ sPrt t (a + k) q)) h
  | 0, k, x3, hk, hx => by
    rw [q_17_130_3, if_neg (by omega)]
    rcases hx with rfl | rfl
    · rw [p_bit0, pB_f (fun z => by have := z.1; omega)]
    · rw [p_bit1, pB_t ⟨rfl, fun j hj => by omega⟩]
  | q + 1, k, x3, hk, hx => by
    have hn := H.2.1
    rw [q_17_130_3, if_pos (by omega), p_w (x := (k : Int) + 1) (by omega) (by omega)]
    rcases hx with rfl | rfl
    · rw [if_pos rfl]
      refine (sd_syml H he q (k + 1) 0 (by omega) (Or.inl rfl)).trans ?_
      rw [pB_f (fun z => by have := z.1; omega), pB_f (fun z => by have := z.1; omega)]
    · rw [if_neg (by decide), p_w (x := (a : Int) + (k : Int)) (by omega) (by omega), p_idx (by omega) (by omega), show ((a : Int) + (k : Int)).toNat = a + k by omega, (H.2.2 _ (by omega)).1, sd_part, p_xI]
      by_cases c : spt (t (a + k))
      · rw [pB_t c, if_neg (show ¬ (1 : Int) = 0 by decide)]
        refine (sd_syml H he q (k + 1) 1 (by omega) (Or.inr rfl)).trans ?_
        refine congrArg (fun x => pI L x h) (pB_congr ⟨fun z => ⟨rfl, sPrt_s.2 ⟨c, z.2⟩⟩, fun z => ⟨rfl, (sPrt_s.1 z.2).2⟩⟩)
      · rw [pB_f c, if_pos rfl]
        refine (sd_syml H he q (k + 1) 0 (by omega) (Or.inl rfl)).trans ?_
        rw [pB_f (fun z => by have := z.1; omega), pB_f (fun z => c (sPrt_s.1 z.2).1)]
theorem sd_issym (H : lm_T t n h) {a m : Nat} (he : a + m ≤ n) : am_D (d + 4) 17 130 [am_r (am_a 254), am_i (a : Int), am_i (m : Int)] (zS L, h) = pI L (pB (sSym t a (a + m))) h := by
  have hn := H.2.1
  rw [D_17_130]
  by_cases c1 : (m : Int) < 1
  · rw [if_pos c1, p_bit0, pB_f (fun z => by have := z.1.1.1; omega)]
  rw [if_neg c1]
  by_cases c2 : 16 < (m : Int)
  · rw [if_pos c2, p_bit0, pB_f (fun z => by have := z.1.1.2; omega)]
  rw [if_neg c2, p_idx (by omega) (by omega), Int.toNat_natCast, (H.2.2 a (by omega)).1, lm_digit, p_xI]
  by_cases c3 : lx_digit (t a)
  · rw [pB_t c3, if_neg (by decide), p_bit0, pB_f (fun z => z.1.2 c3)]
  · rw [pB_f c3, if_pos rfl]
    refine (sd_syml (d := d) H he m 0 1 (by omega) (Or.inr rfl)).trans ?_
    refine congrArg (fun x => pI L x h) (pB_congr ⟨fun z => ⟨⟨⟨by omega, by omega⟩, c3⟩, ?_⟩, fun z => ⟨rfl, ?_⟩⟩)
    · rw [Nat.add_sub_cancel_left]; exact z.2
    · have := z.2
      rw [Nat.add_sub_cancel_left] at this
      exact this
theorem sd_wo (H : lm_T t n h) {j : Nat} {ws : List (List Int)} (W : wo_row j ws) {a m : Nat} (he : a + m ≤ n) (h32 : ∀ k, a ≤ k → k < a + m → t k ≠ 32) : am_D (d + 1) 17 10 [am_r (am_a 254), am_r (am_k j), am_i (a : Int), am_i (m : Int)] (zS L, h) = pI L (wix ws (lx_span t a (a + m)) 0) h := by
  have hn := H.2.1
  have r := wo_of d L W (h := h) (b := a) (s := lx_span t a (a + m)) (by rw [lx_span_len]; omega) (fun q x hx => by
    obtain ⟨q1, rfl⟩ := lx_span_at hx
    exact ⟨(H.2.2 _ (by omega)).1, h32 _ (by omega) (by omega)⟩)
  rw [lx_span_len, show a + m - a = m by omega, wo_wix] at r
  exact r
theorem sd_known (H : lm_T t n h) {a m : Nat} (he : a + m ≤ n) (h1 : 1 ≤ m) (h32 : ∀ k, a ≤ k → k < a + m → t k ≠ 32) : am_D (d + 2) 17 131 [am_r (am_a 254), am_i (a : Int), am_i (m : Int)] (zS L, h) = pI L (knS t a (a + m)) h := by
  have hn := H.2.1
  rw [D_17_131, sd_wo H wo_171 he h32, p_xI]
  unfold knS
  rcases wix7 kws rfl (lx_span t a (a + m)) with z | ⟨z1, z2⟩
  · rw [z, if_pos (show (-1 : Int) < 0 by decide), if_neg (show ¬ (0 : Int) ≤ -1 by decide), p_idx (by omega) (by omega), Int.toNat_natCast, (H.2.2 a (by omega)).1, Nat.add_sub_cancel_left]
    by_cases c1 : t a = 82
    · rw [if_pos c1]
      by_cases c2 : (m : Int) < 2
      · rw [if_pos c2, if_neg (c := t a = 82 ∧ (2 ≤ m ∧ m ≤ 3) ∧ lx_digit (t (a + 1))) (fun z => by have := z.2.1.1; omega)]
      rw [if_neg c2]
      by_cases c3 : 3 < (m : Int)
      · rw [if_pos c3, if_neg (c := t a = 82 ∧ (2 ≤ m ∧ m ≤ 3) ∧ lx_digit (t (a + 1))) (fun z => by have := z.2.1.2; omega)]
      have r1 := H.2.2 (a + 1) (by omega)
      rw [if_neg c3, p_w (x := (a : Int) + 1) (by omega) (by omega), p_idx (by omega) (by omega), show ((a : Int) + 1).toNat = a + 1 by omega, r1.1, lm_digit, p_xI]
      by_cases c4 : lx_digit (t (a + 1))
      · rw [pB_t c4, if_neg (show ¬ (1 : Int) = 0 by decide), if_pos (show t a = 82 ∧ (2 ≤ m ∧ m ≤ 3) ∧ lx_digit (t (a + 1)) from ⟨c1, ⟨by omega, by omega⟩, c4⟩)]
        by_cases c5 : m = 2
        · subst c5
          unfold lx_digit at c4
          rw [if_neg (by decide), if_pos rfl, q_17_131_6, if_pos (by decide), p_w (x := (a : Int) + 1) (by omega) (by omega), p_idx (by omega) (by omega), show ((a : Int) + 1).toNat = a + 1 by omega, r1.1, p_w (x := t (a + 1) - 48) (by omega) (by omega), q_17_131_8, if_neg (by decide), if_neg (by omega)]
        · have m3 : m = 3 := by omega
          subst m3
          have r2 := H.2.2 (a + 2) (by omega)
          unfold lx_digit at c4
          rw [if_pos (show ((3 : Nat) : Int) = 3 from rfl), if_neg (by decide), p_w (x := (a : Int) + 2) (by omega) (by omega), p_idx (by omega) (by omega), show ((a : Int) + 2).toNat = a + 2 by omega, r2.1, lm_digit, p_xI]
          by_cases c6 : lx_digit (t (a + 2))
          · have c6' := c6
            unfold lx_digit at c6'
            rw [pB_t c6, if_neg (show ¬ (1 : Int) = 0 by decide), q_17_131_6, if_neg (by decide), p_w (x := (a : Int) + 1) (by omega) (by omega), p_idx (by omega) (by omega), show ((a : Int) + 1).toNat = a + 1 by omega, r1.1, p_w (x := t (a + 1) - 48) (by omega) (by omega), p_w (x := (a : Int) + 2) (by omega) (by omega), p_idx (by omega) (by omega), show ((a : Int) + 2).toNat = a + 2 by omega, r2.1, p_w (x := 10 * (t (a + 1) - 48)) (by omega) (by omega), p_w (x := 10 * (t (a + 1) - 48) + t (a + 2)) (by omega) (by omega), p_w (x := 10 * (t (a + 1) - 48) + t (a + 2) - 48) (by omega) (by omega), q_17_131_8, if_pos (show ((3 : Nat) : Int) = 3 from rfl), p_w (x := (a : Int) + 1) (by omega) (by omega), p_idx (by omega) (by omega), show ((a : Int) + 1).toNat = a + 1 by omega, r1.1]
            by_cases c7 : t (a + 1) = 49
            · rw [if_pos c7]
              by_cases c8 : 15 < 10 * (t (a + 1) - 48) + t (a + 2) - 48
              · rw [if_pos c8, if_neg (by omega)]
              · rw [if_neg c8, if_pos ⟨c7, by omega, by omega⟩, show 10 * (t (a + 1) - 48) + t (a + 2) - 48 = 10 + t (a + 2) - 48 by omega]
            · rw [if_neg c7, if_neg (fun z => c7 z.1)]
          · rw [pB_f c6, if_pos rfl, if_neg (fun z => c6 ⟨z.2.1, by have := z.2.2; omega⟩)]
      · rw [pB_f c4, if_pos rfl, if_neg (c := t a = 82 ∧ (2 ≤ m ∧ m ≤ 3) ∧ lx_digit (t (a + 1))) (fun z => c4 z.2.2)]
    · rw [if_neg c1, if_neg (c := t a = 82 ∧ (2 ≤ m ∧ m ≤ 3) ∧ lx_digit (t (a + 1))) (fun z => c1 z.1)]
  · rw [if_neg (by omega), if_pos z1]
    unfold knv
    by_cases c : wix kws (lx_span t a (a + m)) 0 < 5
    · rw [if_pos c, if_pos c]
    · rw [if_neg c, if_neg c]
      by_cases c2 : wix kws (lx_span t a (a + m)) 0 = 5
      · rw [if_pos c2, if_pos c2]
      · rw [if_neg c2, if_neg c2]
/-- one symbol is compared -/
theorem sd_like (H : lm_T t n h) (S : mS t T h) {a m s : Nat} {q : List Int × Int} (he : a + m ≤ n) (hq : T[s]? = some q) (hl : q.1.length = m) : ∀ (r k : Nat), k + r = m → (∀ j, j < k → q.1[j]? = some (t (a + j))) → ∃ x4, am_E (am_D d) m_17_132 (.inl 2) [some (am_r (am_a 254)), some (am_i (a : Int)), some (am_i (m : Int)), some (am_i (s : Int)), some (am_i (k : Int))] [] (zS L, h) = if q.1 = lx_span t a (a + m) then pI L (s : Int) h else am_E (am_D d) m_17_132 (.inl 1) [some (am_r (am_a 254)), some (am_i (a : Int)), some (am_i (m : Int)), some (am_i ((s + 1 : Nat) : Int)), x4] [] (zS L, h)
  | 0, k, hk, hj => by
    have he' : q.1 = lx_span t a (a + m) := by
      apply List.ext_getElem?
      intro j
      by_cases z : j < m
      · rw [hj j (by omega), span_at (by omega)]
      · rw [List.getElem?_eq_none (by omega), List.getElem?_eq_none (by rw [lx_span_len]; omega)]
    exact ⟨none, by rw [q_17_132_2, if_neg (by omega), if_pos (by omega), if_pos he']⟩
  | r + 1, k, hk, hj => by
    have hn := H.2.1
    have hs : s < 100 := by have := (List.getElem?_eq_some_iff.1 hq).1; have := S.2.1; omega
    obtain ⟨s1, s2, s3, s4, s5⟩ := S.2.2 s q hq
    have kk : k < q.1.length := by omega
    have r1 := s5 k _ (List.getElem?_eq_getElem kk)
    have r2 := H.2.2 (a + k) (by omega)
    have hi : (h 323 s + (k : Int)).toNat = (h 323 s).toNat + k := by omega
    by_cases c : q.1[k] = t (a + k)
    · obtain ⟨x4, e4⟩ := sd_like H S he hq hl r (k + 1) (by omega) (fun j hj' => by
        by_cases z : j = k
        · rw [z, List.getElem?_eq_getElem kk, c]
        · exact hj j (by omega))
      refine ⟨x4, ?_⟩
      rw [q_17_132_2, if_pos (by omega), p_idx (by omega) (by omega), Int.toNat_natCast, s1, if_pos (by omega), p_idx (by omega) (by omega), Int.toNat_natCast, p_w (x := h 323 s + (k : Int)) (by omega) (by omega), p_idx (by omega) (by omega), p_w (x := (a : Int) + (k : Int)) (by omega) (by omega), p_idx (by omega) (by omega), hi, r1, show ((a : Int) + (k : Int)).toNat = a + k by omega, r2.1, if_pos c, p_w (x := (k : Int) + 1) (by omega) (by omega)]
      exact e4
    · have ne : ¬ q.1 = lx_span t a (a + m) := fun z => c (by
        have : q.1[k]? = some (t (a + k)) := by rw [z]; exact span_at (by omega)
        rw [List.getElem?_eq_getElem kk] at this
        exact Option.some.inj this)
      refine ⟨some (am_i (k : Int)), ?_⟩
      rw [q_17_132_2, if_pos (by omega), p_idx (by omega) (by omega), Int.toNat_natCast, s1, if_pos (by omega), p_idx (by omega) (by omega), Int.toNat_natCast, p_w (x := h 323 s + (k : Int)) (by omega) (by omega), p_idx (by omega) (by omega), p_w (x := (a : Int) + (k : Int)) (by omega) (by omega), p_idx (by omega) (by omega), hi, r1, show ((a : Int) + (k : Int)).toNat = a + k by omega, r2.1, if_neg c, if_neg (by omega), if_neg ne, p_w (x := (s : Int) + 1) (by omega) (by omega)]
      rfl
theorem sd_syms (H : lm_T t n h) (S : mS t T h) {a m : Nat} (he : a + m ≤ n) (h1 : 1 ≤ m) : ∀ (r k : Nat) (u4 : Option am_V), k + r = T.length → ∃ x4, am_E (am_D d) m_17_132 (.inl 1) [some (am_r (am_a 254)), some (am_i (a : Int)), some (am_i (m : Int)), some (am_i (k : Int)), u4] [] (zS L, h) = match sfnd (lx_span t a (a + m)) (T.drop k) k with
      | some i => pI L (i : Int) h
      | none => am_E (am_D d) m_17_132 (.inl 1) [some (am_r (am_a 254)), some (am_i (a : Int)), some (am_i (m : Int)), some (am_i (T.length : Int)), x4] [] (zS L, h)
  | 0, k, u4, hk => by
    have : k = T.length := by omega
    subst this
    refine ⟨u4, ?_⟩
    rw [List.drop_eq_nil_of_le (Nat.le_refl _)]; rfl
  | r + 1, k, u4, hk => by
    have hn := H.2.1
    have hkl : k < T.length := by omega
    have hl := S.2.1
    have hd : T.drop k = T[k] :: T.drop (k + 1) := List.drop_eq_getElem_cons hkl
    have hq := List.getElem?_eq_getElem hkl
    obtain ⟨s1, s2, s3, s4⟩ := S.2.2 k _ hq
    rw [hd, sfnd_c]
    by_cases c : T[k].1 = lx_span t a (a + m)
    · have hl' : T[k].1.length = m := by rw [c, lx_span_len]; omega
      obtain ⟨x4, r1⟩ := sd_like (d := d) (L := L) H S he hq hl' m 0 (by omega) (fun j hj => by omega)
      refine ⟨u4, ?_⟩
      have r1 : am_E (am_D d) m_17_132 (.inl 2) [some (am_r (am_a 254)), some (am_i (a : Int)), some (am_i (m : Int)), some (am_i (k : Int)), some (am_i 0)] [] (zS L, h) = _ := r1
      rw [q_17_132_1, S.1, if_pos (by omega), r1, if_pos c, if_pos c]
    · rw [if_neg c]
      by_cases z : T[k].1.length = m
      · obtain ⟨x4, r1⟩ := sd_like (d := d) (L := L) H S he hq z m 0 (by omega) (fun j hj => by omega)
        have r1 : am_E (am_D d) m_17_132 (.inl 2) [some (am_r (am_a 254)), some (am_i (a : Int)), some (am_i (m : Int)), some (am_i (k : Int)), some (am_i 0)] [] (zS L, h) = _ := r1
        obtain ⟨y4, r2⟩ := sd_syms H S he h1 r (k + 1) x4 (by omega)
        refine ⟨y4, ?_⟩
        rw [q_17_132_1, S.1, if_pos (by omega), r1, if_neg c]
        exact r2
      · obtain ⟨y4, r2⟩ := sd_syms H S he h1 r (k + 1) (some (am_i 0)) (by omega)
        refine ⟨y4, ?_⟩
        rw [q_17_132_1, S.1, if_pos (by omega), q_17_132_2, if_pos (by omega), p_idx (by omega) (by omega), Int.toNat_natCast, s1, if_neg (by omega), if_neg (by omega), p_w (x := (k : Int) + 1) (by omega) (by omega)]
        exact r2
theorem sd_symbol (H : lm_T t n h) (S : mS t T h) {a m : Nat} (he : a + m ≤ n) (h1 : 1 ≤ m) (h16 : m ≤ 16) : (ssym (lx_span t a (a + m)) T = none ∧ am_D (d + 1) 17 132 [am_r (am_a 254), am_i (a : Int), am_i (m : Int)] (zS L, h) = pI L (-1) h) ∨ ∃ i T' h', ssym (lx_span t a (a + m)) T = some (i, T') ∧ am_D (d + 1) 17 132 [am_r (am_a 254), am_i (a : Int), am_i (m : Int)] (zS L, h) = pI L (i : Int) h' ∧ i < T'.length ∧ mS t T' h' ∧ p_fr [323, 324, 325] [(254, 112)] h h' := by
  have hn := H.2.1
  rw [D_17_132]
  obtain ⟨x4, r⟩ := sd_syms (d := d) (L := L) H S he h1 T.length 0 none (by omega)
  have r : am_E (am_D d) m_17_132 (.inl 1) [some (am_r (am_a 254)), some (am_i (a : Int)), some (am_i (m : Int)), some (am_i 0), none] [] (zS L, h) = _ := r
  rw [r, List.drop_zero]
  unfold ssym
  cases c : sfnd (lx_span t a (a + m)) T 0 with
  | some i =>
    right
    have := sfnd_rg c
    exact ⟨i, T, h, rfl, rfl, by omega, S, p_fr.refl h⟩
  | none =>
    dsimp only
    obtain ⟨S1, S2, S3⟩ := S
    rw [q_17_132_1, S1, if_neg (show ¬ (T.length : Int) < (T.length : Int) by omega)]
    by_cases z : T.length = 100
    · left
      rw [if_pos z, if_pos (show (T.length : Int) = 100 by omega)]
      exact ⟨rfl, rfl⟩
    · right
      rw [if_neg z, if_neg (show ¬ (T.length : Int) = 100 by omega), p_idx (by omega) (by omega), Int.toNat_natCast, p_idx (by omega) (by omega), Int.toNat_natCast, p_idx (by omega) (by omega), Int.toNat_natCast, p_w (x := (T.length : Int) + 1) (by omega) (by omega), p_w (x := (T.length : Int) + 1 - 1) (by omega) (by omega), show (T.length : Int) + 1 - 1 = (T.length : Int) by omega]
      obtain ⟨G, hG⟩ : ∃ G, G = am_up (am_up (am_up (am_up h 323 T.length (a : Int)) 324 T.length (m : Int)) 325 T.length (-1)) 254 112 ((T.length : Int) + 1) := ⟨_, rfl⟩
      rw [← hG]
      have G3 : ∀ i, G 323 i = if i = T.length then (a : Int) else h 323 i := fun i => by
        rw [hG, p_up_c _ _ _ _ _ (by decide), p_up_c _ _ _ _ _ (by decide), p_up_c _ _ _ _ _ (by decide)]
        by_cases y : i = T.length
        · rw [y, p_up_s, if_pos rfl]
        · rw [p_up_n _ _ _ _ _ _ (Or.inr y), if_neg y]
      have G4 : ∀ i, G 324 i = if i = T.length then (m : Int) else h 324 i := fun i => by
        rw [hG, p_up_c _ _ _ _ _ (by decide), p_up_c _ _ _ _ _ (by decide)]
        by_cases y : i = T.length
        · rw [y, p_up_s, if_pos rfl]
        · rw [p_up_n _ _ _ _ _ _ (Or.inr y), if_neg y, p_up_c _ _ _ _ _ (by decide)]
      have G5 : ∀ i, G 325 i = if i = T.length then -1 else h 325 i := fun i => by
        rw [hG, p_up_c _ _ _ _ _ (by decide)]
        by_cases y : i = T.length
        · rw [y, p_up_s, if_pos rfl]
        · rw [p_up_n _ _ _ _ _ _ (Or.inr y), if_neg y, p_up_c _ _ _ _ _ (by decide), p_up_c _ _ _ _ _ (by decide)]
      have fG : p_fr [323, 324, 325] [(254, 112)] h G := by rw [hG]; exact ((((p_fr.refl h).upc _ _ _ rfl).upc _ _ _ rfl).upc _ _ _ rfl).upf _ _ _ rfl
      refine ⟨T.length, _, G, rfl, rfl, by rw [List.length_append, List.length_singleton]; omega, ⟨?_, ?_, fun i q hq => ?_⟩, fG⟩
      · rw [hG, p_up_s, List.length_append, List.length_singleton]; omega
      · rw [List.length_append, List.length_singleton]; omega
      · rw [G3, G4, G5, fG.cell 256 rfl rfl]
        by_cases y : i < T.length
        · rw [List.getElem?_append_left y] at hq
          rw [if_neg (by omega), if_neg (by omega), if_neg (by omega)]
          exact S3 i q hq
        · have : i = T.length := by
            have := (List.getElem?_eq_some_iff.1 hq).1
            rw [List.length_append, List.length_singleton] at this; omega
          subst this
          rw [List.getElem?_append_right (Nat.le_refl _), Nat.sub_self] at hq
          cases hq
          rw [if_pos rfl, if_pos rfl, if_pos rfl, lx_span_len, Nat.add_sub_cancel_left]
          refine ⟨rfl, h16, rfl, ⟨by omega, by omega⟩, fun j x hx => ?_⟩
          obtain ⟨j1, rfl⟩ := lx_span_at hx
          rw [Int.toNat_natCast]
          exact (H.2.2 (a + j) (by omega)).1
end
