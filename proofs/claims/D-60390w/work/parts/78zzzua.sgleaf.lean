/-! SIGNS, 1: leaves of both sides -/
/-- the component's text at hand -/
def sg_T (t : Nat → Int) (n : Nat) (h : am_H) : Prop := h 23 11 = n ∧ n ≤ 4000 ∧ ∀ k, k < n → (-128 ≤ h 3 k ∧ h 3 k ≤ 127) ∧ h 3 k % 256 = t k
theorem sg_T.next {t : Nat → Int} {n : Nat} {h h' : am_H} (H : sg_T t n h) (h3 : h' 3 = h 3) (h6 : h' 23 11 = h 23 11) : sg_T t n h' := ⟨by rw [h6]; exact H.1, H.2.1, fun k hk => by rw [h3]; exact H.2.2 k hk⟩
theorem sg_T.rg {t : Nat → Int} {n : Nat} {h : am_H} (H : sg_T t n h) {k : Nat} (hk : k < n) : 0 ≤ t k ∧ t k ≤ 255 := by
  have := (H.2.2 k hk).2
  omega
def sh (t : Nat → Int) (n k : Nat) : Int := if k < n then t k else 10
theorem sh_t {t : Nat → Int} {n k : Nat} (h : k < n) : sh t n k = t k := if_pos h
abbrev sbl (c : Int) : Prop := c = 32 ∨ c = 9 ∨ c = 13
abbrev spt (c : Int) : Prop := lx_part c ∨ c = 46 ∨ c = 36 ∨ c = 58
abbrev scm (t : Nat → Int) (n k : Nat) : Prop := t k = 47 ∧ lx_at t n (k + 1) = 47
/-- all digits; a number; a symbol -/
abbrev sDig (t : Nat → Int) (a m : Nat) : Prop := ∀ j, j < m → lx_digit (t (a + j))
abbrev sPrt (t : Nat → Int) (a m : Nat) : Prop := ∀ j, j < m → spt (t (a + j))
abbrev sNum (t : Nat → Int) (a e : Nat) : Prop := ((1 ≤ e - a ∧ e - a ≤ 5) ∧ sDig t a (e - a)) ∧ lx_num t (e - a) a 0 ≤ 32767
abbrev sSym (t : Nat → Int) (a e : Nat) : Prop := ((1 ≤ e - a ∧ e - a ≤ 16) ∧ ¬ lx_digit (t a)) ∧ sPrt t a (e - a)
theorem sDig_s {t : Nat → Int} {a m : Nat} : sDig t a (m + 1) ↔ lx_digit (t a) ∧ sDig t (a + 1) m := by
  constructor
  · intro H
    refine ⟨H 0 (by omega), fun j hj => ?_⟩
    have := H (j + 1) (by omega)
    rw [show a + (j + 1) = a + 1 + j by omega] at this
    exact this
  · intro ⟨H0, H⟩ j hj
    cases j with
    | zero => exact H0
    | succ j => rw [show a + (j + 1) = a + 1 + j by omega]; exact H j (by omega)
theorem sPrt_s {t : Nat → Int} {a m : Nat} : sPrt t a (m + 1) ↔ spt (t a) ∧ sPrt t (a + 1) m := by
  constructor
  · intro H
    refine ⟨H 0 (by omega), fun j hj => ?_⟩
    have := H (j + 1) (by omega)
    rw [show a + (j + 1) = a + 1 + j by omega] at this
    exact this
  · intro ⟨H0, H⟩ j hj
    cases j with
    | zero => exact H0
    | succ j => rw [show a + (j + 1) = a + 1 + j by omega]; exact H j (by omega)
section
variable {d L : Nat} {t : Nat → Int} {n : Nat} {h : am_H}
theorem sc_here (H : sg_T t n h) (k : Nat) : am_D (d + 1) 11 1 [am_r (am_a 23), am_i (k : Int)] (zS L, h) = pI L (sh t n k) h := by
  have hn := H.2.1
  rw [D_11_1, H.1]
  unfold sh
  by_cases c : k < n
  · rw [if_pos (by omega), if_pos c, p_idx (by omega) (by omega), p_and255, Int.toNat_natCast, (H.2.2 _ c).2]
  · rw [if_neg (by omega), if_neg c]
theorem sc_blank (c : Int) : am_D (d + 1) 11 2 [am_i c] (zS L, h) = pI L (pB (sbl c)) h := by
  rw [D_11_2]
  simp only [p_bit0, p_bit1]
  by_cases hj : sbl c
  · rw [pB_t hj]; unfold sbl at hj; (repeat' split) <;> first | rfl | (exfalso; omega)
  · rw [pB_f hj]; unfold sbl at hj; (repeat' split) <;> first | rfl | (exfalso; omega)
theorem sc_digit (c : Int) : am_D (d + 1) 11 4 [am_i c] (zS L, h) = pI L (pB (lx_digit c)) h := by
  rw [D_11_4]
  simp only [p_bit0, p_bit1]
  by_cases hj : lx_digit c
  · rw [pB_t hj]; unfold lx_digit at hj; (repeat' split) <;> first | rfl | (exfalso; omega)
  · rw [pB_f hj]; unfold lx_digit at hj; (repeat' split) <;> first | rfl | (exfalso; omega)
theorem sc_part (c : Int) : am_D (d + 2) 11 5 [am_i c] (zS L, h) = pI L (pB (spt c)) h := by
  rw [D_11_5, sc_digit, p_xI]
  simp only [q_11_5_2, p_bit0, p_bit1, pB_0]
  by_cases hj : spt c
  · rw [pB_t hj]; unfold spt lx_part lx_digit lx_letter at hj; unfold lx_digit; (repeat' split) <;> first | rfl | (exfalso; omega)
  · rw [pB_f hj]; unfold spt lx_part lx_digit lx_letter at hj; unfold lx_digit; (repeat' split) <;> first | rfl | (exfalso; omega)
theorem sc_comm (H : sg_T t n h) {k : Nat} (hk : k < n) : am_D (d + 2) 11 3 [am_r (am_a 23), am_i (k : Int)] (zS L, h) = pI L (pB (scm t n k)) h := by
  have hn := H.2.1
  rw [D_11_3, sc_here H, p_xI, sh_t hk, p_w (by omega) (by omega)]
  have e1 : am_D (d + 1) 11 1 [am_r (am_a 23), am_i ((k : Int) + 1)] (zS L, h) = pI L (sh t n (k + 1)) h := sc_here H (k + 1)
  have hs : sh t n (k + 1) = 47 ↔ lx_at t n (k + 1) = 47 := by
    unfold sh lx_at
    split <;> omega
  by_cases c1 : t k = 47
  · rw [if_pos c1, e1, p_xI]
    by_cases c2 : sh t n (k + 1) = 47
    · rw [if_pos c2, p_bit1, pB_t ⟨c1, hs.1 c2⟩]
    · rw [if_neg c2, p_bit0, pB_f (fun z => c2 (hs.2 z.2))]
  · rw [if_neg c1, p_bit0, pB_f (fun z => c1 z.1)]
/-- the value of digits -/
theorem sc_num (H : sg_T t n h) {e : Nat} (he : e ≤ n) (h16 : h 23 16 = (e : Int)) : ∀ (m k : Nat) (v : Int), k + m = e → sDig t k m → 0 ≤ v → (v + 1) * 10 ^ m ≤ 100000 → am_E (am_D (d + 1)) m_11_13 (.inl 1) [some (am_r (am_a 23)), some (am_i v), some (am_i (k : Int))] [] (zS L, h) = pI L (lx_num t m k v) h ∧ 0 ≤ lx_num t m k v ∧ lx_num t m k v ≤ 99999
  | 0, k, v, hk, hd, h0, hb => by
    rw [q_11_13_1, h16, if_neg (by omega)]
    exact ⟨rfl, h0, by show v ≤ _; rw [Int.pow_zero] at hb; omega⟩
  | m + 1, k, v, hk, hd, h0, hb => by
    have hn := H.2.1
    obtain ⟨d1, d2⟩ := sDig_s.1 hd
    have p1 : (1 : Int) ≤ 10 ^ m := Int.pow_pos (by decide)
    have hb2 : (v + 1) * 10 * 10 ^ m ≤ 100000 := by
      rw [Int.pow_succ, Int.mul_comm (10 ^ m) 10, ← Int.mul_assoc] at hb; exact hb
    have b1 : (v + 1) * 10 ≤ 100000 := by
      have := Int.mul_le_mul_of_nonneg_left p1 (show 0 ≤ (v + 1) * 10 by omega)
      omega
    unfold lx_digit at d1
    have ih := sc_num H he h16 m (k + 1) (10 * v + t k - 48) (by omega) d2 (by omega) (by
      refine Int.le_trans (Int.mul_le_mul_of_nonneg_right (show 10 * v + t k - 48 + 1 ≤ (v + 1) * 10 by omega) (by omega)) hb2)
    refine ⟨?_, ih.2⟩
    rw [q_11_13_1, h16, if_pos (by omega), sc_here H, p_xI, sh_t (by omega), p_w (x := 10 * v) (by omega) (by omega), p_w (x := 10 * v + t k) (by omega) (by omega), p_w (x := 10 * v + t k - 48) (by omega) (by omega), p_w (x := (k : Int) + 1) (by omega) (by omega)]
    exact ih.1
theorem sc_number (H : sg_T t n h) {a e : Nat} (he : e ≤ n) (h15 : h 23 15 = (a : Int)) (h16 : h 23 16 = (e : Int)) (ha : a < e) (h5 : e - (a + 1) ≤ 5) (hd : sDig t (a + 1) (e - (a + 1))) : am_D (d + 2) 11 13 [am_r (am_a 23)] (zS L, h) = pI L (lx_num t (e - (a + 1)) (a + 1) 0) h ∧ 0 ≤ lx_num t (e - (a + 1)) (a + 1) 0 ∧ lx_num t (e - (a + 1)) (a + 1) 0 ≤ 99999 := by
  have hn := H.2.1
  rw [D_11_13, h15, p_w (by omega) (by omega)]
  have p5 : (10 : Int) ^ (e - (a + 1)) ≤ 100000 := by
    have : ∀ m : Nat, m ≤ 5 → (10 : Int) ^ m ≤ 100000 := by decide
    exact this _ h5
  exact sc_num (d := d) (L := L) H he h16 (e - (a + 1)) (a + 1) 0 (by omega) hd (by decide) (by omega)
theorem sc_numl (H : sg_T t n h) {e : Nat} (he : e ≤ n) (h16 : h 23 16 = (e : Int)) {u1 : Option am_V} : ∀ (m k : Nat), k + m = e → ∃ u3, am_E (am_D (d + 1)) m_11_12 (.inl 3) [some (am_r (am_a 23)), u1, some (am_i 1), some (am_i (k : Int))] [] (zS L, h) = am_E (am_D (d + 1)) m_11_12 (.inl 4) [some (am_r (am_a 23)), u1, some (am_i (pB (sDig t k m))), u3] [] (zS L, h)
  | 0, k, hk => ⟨_, by rw [q_11_12_3, h16, if_neg (by omega), pB_t (fun j hj => by omega)]⟩
  | m + 1, k, hk => by
    have hn := H.2.1
    by_cases c : lx_digit (t k)
    · obtain ⟨u3, r⟩ := sc_numl H he h16 (u1 := u1) m (k + 1) (by omega)
      refine ⟨u3, ?_⟩
      rw [q_11_12_3, h16, if_pos (by omega), if_neg (by decide), sc_here H, p_xI, sh_t (by omega), sc_digit, p_xI, pB_t c, p_w (x := (k : Int) + 1) (by omega) (by omega), pB_congr (show sDig t k (m + 1) ↔ sDig t (k + 1) m from ⟨fun z => (sDig_s.1 z).2, fun z => sDig_s.2 ⟨c, z⟩⟩)]
      exact r
    · refine ⟨some (am_i ((k : Int) + 1)), ?_⟩
      rw [q_11_12_3, h16, if_pos (by omega), if_neg (by decide), sc_here H, p_xI, sh_t (by omega), sc_digit, p_xI, pB_f c, p_w (x := (k : Int) + 1) (by omega) (by omega), pB_f (fun z => c (sDig_s.1 z).1), q_11_12_3]
      by_cases z : (k : Int) + 1 < h 23 16
      · rw [if_pos z, if_pos rfl]
      · rw [if_neg z]
theorem sc_isnum (H : sg_T t n h) {a e : Nat} (he : e ≤ n) (h15 : h 23 15 = (a : Int)) (h16 : h 23 16 = (e : Int)) (ha : a < e) : am_D (d + 3) 11 12 [am_r (am_a 23)] (zS L, h) = pI L (pB (sNum t (a + 1) e)) h := by
  have hn := H.2.1
  rw [D_11_12, h15, h16, p_w (x := (e : Int) - (a : Int)) (by omega) (by omega), p_w (x := (e : Int) - (a : Int) - 1) (by omega) (by omega), p_w (x := (a : Int) + 1) (by omega) (by omega)]
  have E0 : ∀ {u1 : Option am_V}, am_E (am_D (d + 2)) m_11_12 (.inl 3) [some (am_r (am_a 23)), u1, some (am_i 0), some (am_i ((a : Int) + 1))] [] (zS L, h) = pI L 0 h := fun {u1} => by
    have E4 : ∀ u3, am_E (am_D (d + 2)) m_11_12 (.inl 4) [some (am_r (am_a 23)), u1, some (am_i 0), u3] [] (zS L, h) = pI L 0 h := fun u3 => by rw [q_11_12_4, if_pos rfl, p_bit0]
    rw [q_11_12_3]
    by_cases z : (a : Int) + 1 < h 23 16
    · rw [if_pos z, if_pos rfl, E4]
    · rw [if_neg z, E4]
  by_cases c1 : (e : Int) - (a : Int) - 1 < 1
  · rw [if_pos c1, E0, pB_f (fun z => by have := z.1.1.1; omega)]
  rw [if_neg c1]
  by_cases c2 : 5 < (e : Int) - (a : Int) - 1
  · rw [if_pos c2, E0, pB_f (fun z => by have := z.1.1.2; omega)]
  rw [if_neg c2]
  obtain ⟨u3, r⟩ := sc_numl (d := d + 1) (L := L) H he h16 (u1 := some (am_i ((e : Int) - (a : Int) - 1))) (e - (a + 1)) (a + 1) (by omega)
  have r : am_E (am_D (d + 2)) m_11_12 (.inl 3) [some (am_r (am_a 23)), some (am_i ((e : Int) - (a : Int) - 1)), some (am_i 1), some (am_i ((a : Int) + 1))] [] (zS L, h) = _ := r
  rw [r, q_11_12_4]
  by_cases c3 : sDig t (a + 1) (e - (a + 1))
  · rw [pB_t c3, if_neg (by decide)]
    obtain ⟨r2, r3, r4⟩ := sc_number (d := d) (L := L) H he h15 h16 ha (by omega) c3
    rw [r2, p_xI]
    by_cases c4 : 32767 < lx_num t (e - (a + 1)) (a + 1) 0
    · rw [if_pos c4, p_bit0, pB_f (fun z => by have := z.2; omega)]
    · rw [if_neg c4, p_bit1, pB_t ⟨⟨⟨by omega, by omega⟩, c3⟩, by omega⟩]
  · rw [pB_f c3, if_pos rfl, p_bit0, pB_f (fun z => c3 z.1.2)]
theorem sc_syml (H : sg_T t n h) {e : Nat} (he : e ≤ n) {u1 : Option am_V} : ∀ (m k : Nat), k + m = e → am_E (am_D (d + 2)) m_11_14 (.inl 3) [some (am_r (am_a 23)), u1, some (am_i (e : Int)), some (am_i 1), some (am_i (k : Int))] [] (zS L, h) = pI L (pB (sPrt t k m)) h
  | 0, k, hk => by rw [q_11_14_3, if_neg (by omega), p_bit1, pB_t (fun j hj => by omega)]
  | m + 1, k, hk => by
    have hn := H.2.1
    rw [q_11_14_3, if_pos (by omega), if_neg (by decide), sc_here H, p_xI, sh_t (by omega), sc_part, p_xI, p_w (x := (k : Int) + 1) (by omega) (by omega)]
    by_cases c : spt (t k)
    · rw [pB_t c, pB_congr (show sPrt t k (m + 1) ↔ sPrt t (k + 1) m from ⟨fun z => (sPrt_s.1 z).2, fun z => sPrt_s.2 ⟨c, z⟩⟩)]
      exact sc_syml H he m (k + 1) (by omega)
    · rw [pB_f c, pB_f (fun z => c (sPrt_s.1 z).1), q_11_14_3]
      by_cases z : (k : Int) + 1 < (e : Int)
      · rw [if_pos z, if_pos rfl, p_bit0]
      · rw [if_neg z, p_bit0]
theorem sc_issym (H : sg_T t n h) {a e : Nat} (he : e ≤ n) (ha : a ≤ e) : am_D (d + 3) 11 14 [am_r (am_a 23), am_i (a : Int), am_i (e : Int)] (zS L, h) = pI L (pB (sSym t a e)) h := by
  have hn := H.2.1
  have E0 : am_E (am_D (d + 2)) m_11_14 (.inl 3) [some (am_r (am_a 23)), some (am_i (a : Int)), some (am_i (e : Int)), some (am_i 0), some (am_i (a : Int))] [] (zS L, h) = pI L 0 h := by
    rw [q_11_14_3]
    by_cases z : (a : Int) < (e : Int)
    · rw [if_pos z, if_pos rfl, p_bit0]
    · rw [if_neg z, p_bit0]
  rw [D_11_14, p_w (x := (e : Int) - (a : Int)) (by omega) (by omega)]
  by_cases c1 : (e : Int) - (a : Int) < 1
  · rw [if_pos c1, E0, pB_f (fun z => by have := z.1.1.1; omega)]
  rw [if_neg c1]
  by_cases c2 : 16 < (e : Int) - (a : Int)
  · rw [if_pos c2, E0, pB_f (fun z => by have := z.1.1.2; omega)]
  rw [if_neg c2, sc_here H, p_xI, sh_t (by omega), sc_digit, p_xI]
  by_cases c3 : lx_digit (t a)
  · rw [pB_t c3, if_neg (by decide), E0, pB_f (fun z => z.1.2 c3)]
  · rw [pB_f c3, if_pos rfl, sc_syml H he (e - a) a (by omega)]
    exact congrArg (fun x => pI L x h) (pB_congr ⟨fun z => ⟨⟨⟨by omega, by omega⟩, c3⟩, z⟩, fun z => z.2⟩)
/-- a word is a string -/
theorem sc_isl (H : sg_T t n h) {a e j : Nat} (he : e ≤ n) (hj : j < 168) (hl : e - a = am_sl j) : ∀ (m k : Nat), k + m = e → a ≤ k → (∀ q, a + q < k → t (a + q) = am_sc j q) → am_E (am_D (d + 1)) m_11_15 (.inl 3) [some (am_r (am_a 23)), some (am_i (a : Int)), some (am_i (e : Int)), some (am_r (am_k j)), some (am_i 1), some (am_i (k : Int))] [] (zS L, h) = pI L (pB (∀ q, q < e - a → t (a + q) = am_sc j q)) h
  | 0, k, hk, hak, hq => by rw [q_11_15_3, if_neg (by omega), p_bit1, pB_t (fun q hq' => hq q (by omega))]
  | m + 1, k, hk, hak, hq => by
    have hn := H.2.1
    have hb : Nat.blt j am_ns = true := Nat.ble_eq.mpr hj
    rw [q_11_15_3, if_pos (by omega), if_neg (by decide), sc_here H, p_xI, sh_t (by omega)]
    show cond (Nat.blt j am_ns) _ _ = _
    rw [hb, cond_true, p_w (x := (k : Int) - (a : Int)) (by omega) (by omega), p_idx (by omega) (by omega), p_w (x := (k : Int) + 1) (by omega) (by omega), show ((k : Int) - (a : Int)).toNat = k - a by omega]
    by_cases c : t k = am_sc j (k - a)
    · rw [if_pos c]
      exact sc_isl H he hj hl m (k + 1) (by omega) (by omega) (fun q hq' => by
        by_cases z : a + q = k
        · rw [z, c, ← z, Nat.add_sub_cancel_left]
        · exact hq q (by omega))
    · rw [if_neg c, pB_f (fun z => c (by have := z (k - a) (by omega); rw [show a + (k - a) = k by omega] at this; exact this)), q_11_15_3]
      by_cases z : (k : Int) + 1 < (e : Int)
      · rw [if_pos z, if_pos rfl, p_bit0]
      · rw [if_neg z, p_bit0]
theorem span_eqx {a e : Nat} {w : List Int} : lx_span t a e = w ↔ e - a = w.length ∧ ∀ q, q < e - a → t (a + q) = w.getD q 0 := by
  constructor
  · rintro rfl
    refine ⟨(lx_span_len a e).symm, fun q hq => ?_⟩
    unfold lx_span
    rw [List.getD_eq_getElem?_getD, List.getElem?_map, List.getElem?_range hq]
    rfl
  · rintro ⟨h1, h2⟩
    apply List.ext_getElem?
    intro q
    by_cases hq : q < e - a
    · unfold lx_span
      rw [List.getElem?_map, List.getElem?_range hq]
      show some (t (a + q)) = _
      rw [h2 q hq, List.getD_eq_getElem?_getD, List.getElem?_eq_getElem (by omega)]
      rfl
    · rw [List.getElem?_eq_none (by rw [lx_span_len]; omega), List.getElem?_eq_none (by omega)]
theorem sc_is (H : sg_T t n h) {a e j : Nat} (he : e ≤ n) (ha : a ≤ e) (hj : j < 168) : am_D (d + 2) 11 15 [am_r (am_a 23), am_i (a : Int), am_i (e : Int), am_r (am_k j)] (zS L, h) = pI L (pB (lx_span t a e = am_str.getD j [])) h := by
  have hn := H.2.1
  have hb : Nat.blt j am_ns = true := Nat.ble_eq.mpr hj
  rw [D_11_15]
  show cond (Nat.blt j am_ns) _ _ = _
  rw [hb, cond_true, p_w (x := (e : Int) - (a : Int)) (by omega) (by omega)]
  by_cases c : (e : Int) - (a : Int) = (am_sl j : Nat)
  · rw [if_pos c, sc_isl H he hj (by omega) (e - a) a (by omega) (Nat.le_refl _) (fun q hq => by omega)]
    exact congrArg (fun x => pI L x h) (pB_congr ⟨fun z => span_eqx.2 ⟨by show e - a = am_sl j; omega, z⟩, fun z => (span_eqx.1 z).2⟩)
  · rw [if_neg c, pB_f (fun z => c (by have := (span_eqx.1 z).1; show _ = ((am_str.getD j []).length : Int); omega)), q_11_15_3]
    by_cases z : (a : Int) < (e : Int)
    · rw [if_pos z, if_pos rfl, p_bit0]
    · rw [if_neg z, p_bit0]
end
