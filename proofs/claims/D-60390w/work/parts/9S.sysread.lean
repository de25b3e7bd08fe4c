/-! CONSTRUCTORS, 11: the system's text is read -/
def chkL (c : Nat) : List (List Int) → Bool
  | [] => true
  | [l] => Nat.ble l.length c
  | l :: C => Nat.beq l.length c && chkL c C
theorem ch_at {c : Nat} (hc : 0 < c) : ∀ (C : List (List Int)), chkL c C = true → ∀ k, (C.getD (k / c) []).getD (k % c) 0 = C.flatten.getD k 0
  | [], _, k => by
    have : (([] : List (List Int)).getD (k / c) []) = [] := by rw [List.getD_eq_getElem?_getD]; rfl
    rw [this]; rfl
  | [l], h, k => by
    have hl : l.length ≤ c := Nat.le_of_ble_eq_true h
    have e : [l].flatten = l := by simp
    rw [e]
    by_cases z : k < c
    · rw [Nat.div_eq_of_lt z, Nat.mod_eq_of_lt z]; rfl
    · have z1 : 1 ≤ k / c := (Nat.le_div_iff_mul_le hc).2 (by omega)
      have : ([l].getD (k / c) []) = [] := by rw [List.getD_eq_getElem?_getD, List.getElem?_eq_none (by show 1 ≤ k / c; exact z1)]; rfl
      rw [this, List.getD_eq_getElem?_getD, List.getD_eq_getElem?_getD, List.getElem?_eq_none (show l.length ≤ k by omega)]
      rfl
  | l :: l2 :: C, h, k => by
    have h : (Nat.beq l.length c && chkL c (l2 :: C)) = true := h
    rw [Bool.and_eq_true] at h
    have hl := Nat.eq_of_beq_eq_true h.1
    have e : (l :: l2 :: C).flatten = l ++ (l2 :: C).flatten := rfl
    rw [e]
    by_cases z : k < c
    · rw [Nat.div_eq_of_lt z, Nat.mod_eq_of_lt z, List.getD_eq_getElem?_getD (l := l ++ _), List.getElem?_append_left (by omega), ← List.getD_eq_getElem?_getD]
      rfl
    · obtain ⟨k', rfl⟩ : ∃ k', k = k' + c := ⟨k - c, by omega⟩
      have IH := ch_at hc (l2 :: C) h.2 k'
      rw [Nat.add_div_right _ hc, Nat.add_mod_right, List.getD_eq_getElem?_getD (l := l ++ _), List.getElem?_append_right (by omega), hl, Nat.add_sub_cancel, ← List.getD_eq_getElem?_getD]
      exact IH
theorem sy_cC : chkL 64 syC = true := by decide +kernel
theorem sy_cK : chkL 50 syK = true := by decide +kernel
theorem sy_cV : chkL 50 syV = true := by decide +kernel
theorem sy_cP : chkL 50 syP = true := by decide +kernel
set_option maxRecDepth 100000 in
theorem sy_txt : syC.flatten = syX 47 := by decide +kernel
set_option maxRecDepth 100000 in
theorem sy_chr : (syC.flatten.all fun c => decide (0 ≤ c) && decide (c ≤ 127)) = true := by decide +kernel
theorem sy_len : syK.flatten.length = 2900 ∧ syV.flatten.length = 2900 ∧ syP.flatten.length = 2900 := by decide +kernel
theorem sy_vrg : (syV.flatten.all fun c => decide (-32768 ≤ c) && decide (c ≤ 32767)) = true := by decide +kernel
theorem sy_prg : (syP.flatten.all fun c => decide (0 ≤ c) && decide (c ≤ 16000)) = true := by decide +kernel
theorem sy_n2 : syN2.length = 113 ∧ pn_used syN2 = 544 ∧ syN2.take 35 = syN1 := by decide +kernel
theorem sy_k0 : sy2 syK 2899 = 0 := by decide +kernel
/-- all tokens -/
theorem sy_lex : lx_toks sy64 7370 4498 7371 0 0 syN1 = (syTk, syN2) := by
  have tl : syTk.length = 2900 := by unfold syTk; rw [List.length_zip, List.length_zip, sy_len.1, sy_len.2.1, sy_len.2.2]; rfl
  have s0 := lx_pre_ok (m := 7071) 300 0 0 syN1 (by rw [← sy_n2.2.2]; exact lxck_ok sy_lx0)
  have s1 := lx_pre_ok (m := 6771) _ _ _ _ (lxck_ok sy_lx1)
  have s2 := lx_pre_ok (m := 6471) _ _ _ _ (lxck_ok sy_lx2)
  have s3 := lx_pre_ok (m := 6171) _ _ _ _ (lxck_ok sy_lx3)
  have s4 := lx_pre_ok (m := 5871) _ _ _ _ (lxck_ok sy_lx4)
  have s5 := lx_pre_ok (m := 5571) _ _ _ _ (lxck_ok sy_lx5)
  have s6 := lx_pre_ok (m := 5271) _ _ _ _ (lxck_ok sy_lx6)
  have s7 := lx_pre_ok (m := 4971) _ _ _ _ (lxck_ok sy_lx7)
  have s8 := lx_pre_ok (m := 4671) _ _ _ _ (lxck_ok sy_lx8)
  have s9 := lx_pre_ok (m := 4472) _ _ _ _ (lxck_ok sy_lx9)
  have se := sy_lxe
  have cat : ∀ (i n : Nat), (syTk.drop i).take n ++ syTk.drop (i + n) = syTk.drop i := fun i n => by
    rw [← List.drop_drop]; exact List.take_append_drop n (syTk.drop i)
  have e9 : lx_toks sy64 7370 4498 4472 2899 7369 (syN2.take 113) = (syTk.drop 2899, syN2) := by
    have e : syTk.drop 2899 = [(0, 0, 7370)] := by decide +kernel
    rw [se, e]
  have c9 : lx_toks sy64 7370 4498 4671 2700 6891 (syN2.take 112) = (syTk.drop 2700, syN2) := by
    have s9' := s9
    rw [show 199 + 4472 = 4671 from rfl, show 2700 + 199 = 2899 from rfl, e9] at s9'
    rw [s9', show 2899 = 2700 + 199 from rfl, cat]
  have c8 : lx_toks sy64 7370 4498 4971 2400 6222 (syN2.take 108) = (syTk.drop 2400, syN2) := by
    have s' := s8
    rw [show 300 + 4671 = 4971 from rfl, show 2400 + 300 = 2700 from rfl, c9] at s'
    rw [s', show 2700 = 2400 + 300 from rfl, cat]
  have c7 : lx_toks sy64 7370 4498 5271 2100 5509 (syN2.take 99) = (syTk.drop 2100, syN2) := by
    have s' := s7
    rw [show 300 + 4971 = 5271 from rfl, show 2100 + 300 = 2400 from rfl, c8] at s'
    rw [s', show 2400 = 2100 + 300 from rfl, cat]
  have c6 : lx_toks sy64 7370 4498 5571 1800 4593 (syN2.take 87) = (syTk.drop 1800, syN2) := by
    have s' := s6
    rw [show 300 + 5271 = 5571 from rfl, show 1800 + 300 = 2100 from rfl, c7] at s'
    rw [s', show 2100 = 1800 + 300 from rfl, cat]
  have c5 : lx_toks sy64 7370 4498 5871 1500 3720 (syN2.take 78) = (syTk.drop 1500, syN2) := by
    have s' := s5
    rw [show 300 + 5571 = 5871 from rfl, show 1500 + 300 = 1800 from rfl, c6] at s'
    rw [s', show 1800 = 1500 + 300 from rfl, cat]
  have c4 : lx_toks sy64 7370 4498 6171 1200 2994 (syN2.take 75) = (syTk.drop 1200, syN2) := by
    have s' := s4
    rw [show 300 + 5871 = 6171 from rfl, show 1200 + 300 = 1500 from rfl, c5] at s'
    rw [s', show 1500 = 1200 + 300 from rfl, cat]
  have c3 : lx_toks sy64 7370 4498 6471 900 2217 (syN2.take 68) = (syTk.drop 900, syN2) := by
    have s' := s3
    rw [show 300 + 6171 = 6471 from rfl, show 900 + 300 = 1200 from rfl, c4] at s'
    rw [s', show 1200 = 900 + 300 from rfl, cat]
  have c2 : lx_toks sy64 7370 4498 6771 600 1527 (syN2.take 61) = (syTk.drop 600, syN2) := by
    have s' := s2
    rw [show 300 + 6471 = 6771 from rfl, show 600 + 300 = 900 from rfl, c3] at s'
    rw [s', show 900 = 600 + 300 from rfl, cat]
  have c1 : lx_toks sy64 7370 4498 7071 300 763 (syN2.take 54) = (syTk.drop 300, syN2) := by
    have s' := s1
    rw [show 300 + 6771 = 7071 from rfl, show 300 + 300 = 600 from rfl, c2] at s'
    rw [s', show 600 = 300 + 300 from rfl, cat]
  rw [show 300 + 7071 = 7371 from rfl, show 0 + 300 = 300 from rfl, c1] at s0
  rw [s0, show (300 : Nat) = 0 + 300 from rfl, cat]
  rfl
