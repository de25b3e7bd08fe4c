/-! SIGNS, 3: what is worked out, the component's word -/
section
variable {d L : Nat} {t : Nat → Int} {n : Nat} {h : am_H}
theorem sspan_c {a e : Nat} (h : a < e) : lx_span t a e = t a :: lx_span t (a + 1) e := by
  unfold lx_span
  obtain ⟨m, hm⟩ : ∃ m, e - a = m + 1 := ⟨e - a - 1, by omega⟩
  rw [hm, show e - (a + 1) = m by omega, List.range_succ_eq_map, List.map_cons, List.map_map]
  congr 1
  apply List.map_congr_left
  intro i _
  show t (a + (i + 1)) = t (a + 1 + i)
  congr 1; omega
theorem sspan_0 {a e : Nat} (h : e ≤ a) : lx_span t a e = [] := by
  unfold lx_span
  rw [show e - a = 0 by omega]; rfl
/-- one pattern, from a byte on -/
theorem sc_pat (H : sg_T t n h) {a e k j : Nat} {b : Int} {pat : List Int} (he : e ≤ n) (ha : a ≤ e) (hj : j < 168) (hp : am_str.getD j [] = pat) (hl : e - a = pat.length) (h77 : ∀ x ∈ pat, x ≠ 77) (hk : k < 18) (hb : h 31 k = b) (b0 : 0 ≤ b ∧ b ≤ 63) {R : Option am_O} (N : ∀ u4 u5 u6 u7 u8 u9, am_E (am_D (d + 1)) m_11_20 (.inl 1) [some (am_r (am_a 23)), some (am_i (a : Int)), some (am_i (e : Int)), some (am_i ((k + 1 : Nat) : Int)), u4, u5, u6, u7, u8, u9] [] (zS L, h) = R) : ∀ (m q : Nat) (mem : Int) (u8 u9 : Option am_V), q + m = e - a → mem = 0 ∨ mem = 1 → am_E (am_D (d + 1)) m_11_20 (.inl 4) [some (am_r (am_a 23)), some (am_i (a : Int)), some (am_i (e : Int)), some (am_i (k : Int)), some (am_r (am_k j)), some (am_i 1), some (am_i mem), some (am_i ((a + q : Nat) : Int)), u8, u9] [] (zS L, h) = if mL (pat.drop q) (lx_span t (a + q) e) = true then pI L (64 * b + (if mem ≠ 0 ∨ 77 ∈ lx_span t (a + q) e then 4096 else 0)) h else R
  | 0, q, mem, u8, u9, hq, hm => by
    have hn := H.2.1
    rw [q_11_20_4, if_neg (by omega), q_11_20_13, if_neg (by decide), p_idx (by omega) (by omega), Int.toNat_natCast, hb, sspan_0 (by omega), List.drop_eq_nil_of_le (by omega), if_pos (show mL [] [] = true from rfl), p_w (x := 64 * b) (by omega) (by omega)]
    rcases hm with rfl | rfl
    · rw [if_pos rfl, if_neg (by simp), p_w (by omega) (by omega)]
    · rw [if_neg (by decide), if_pos (by simp), p_w (by omega) (by omega)]
  | m + 1, q, mem, u8, u9, hq, hm => by
    have hn := H.2.1
    have hbl : Nat.blt j am_ns = true := Nat.ble_eq.mpr hj
    have hpl : q < pat.length := by omega
    have hsc : am_sc j q = pat[q] := by
      unfold am_sc
      rw [hp, List.getD_eq_getElem?_getD, List.getElem?_eq_getElem hpl]; rfl
    have hsl : am_sl j = pat.length := by unfold am_sl; rw [hp]
    have hd : pat.drop q = pat[q] :: pat.drop (q + 1) := List.drop_eq_getElem_cons hpl
    have hs : lx_span t (a + q) e = t (a + q) :: lx_span t (a + q + 1) e := sspan_c (by omega)
    have p77 : pat[q] ≠ 77 := h77 _ (List.getElem_mem hpl)
    have F : ∀ {x6 : Int} {x7 : Int} {u8 u9 : Option am_V}, am_E (am_D (d + 1)) m_11_20 (.inl 4) [some (am_r (am_a 23)), some (am_i (a : Int)), some (am_i (e : Int)), some (am_i (k : Int)), some (am_r (am_k j)), some (am_i 0), some (am_i x6), some (am_i x7), u8, u9] [] (zS L, h) = R := fun {x6 x7 u8 u9} => by
      have E13 : am_E (am_D (d + 1)) m_11_20 (.inl 13) [some (am_r (am_a 23)), some (am_i (a : Int)), some (am_i (e : Int)), some (am_i (k : Int)), some (am_r (am_k j)), some (am_i 0), some (am_i x6), some (am_i x7), u8, u9] [] (zS L, h) = R := by
        rw [q_11_20_13, if_pos rfl, p_w (x := (k : Int) + 1) (by omega) (by omega)]
        exact N _ _ _ _ _ _
      rw [q_11_20_4]
      by_cases z : x7 < (e : Int)
      · rw [if_pos z, if_pos rfl, E13]
      · rw [if_neg z, E13]
    have ih := sc_pat H he ha hj hp hl h77 hk hb b0 N m (q + 1)
    -- a sign that is no M for A
    have E5 : ∀ {u5 u9 : Option am_V}, ¬ (pat[q] = 65 ∧ t (a + q) = 77) → am_E (am_D (d + 1)) m_11_20 (.inl 5) [some (am_r (am_a 23)), some (am_i (a : Int)), some (am_i (e : Int)), some (am_i (k : Int)), some (am_r (am_k j)), u5, some (am_i mem), some (am_i ((a + q : Nat) : Int)), some (am_i pat[q]), u9] [] (zS L, h) = if mL (pat.drop q) (lx_span t (a + q) e) = true then pI L (64 * b + (if mem ≠ 0 ∨ 77 ∈ lx_span t (a + q) e then 4096 else 0)) h else R := fun {u5 u9} hAx => by
      have E9 : am_E (am_D (d + 1)) m_11_20 (.inl 9) [some (am_r (am_a 23)), some (am_i (a : Int)), some (am_i (e : Int)), some (am_i (k : Int)), some (am_r (am_k j)), u5, some (am_i mem), some (am_i ((a + q : Nat) : Int)), some (am_i pat[q]), some (am_i 0)] [am_i mem] (zS L, h) = if mL (pat.drop q) (lx_span t (a + q) e) = true then pI L (64 * b + (if mem ≠ 0 ∨ 77 ∈ lx_span t (a + q) e then 4096 else 0)) h else R := by
        rw [q_11_20_9, if_pos rfl, sc_here H, p_xI, sh_t (by omega), p_w (x := ((a + q : Nat) : Int) + 1) (by omega) (by omega)]
        by_cases c : t (a + q) = pat[q]
        · rw [if_pos c]
          have r := ih mem (some (am_i pat[q])) (some (am_i 0)) (by omega) hm
          rw [show a + (q + 1) = a + q + 1 by omega] at r
          refine r.trans ?_
          rw [hd, hs]
          have e1 : mL (pat[q] :: pat.drop (q + 1)) (t (a + q) :: lx_span t (a + q + 1) e) = mL (pat.drop (q + 1)) (lx_span t (a + q + 1) e) := by
            show (mA _ _ && mL _ _) = _
            have : mA pat[q] (t (a + q)) = true := by unfold mA; rw [c]; simp
            rw [this, Bool.true_and]
          have e2 : (mem ≠ 0 ∨ 77 ∈ t (a + q) :: lx_span t (a + q + 1) e) ↔ (mem ≠ 0 ∨ 77 ∈ lx_span t (a + q + 1) e) := by
            rw [List.mem_cons]
            have : ¬ (77 : Int) = t (a + q) := by rw [c]; exact fun z => p77 z.symm
            simp [this]
          rw [e1]
          by_cases z : mem ≠ 0 ∨ 77 ∈ lx_span t (a + q + 1) e
          · rw [if_pos z, if_pos (e2.2 z)]
          · rw [if_neg z, if_neg (fun y => z (e2.1 y))]
        · rw [if_neg c, F, hd, hs]
          have e1 : mL (pat[q] :: pat.drop (q + 1)) (t (a + q) :: lx_span t (a + q + 1) e) = false := by
            show (mA _ _ && mL _ _) = _
            have : mA pat[q] (t (a + q)) = false := by
              unfold mA
              rw [Bool.or_eq_false_iff, Bool.and_eq_false_iff]
              refine ⟨?_, by simp [c]⟩
              by_cases z : pat[q] = 65
              · right; simp; exact fun y => hAx ⟨z, y⟩
              · left; simp [z]
            rw [this, Bool.false_and]
          rw [e1, if_neg (by decide)]
      rw [q_11_20_5]
      rcases hm with rfl | rfl
      · rw [if_pos rfl, if_pos rfl]; exact E9
      · rw [if_neg (by decide)]; exact E9
    rw [q_11_20_4, if_pos (by omega), if_neg (by decide)]
    show cond (Nat.blt j am_ns) _ _ = _
    rw [hbl, cond_true, p_w (x := ((a + q : Nat) : Int) - (a : Int)) (by omega) (by omega), p_idx (by omega) (by omega), show (((a + q : Nat) : Int) - (a : Int)).toNat = q by omega, hsc]
    by_cases c65 : pat[q] = 65
    · rw [if_pos c65, sc_here H, p_xI, sh_t (by omega)]
      by_cases c77 : t (a + q) = 77
      · rw [if_pos c77]
        have E9 : am_E (am_D (d + 1)) m_11_20 (.inl 9) [some (am_r (am_a 23)), some (am_i (a : Int)), some (am_i (e : Int)), some (am_i (k : Int)), some (am_r (am_k j)), some (am_i 1), some (am_i mem), some (am_i ((a + q : Nat) : Int)), some (am_i pat[q]), some (am_i 1)] [am_i 1] (zS L, h) = if mL (pat.drop q) (lx_span t (a + q) e) = true then pI L (64 * b + (if mem ≠ 0 ∨ 77 ∈ lx_span t (a + q) e then 4096 else 0)) h else R := by
          rw [q_11_20_9, if_neg (by decide), p_w (x := ((a + q : Nat) : Int) + 1) (by omega) (by omega)]
          have r := ih 1 (some (am_i pat[q])) (some (am_i 1)) (by omega) (Or.inr rfl)
          rw [show a + (q + 1) = a + q + 1 by omega] at r
          refine r.trans ?_
          rw [hd, hs]
          have e1 : mL (pat[q] :: pat.drop (q + 1)) (t (a + q) :: lx_span t (a + q + 1) e) = mL (pat.drop (q + 1)) (lx_span t (a + q + 1) e) := by
            show (mA _ _ && mL _ _) = _
            have : mA pat[q] (t (a + q)) = true := by unfold mA; rw [c65, c77]; rfl
            rw [this, Bool.true_and]
          rw [e1, if_pos (show (1 : Int) ≠ 0 ∨ _ from Or.inl (by decide)), if_pos (show mem ≠ 0 ∨ 77 ∈ t (a + q) :: lx_span t (a + q + 1) e from Or.inr (by rw [c77]; exact List.mem_cons_self ..))]
        rcases hm with rfl | rfl
        · rw [if_pos rfl, if_neg (by decide)]; exact E9
        · rw [if_neg (by decide)]; exact E9
      · rw [if_neg c77]
        exact E5 (fun z => c77 z.2)
    · rw [if_neg c65]
      exact E5 (fun z => c65 z.1)
theorem mL_len : ∀ (p s : List Int), mL p s = true → p.length = s.length
  | [], [], _ => rfl
  | p :: ps, x :: xs, h => by
    have h : (mA p x && mL ps xs) = true := h
    rw [Bool.and_eq_true] at h
    rw [List.length_cons, List.length_cons, mL_len ps xs h.2]
  | [], x :: xs, h => by cases h
  | p :: ps, [], h => by cases h
theorem cps_ok : ∀ (k : Nat) (q : List Int × Int), cps[k]? = some q → am_str.getD (7 + k) [] = q.1 ∧ (∀ x ∈ q.1, x ≠ 77) ∧ 0 ≤ q.2 ∧ q.2 ≤ 63 := by
  intro k q hq
  have hk : k < 18 := (List.getElem?_eq_some_iff.1 hq).1
  have : k = 0 ∨ k = 1 ∨ k = 2 ∨ k = 3 ∨ k = 4 ∨ k = 5 ∨ k = 6 ∨ k = 7 ∨ k = 8 ∨ k = 9 ∨ k = 10 ∨ k = 11 ∨ k = 12 ∨ k = 13 ∨ k = 14 ∨ k = 15 ∨ k = 16 ∨ k = 17 := by omega
  rcases this with rfl | rfl | rfl | rfl | rfl | rfl | rfl | rfl | rfl | rfl | rfl | rfl | rfl | rfl | rfl | rfl | rfl | rfl <;> (cases hq; exact ⟨rfl, by decide, by decide, by decide⟩)
theorem cps_at (k : Nat) (hk : k < 18) : List.getD [am_k 7, am_k 8, am_k 9, am_k 10, am_k 11, am_k 12, am_k 13, am_k 14, am_k 15, am_k 16, am_k 17, am_k 18, am_k 19, am_k 20, am_k 21, am_k 22, am_k 23, am_k 24] k am_n = am_k (7 + k) := by
  have : k = 0 ∨ k = 1 ∨ k = 2 ∨ k = 3 ∨ k = 4 ∨ k = 5 ∨ k = 6 ∨ k = 7 ∨ k = 8 ∨ k = 9 ∨ k = 10 ∨ k = 11 ∨ k = 12 ∨ k = 13 ∨ k = 14 ∨ k = 15 ∨ k = 16 ∨ k = 17 := by omega
  rcases this with rfl | rfl | rfl | rfl | rfl | rfl | rfl | rfl | rfl | rfl | rfl | rfl | rfl | rfl | rfl | rfl | rfl | rfl <;> rfl
theorem sc_compl (H : sg_T t n h) (G : SGC h) {a e : Nat} (he : e ≤ n) (ha : a ≤ e) : ∀ (m k : Nat), k + m = 18 → ∀ u4 u5 u6 u7 u8 u9, am_E (am_D (d + 1)) m_11_20 (.inl 1) [some (am_r (am_a 23)), some (am_i (a : Int)), some (am_i (e : Int)), some (am_i (k : Int)), u4, u5, u6, u7, u8, u9] [] (zS L, h) = pI L (if cmL (cps.drop k) (lx_span t a e) = -1 then -1 else 64 * cmL (cps.drop k) (lx_span t a e)) h
  | 0, k, hk => fun u4 u5 u6 u7 u8 u9 => by
    have : k = 18 := by omega
    subst this
    rw [q_11_20_1, if_neg (by decide)]; rfl
  | m + 1, k, hk => fun u4 u5 u6 u7 u8 u9 => by
    have hn := H.2.1
    have hbl : Nat.blt (7 + k) am_ns = true := Nat.ble_eq.mpr (show 7 + k + 1 ≤ 168 by omega)
    have hkl : k < cps.length := by show k < 18; omega
    obtain ⟨c1, c2, c3, c4⟩ := cps_ok k _ (List.getElem?_eq_getElem hkl)
    have hb := G.2 k _ (List.getElem?_eq_getElem hkl)
    have hd : cps.drop k = cps[k] :: cps.drop (k + 1) := List.drop_eq_getElem_cons hkl
    have hsl : am_sl (7 + k) = cps[k].1.length := by unfold am_sl; rw [c1]
    have N := sc_compl H G he ha m (k + 1) (by omega)
    have eL : cmL (cps[k] :: cps.drop (k + 1)) (lx_span t a e) = if mL cps[k].1 (lx_span t a e) = true then cps[k].2 + (if 77 ∈ lx_span t a e then 64 else 0) else cmL (cps.drop (k + 1)) (lx_span t a e) := rfl
    rw [q_11_20_1, if_pos (show (k : Int) < ((18 : Nat) : Int) by omega), p_idx (by omega) (by omega), Int.toNat_natCast, cps_at k (by omega)]
    show cond (Nat.blt (7 + k) am_ns) _ _ = _
    rw [hbl, cond_true, p_w (x := (e : Int) - (a : Int)) (by omega) (by omega), hd, eL, hsl]
    by_cases c : (e : Int) - (a : Int) = (cps[k].1.length : Nat)
    · rw [if_pos c]
      have r := sc_pat (d := d) (L := L) H he ha (show 7 + k < 168 by omega) c1 (by omega) c2 (by omega) hb ⟨c3, c4⟩ N (e - a) 0 0 u8 u9 (by omega) (Or.inl rfl)
      refine r.trans ?_
      rw [Nat.add_zero, List.drop_zero]
      by_cases z : mL cps[k].1 (lx_span t a e) = true
      · rw [if_pos z, if_pos z]
        by_cases y : 77 ∈ lx_span t a e
        · rw [if_pos (Or.inr y), if_pos y, if_neg (by omega)]
          congr 1; omega
        · rw [if_neg (by simp [y]), if_neg y, if_neg (by omega)]
          congr 1; omega
      · rw [if_neg z, if_neg z]
    · rw [if_neg c, if_neg (show ¬ mL cps[k].1 (lx_span t a e) = true from fun z => c (by have := mL_len _ _ z; rw [lx_span_len] at this; omega)), q_11_20_4]
      have E13 : ∀ {u4 u7}, am_E (am_D (d + 1)) m_11_20 (.inl 13) [some (am_r (am_a 23)), some (am_i (a : Int)), some (am_i (e : Int)), some (am_i (k : Int)), u4, some (am_i 0), some (am_i 0), u7, u8, u9] [] (zS L, h) = pI L (if cmL (cps.drop (k + 1)) (lx_span t a e) = -1 then -1 else 64 * cmL (cps.drop (k + 1)) (lx_span t a e)) h := fun {u4 u7} => by
        rw [q_11_20_13, if_pos rfl, p_w (x := (k : Int) + 1) (by omega) (by omega)]
        exact N _ _ _ _ _ _
      by_cases z : (a : Int) < (e : Int)
      · rw [if_pos z, if_pos rfl, E13]
      · rw [if_neg z, E13]
theorem sc_comp (H : sg_T t n h) (G : SGC h) {a e : Nat} (he : e ≤ n) (ha : a ≤ e) : am_D (d + 2) 11 20 [am_r (am_a 23), am_i (a : Int), am_i (e : Int)] (zS L, h) = pI L (if cmB (lx_span t a e) = -1 then -1 else 64 * cmB (lx_span t a e)) h := by
  rw [D_11_20, ← cmL_B]
  exact sc_compl H G he ha 18 0 rfl _ _ _ _ _ _
end
