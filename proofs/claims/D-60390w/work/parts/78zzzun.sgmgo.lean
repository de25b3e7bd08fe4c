/-! SIGNS, 14: the model goes over all instructions -/
section
variable {d L : Nat} {t : Nat → Int} {n : Nat} {h : am_H} {s : sgS}
theorem sd_line (H : lm_T t n h) {u1 u4 u5 u6 : Option am_V} {x2 : Int} : ∀ (m k : Nat), k ≤ n → n ≤ k + m → am_E (am_D d) m_17_140 (.inl 9) [some (am_r (am_a 254)), u1, some (am_i x2), some (am_i (k : Int)), u4, u5, u6] [] (zS L, h) = am_E (am_D d) m_17_140 (.inl 2) [some (am_r (am_a 254)), u1, some (am_i x2), some (am_i (lx_line t n m k : Int)), u4, u5, u6] [] (zS L, h)
  | 0, k, hk, hm => by rw [q_17_140_9, H.1, if_neg (by omega)]; rfl
  | m + 1, k, hk, hm => by
    have hn := H.2.1
    rw [q_17_140_9, H.1]
    unfold lx_line
    by_cases c : k < n
    · rw [if_pos (by omega), p_idx (by omega) (by omega), Int.toNat_natCast, (H.2.2 k c).1]
      by_cases c2 : t k = 10
      · rw [if_pos c2, if_neg (fun z => z.2 c2)]
      · rw [if_neg c2, if_pos ⟨c, c2⟩, p_w (x := (k : Int) + 1) (by omega) (by omega)]
        exact sd_line H m (k + 1) (by omega) (by omega)
    · rw [if_neg (by omega), if_neg (fun z => c z.1)]
theorem sd_end (H : lm_T t n h) {u1 u4 u6 : Option am_V} {x2 x3 : Int} : ∀ (m k : Nat), k ≤ n → n ≤ k + m → am_E (am_D (d + 1)) m_17_140 (.inl 6) [some (am_r (am_a 254)), u1, some (am_i x2), some (am_i x3), u4, some (am_i (k : Int)), u6] [] (zS L, h) = am_E (am_D (d + 1)) m_17_140 (.inl 8) [some (am_r (am_a 254)), u1, some (am_i x2), some (am_i x3), u4, some (am_i (sgE t n m k : Int)), u6] [] (zS L, h)
  | 0, k, hk, hm => by rw [q_17_140_6, H.1, if_neg (by omega)]; rfl
  | m + 1, k, hk, hm => by
    have hn := H.2.1
    rw [q_17_140_6, H.1]
    unfold sgE
    by_cases c : k < n
    · have e1 := (H.2.2 k c).1
      rw [if_pos (by omega), p_idx (by omega) (by omega), Int.toNat_natCast, e1]
      by_cases c2 : t k = 10
      · rw [if_pos c2, if_neg (fun z => z.2.1 c2)]
      · rw [if_neg c2, p_idx (by omega) (by omega), Int.toNat_natCast, e1, sd_blank, p_xI]
        by_cases c3 : sbl (t k)
        · rw [pB_t c3, if_neg (show ¬ (1 : Int) = 0 by decide), if_neg (fun z => z.2.2.1 c3)]
        · rw [pB_f c3, if_pos rfl, p_idx (by omega) (by omega), Int.toNat_natCast, e1]
          have r := lm_at d L H (k + 1)
          rw [show ((k + 1 : Nat) : Int) = (k : Int) + 1 by omega] at r
          by_cases c4 : t k = 47
          · rw [if_pos c4, p_w (x := (k : Int) + 1) (by omega) (by omega), r, p_xI]
            by_cases c5 : lx_at t n (k + 1) = 47
            · rw [if_pos c5, if_neg (fun z => z.2.2.2 ⟨c4, c5⟩)]
            · rw [if_neg c5, if_pos ⟨c, c2, c3, fun z => c5 z.2⟩]
              exact sd_end H m (k + 1) (by omega) (by omega)
          · rw [if_neg c4, if_pos ⟨c, c2, c3, fun z => c4 z.1⟩, p_w (x := (k : Int) + 1) (by omega) (by omega)]
            exact sd_end H m (k + 1) (by omega) (by omega)
    · rw [if_neg (by omega), if_neg (fun z => c z.1)]
theorem sd_go {u1 : Option am_V} : ∀ (m k : Nat) (th : Bool) (s : sgS) (u4 u5 u6 : Option am_V) {h : am_H}, n < k + m → k ≤ n → lm_T t n h → mP t s h → ∃ h', p_fr miC ((254, 4) :: siF) h h' ∧ match sgo t n m k th s with
      | .inl q => am_E (am_D (d + 6)) m_17_140 (.inl 2) [some (am_r (am_a 254)), u1, some (am_i (pB (th = true))), some (am_i (k : Int)), u4, u5, u6] [] (zS L, h) = pI L q.1 h' ∧ 0 < q.1 ∧ h' 254 4 = (q.2 : Int) ∧ h' 254 110 = 0 ∧ h' 254 112 = 0
      | .inr s' => (∃ x2 x3 y6, am_E (am_D (d + 6)) m_17_140 (.inl 2) [some (am_r (am_a 254)), u1, some (am_i (pB (th = true))), some (am_i (k : Int)), u4, u5, u6] [] (zS L, h) = am_E (am_D (d + 6)) m_17_140 (.inl 13) [some (am_r (am_a 254)), u1, x2, x3, some (am_i 16), some (am_i 0), y6] [] (zS L, h')) ∧ mP t s' h' ∧ h' 254 4 = h 254 4
  | 0, k, th, s, u4, u5, u6, h, hm, hk, H, P => by omega
  | m + 1, k, th, s, u4, u5, u6, h, hm, hk, H, P => by
    have hn := H.2.1
    rw [q_17_140_2, H.1]
    unfold sgo
    by_cases c0 : n ≤ k
    · rw [if_neg (show ¬ (k : Int) < (n : Int) by omega), if_pos c0]
      exact ⟨h, p_fr.refl h, ⟨_, _, _, rfl⟩, P, rfl⟩
    have ck : k < n := by omega
    have ek := (H.2.2 k ck).1
    rw [if_pos (show (k : Int) < (n : Int) by omega), if_neg c0, p_idx (by omega) (by omega), Int.toNat_natCast, ek]
    by_cases c1 : t k = 10
    · rw [if_pos c1, if_pos c1, q_17_140_3, if_pos c1, p_w (x := (k : Int) + 1) (by omega) (by omega)]
      exact sd_go m (k + 1) false s _ _ _ (by omega) (by omega) H P
    rw [if_neg c1, if_neg c1, q_17_140_3, if_neg c1, sd_blank, p_xI]
    by_cases c2 : sbl (t k)
    · rw [pB_t c2, if_neg (show ¬ (1 : Int) = 0 by decide), if_pos c2, p_w (x := (k : Int) + 1) (by omega) (by omega)]
      exact sd_go m (k + 1) th s _ _ _ (by omega) (by omega) H P
    rw [pB_f c2, if_pos rfl, if_neg c2, sd_end H n k hk (by omega), q_17_140_8]
    by_cases c3 : scm t n k
    · have l1 := lx_line_rg t n n k (by omega)
      have l2 : k < lx_line t n n k := by
        obtain ⟨n', hn'⟩ : ∃ n', n = n' + 1 := ⟨n - 1, by omega⟩
        have : lx_line t n n k = lx_line t n (n' + 1) k := by rw [← hn']
        rw [this]
        unfold lx_line
        rw [if_pos ⟨ck, c1⟩]
        have := (lx_line_rg t n n' (k + 1) (by omega)).1
        omega
      have e0 : sgE t n n k = k := by
        obtain ⟨n', hn'⟩ : ∃ n', n = n' + 1 := ⟨n - 1, by omega⟩
        have : sgE t n n k = sgE t n (n' + 1) k := by rw [← hn']
        rw [this]
        unfold sgE
        rw [if_neg (fun z => z.2.2.2 c3)]
      rw [if_pos c3, e0, if_pos rfl, sd_line H n k hk (by omega)]
      exact sd_go m _ th s _ _ _ (by omega) (l1.2.1 hk) H P
    rw [if_neg c3]
    obtain ⟨e, ee⟩ : ∃ e, e = sgE t n n k := ⟨_, rfl⟩
    have r1 := sgE_rg t n n k
    have e1 : k < e := by
      obtain ⟨n', hn'⟩ : ∃ n', n = n' + 1 := ⟨n - 1, by omega⟩
      have : sgE t n n k = sgE t n (n' + 1) k := by rw [← hn']
      rw [ee, this]
      unfold sgE
      rw [if_pos ⟨ck, c1, c2, c3⟩]
      have := (sgE_rg t n n' (k + 1)).1
      omega
    have e2 : e ≤ n := by rw [ee]; exact r1.2.1 hk
    have e3 : ∀ j, k ≤ j → j < e → t j ≠ 32 := fun j j1 j2 z => r1.2.2 j j1 (by rw [← ee]; exact j2) (Or.inl z)
    rw [← ee, if_neg (show ¬ (e : Int) = (k : Int) by omega), p_w (x := (e : Int) - (k : Int)) (by omega) (by omega)]
    cases th
    · have z0 : pB (false = true) = 0 := rfl
      rw [if_neg (show ¬ false = true by decide), z0]
      obtain ⟨r, h3, r3, f3, r4⟩ := sd_instr (d := d) (L := L) H P e2 e1 e3
      rw [r3, p_xI]
      cases hc : sgC t k e s with
      | inl f =>
        rw [hc] at r4
        dsimp only at r4 ⊢
        obtain ⟨rfl, r5⟩ := r4
        rw [if_pos r5]
        refine ⟨_, (((f3.mono rfl rfl).upf _ _ _ rfl).upf _ _ _ rfl).upf _ _ _ rfl, rfl, r5, ?_, ?_, p_up_s _ _ _ _⟩
        · rw [p_up_n _ _ _ _ _ _ (Or.inr (by decide)), p_up_n _ _ _ _ _ _ (Or.inr (by decide)), p_up_s]
        · rw [p_up_n _ _ _ _ _ _ (Or.inr (by decide)), p_up_s]
      | inr s' =>
        rw [hc] at r4
        dsimp only at r4 ⊢
        obtain ⟨rfl, r5⟩ := r4
        rw [if_neg (by decide)]
        obtain ⟨h4, f4, r7⟩ := sd_go m e true s' (some (am_i (t k))) (some (am_i (e : Int))) (some (am_i 0)) (h := h3) (by omega) e2 (H.next (f3.cell 256 rfl rfl) (f3 254 3 rfl rfl)) r5
        refine ⟨h4, (f3.mono rfl rfl).trans f4, ?_⟩
        have e4 : h3 254 4 = h 254 4 := f3 254 4 rfl rfl
        rw [← e4]
        exact r7
    · have z0 : pB (true = true) = 1 := rfl
      rw [if_pos rfl, z0, D_17_138, if_neg (show ¬ (1 : Int) = 0 by decide)]
      show ∃ h', _ ∧ am_xI (zS L) (pI L 1 h) _ _ = _ ∧ _
      rw [p_xI, if_pos (by decide)]
      refine ⟨_, (((p_fr.refl h).upf _ _ _ rfl).upf _ _ _ rfl).upf _ _ _ rfl, rfl, show (0 : Int) < 1 by decide, ?_, ?_, p_up_s _ _ _ _⟩
      · rw [p_up_n _ _ _ _ _ _ (Or.inr (by decide)), p_up_n _ _ _ _ _ _ (Or.inr (by decide)), p_up_s]
      · rw [p_up_n _ _ _ _ _ _ (Or.inr (by decide)), p_up_s]
theorem mS.set325 {U R : List (List Int × Int)} {q : List Int × Int} {v : Int} {h : am_H} (S : mS t (U ++ q :: R) h) : mS t ((U ++ [(q.1, v)]) ++ R) (am_up h 325 U.length v) := by
  obtain ⟨s1, s2, s3⟩ := S
  refine ⟨?_, ?_, fun i x hx => ?_⟩
  · rw [p_up_c _ _ _ _ _ (by decide), s1]; simp
  · simp only [List.length_append, List.length_cons, List.length_nil] at s2 ⊢; omega
  · rw [p_up_c _ _ _ _ 324 (by decide), p_up_c _ _ _ _ 323 (by decide), p_up_c _ _ _ _ 256 (by decide)]
    rw [List.append_assoc, List.singleton_append] at hx
    by_cases z : i < U.length
    · rw [List.getElem?_append_left z] at hx
      rw [p_up_n _ _ _ _ _ _ (Or.inr (by omega))]
      exact s3 i x (by rw [List.getElem?_append_left z]; exact hx)
    · rw [List.getElem?_append_right (by omega)] at hx
      by_cases y : i = U.length
      · subst y
        rw [Nat.sub_self] at hx
        cases hx
        obtain ⟨v1, v2, v3, v4⟩ := s3 U.length q (by rw [List.getElem?_append_right (Nat.le_refl _), Nat.sub_self]; rfl)
        exact ⟨v1, v2, by rw [p_up_s], v4⟩
      · rw [p_up_n _ _ _ _ _ _ (Or.inr y)]
        refine s3 i x ?_
        rw [List.getElem?_append_right (by omega)]
        obtain ⟨j, hj⟩ : ∃ j, i - U.length = j + 1 := ⟨i - U.length - 1, by omega⟩
        rw [hj] at hx ⊢
        exact hx
theorem sd_fill {u1 u2 u3 u6 : Option am_V} : ∀ (R U : List (List Int × Int)) (v : Int) {h : am_H}, mS t (U ++ R) h → 0 ≤ v → v ≤ 100 + U.length → ∃ v' h', am_E (am_D d) m_17_140 (.inl 13) [some (am_r (am_a 254)), u1, u2, u3, some (am_i v), some (am_i (U.length : Int)), u6] [] (zS L, h) = am_E (am_D d) m_17_140 (.inl 17) [some (am_r (am_a 254)), u1, u2, u3, some (am_i v'), some (am_i 0), u6] [] (zS L, h') ∧ mS t (U ++ sfill v R) h' ∧ p_fr [325] [] h h'
  | [], U, v, h, S, v0, v1 => by
    refine ⟨v, h, ?_, S, p_fr.refl h⟩
    have e := S.1
    rw [List.append_nil] at e
    rw [q_17_140_13, e, if_neg (Int.lt_irrefl _)]
  | q :: R, U, v, h, S, v0, v1 => by
    have hl := S.2.1
    simp only [List.length_append, List.length_cons] at hl
    have hi : (U ++ q :: R)[U.length]? = some q := by rw [List.getElem?_append_right (Nat.le_refl _), Nat.sub_self]; rfl
    obtain ⟨y1, y2, y3, y4⟩ := S.2.2 U.length q hi
    have e13 := S.1
    simp only [List.length_append, List.length_cons] at e13
    unfold sfill
    by_cases c : q.2 = -1
    · rw [if_pos c]
      have S' : mS t ((U ++ [(q.1, v)]) ++ R) (am_up h 325 U.length v) := S.set325
      obtain ⟨v', h', r1, r2, r3⟩ := sd_fill (u1 := u1) (u2 := u2) (u3 := u3) (u6 := u6) R (U ++ [(q.1, v)]) (v + 1) S' (by omega) (by rw [List.length_append, List.length_singleton]; omega)
      refine ⟨v', h', ?_, by rw [List.append_assoc] at r2; exact r2, ((p_fr.refl h).upc _ _ _ rfl).trans r3⟩
      rw [q_17_140_13, e13, if_pos (by omega), p_idx (by omega) (by omega), Int.toNat_natCast, y3, if_pos c, p_idx (by omega) (by omega), Int.toNat_natCast, p_w (x := v + 1) (by omega) (by omega), p_w (x := (U.length : Int) + 1) (by omega) (by omega)]
      rw [List.length_append, List.length_singleton] at r1
      exact r1
    · rw [if_neg c]
      have S' : mS t ((U ++ [q]) ++ R) h := by rw [List.append_assoc]; exact S
      obtain ⟨v', h', r1, r2, r3⟩ := sd_fill (u1 := u1) (u2 := u2) (u3 := u3) (u6 := u6) R (U ++ [q]) v S' v0 (by rw [List.length_append, List.length_singleton]; omega)
      refine ⟨v', h', ?_, by rw [List.append_assoc] at r2; exact r2, r3⟩
      rw [q_17_140_13, e13, if_pos (by omega), p_idx (by omega) (by omega), Int.toNat_natCast, y3, if_neg c, p_w (x := (U.length : Int) + 1) (by omega) (by omega)]
      rw [List.length_append, List.length_singleton] at r1
      exact r1
/-- words' symbols are there -/
def wOK (s : sgS) : Prop := ∀ w ∈ s.1, w.2 = -1 ∨ 0 ≤ w.2 ∧ w.2 < (s.2.length : Int)
theorem sPre.len {T F : List (List Int × Int)} (P : sPre T F) : T.length ≤ F.length := by
  obtain ⟨l, h⟩ := P
  have := congrArg List.length h
  rw [List.length_append, List.length_map, List.length_map] at this
  omega
theorem sgC_ok {a e : Nat} {s s' : sgS} (C : sgC t a e s = .inr s') (hl : s.1.length ≤ 1500) (W : wOK s) : wOK s' := by
  obtain ⟨p1, -⟩ := sgC_pre C
  have pl := p1.len
  obtain ⟨l1, l2, l3⟩ := sgC_len C hl
  intro w hw
  by_cases c : t a = 40
  · rw [l2 c] at hw
    have := W w hw
    omega
  · obtain ⟨l4, w', l5, l6, l7, l8, l9⟩ := l3 c
    rw [l5] at hw
    rcases List.mem_append.1 hw with z | z
    · have := W w z; omega
    · rw [List.mem_singleton] at z
      subst z
      by_cases c2 : t a = 64
      · by_cases c3 : sNum t (a + 1) e
        · rw [l8 c2 c3]; exact Or.inl rfl
        · rcases (l9 c2 c3).2 with ⟨-, z⟩ | ⟨-, i, T, z1, z2, z3⟩
          · rw [z]; exact Or.inl rfl
          · have := (ssym_fnd z1).2.2
            rw [z3, z2]
            right
            show 0 ≤ (i : Int) ∧ (i : Int) < _
            omega
      · rw [l7 c2]; exact Or.inl rfl
theorem sgo_ok : ∀ (m k : Nat) (th : Bool) {s s' : sgS}, sgo t n m k th s = .inr s' → s.1.length ≤ 1500 → wOK s → wOK s'
  | 0, k, th, s, s', h, hl, W => by cases h; exact W
  | m + 1, k, th, s, s', h, hl, W => by
    unfold sgo at h
    split at h
    · cases h; exact W
    · split at h
      · exact sgo_ok m _ _ h hl W
      · split at h
        · exact sgo_ok m _ _ h hl W
        · split at h
          · exact sgo_ok m _ _ h hl W
          · split at h
            · cases h
            · split at h
              · cases h
              · rename_i s'' hc
                exact sgo_ok m _ _ h (sgC_len hc hl).1 (sgC_ok hc hl W)
/-- codes at last -/
theorem sd_codes {u1 u2 u3 u4 u6 : Option am_V} {F : List (List Int × Int)} {ws : List (Int × Int)} (hl : ws.length ≤ 1500) (W : ∀ w ∈ ws, w.2 = -1 ∨ 0 ≤ w.2 ∧ w.2 < (F.length : Int)) : ∀ (r k : Nat) {h : am_H}, k + r = ws.length → h 254 110 = (ws.length : Int) → mS t F h → (∀ i w, ws[i]? = some w → h 326 i = w.2 ∧ h 322 i = if i < k then fin F w else w.1) → ∃ h', am_E (am_D d) m_17_140 (.inl 17) [some (am_r (am_a 254)), u1, u2, u3, u4, some (am_i (k : Int)), u6] [] (zS L, h) = pI L 0 h' ∧ p_fr [322] [] h h' ∧ ∀ i w, ws[i]? = some w → h' 322 i = fin F w
  | 0, k, h, hk, h110, S, C => by
    refine ⟨h, by rw [q_17_140_17, h110, if_neg (by omega)], p_fr.refl h, fun i w hw => ?_⟩
    have := (List.getElem?_eq_some_iff.1 hw).1
    rw [(C i w hw).2, if_pos (by omega)]
  | r + 1, k, h, hk, h110, S, C => by
    have hkl : k < ws.length := by omega
    have hw := List.getElem?_eq_getElem hkl
    obtain ⟨c1, c2⟩ := C k _ hw
    rw [if_neg (Nat.lt_irrefl k)] at c2
    -- one code
    have key : ∃ h1, am_E (am_D d) m_17_140 (.inl 17) [some (am_r (am_a 254)), u1, u2, u3, u4, some (am_i (k : Int)), u6] [] (zS L, h) = am_E (am_D d) m_17_140 (.inl 17) [some (am_r (am_a 254)), u1, u2, u3, u4, some (am_i ((k + 1 : Nat) : Int)), u6] [] (zS L, h1) ∧ h1 = am_up h 322 k (fin F ws[k]) := by
      refine ⟨_, ?_, rfl⟩
      rw [q_17_140_17, h110, if_pos (by omega), p_idx (by omega) (by omega), Int.toNat_natCast, c1]
      unfold fin
      by_cases z : ws[k].2 = -1
      · rw [if_pos z, if_pos z, p_idx (by omega) (by omega), p_idx (by omega) (by omega), Int.toNat_natCast, c2, p_w (x := (k : Int) + 1) (by omega) (by omega)]
        rfl
      · have := W ws[k] (List.getElem_mem hkl)
        have sl := S.2.1
        have hF : ws[k].2.toNat < F.length := by omega
        obtain ⟨v1, v2, v3, v4⟩ := S.2.2 _ _ (List.getElem?_eq_getElem hF)
        rw [if_neg z, if_neg z, p_idx (by omega) (by omega), Int.toNat_natCast, c1, p_idx (by omega) (by omega), p_idx (by omega) (by omega), Int.toNat_natCast, v3, List.getD_eq_getElem?_getD, List.getElem?_eq_getElem hF, p_w (x := (k : Int) + 1) (by omega) (by omega)]
        rfl
    obtain ⟨h1, r1, hh1⟩ := key
    have f1 : p_fr [322] [] h h1 := by rw [hh1]; exact (p_fr.refl h).upc _ _ _ rfl
    obtain ⟨h', r2, f2, r3⟩ := sd_codes hl W r (k + 1) (h := h1) (by omega) (by rw [f1 254 110 rfl rfl]; exact h110) (S.fr (f1.mono rfl rfl)) (fun i w hi => by
      obtain ⟨d1, d2⟩ := C i w hi
      rw [f1.cell 326 rfl rfl, hh1]
      refine ⟨d1, ?_⟩
      by_cases z : i = k
      · subst z
        rw [hw] at hi
        cases hi
        rw [p_up_s, if_pos (by omega)]
      · rw [p_up_n _ _ _ _ _ _ (Or.inr z), d2]
        by_cases y : i < k
        · rw [if_pos y, if_pos (by omega)]
        · rw [if_neg y, if_neg (by omega)])
    exact ⟨h', r1.trans r2, f1.trans f2, r3⟩
end
