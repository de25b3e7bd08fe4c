/-! SIGNS, 13: the model's labels, addresses, instructions -/
section
variable {d L : Nat} {t : Nat → Int} {n : Nat} {h : am_H} {s : sgS}
def miC : List Nat := [322, 323, 324, 325, 326]
theorem sd_label (H : lm_T t n h) (P : mP t s h) {a e : Nat} (he : e ≤ n) (ha : a < e) (h32 : ∀ k, a ≤ k → k < e → t k ≠ 32) (h40 : t a = 40) : ∃ r h', am_D (d + 5) 17 133 [am_r (am_a 254), am_i (a : Int), am_i ((e : Int) - (a : Int))] (zS L, h) = pI L r h' ∧ p_fr miC siF h h' ∧ match sgC t a e s with
      | .inl f => r = f ∧ 0 < f
      | .inr s' => r = 0 ∧ mP t s' h' := by
  have hn := H.2.1
  unfold sgC
  rw [if_pos h40, D_17_133]
  by_cases c0 : (e : Int) - (a : Int) < 3
  · rw [if_pos c0, if_neg]
    · exact ⟨1, h, rfl, p_fr.refl h, rfl, by decide⟩
    · rintro ⟨z1, z2⟩
      have := z2.1.1.1
      omega
  rw [if_neg c0, p_w (x := (a : Int) + ((e : Int) - (a : Int))) (by omega) (by omega), p_w (x := (a : Int) + ((e : Int) - (a : Int)) - 1) (by omega) (by omega), p_idx (by omega) (by omega), show ((a : Int) + ((e : Int) - (a : Int)) - 1).toNat = e - 1 by omega, (H.2.2 (e - 1) (by omega)).1]
  by_cases c1 : t (e - 1) = 41
  · have q1 := sd_issym (d := d) (L := L) H (a := a + 1) (m := e - a - 2) (by omega)
    have q2 := sd_known (d := d + 2) (L := L) H (a := a + 1) (m := e - a - 2) (by omega) (by omega) (fun k k1 k2 => h32 k (by omega) (by omega))
    have q3 := sd_symbol (d := d + 3) (L := L) H P.2.2.2 (a := a + 1) (m := e - a - 2) (by omega) (by omega)
    rw [show a + 1 + (e - a - 2) = e - 1 by omega, show ((e - a - 2 : Nat) : Int) = (e : Int) - (a : Int) - 2 by omega, show ((a + 1 : Nat) : Int) = (a : Int) + 1 by omega] at q1 q2 q3
    rw [if_pos c1, p_w (x := (a : Int) + 1) (by omega) (by omega), p_w (x := (e : Int) - (a : Int) - 2) (by omega) (by omega), q1, p_xI]
    by_cases c2 : sSym t (a + 1) (e - 1)
    · rw [pB_t c2, if_neg (show ¬ (1 : Int) = 0 by decide), if_pos (show t (e - 1) = 41 ∧ sSym t (a + 1) (e - 1) from ⟨c1, c2⟩), q2, p_xI]
      by_cases c3 : knS t (a + 1) (e - 1) = -1
      · rw [if_pos c3, if_pos c3]
        rcases q3 (by have := c2.1.1.2; omega) with ⟨w1, w2⟩ | ⟨i, T', h', w1, w2, w3, w4, w5⟩
        · rw [w1, w2, p_xI, if_pos rfl]
          exact ⟨2, h, rfl, p_fr.refl h, rfl, by decide⟩
        · rw [w1, w2, p_xI, if_neg (by omega)]
          have hi : i < 100 := by have := w4.2.1; omega
          have hq := List.getElem?_eq_getElem w3
          obtain ⟨v1, v2, v3, v4, v5⟩ := w4.2.2 i _ hq
          have hg : T'.getD i ([], 0) = T'[i] := by rw [List.getD_eq_getElem?_getD, hq]; rfl
          rw [p_idx (by omega) (by omega), Int.toNat_natCast, v3]
          dsimp only
          rw [hg]
          have h12 : h' 254 110 = (s.1.length : Int) := by rw [w5 254 110 rfl rfl]; exact P.1
          by_cases c4 : T'[i].2 = -1
          · rw [if_pos c4, if_pos c4, p_idx (by omega) (by omega), Int.toNat_natCast, h12]
            refine ⟨0, _, rfl, (w5.mono rfl rfl).upc _ _ _ rfl, rfl, ?_, P.2.1, fun k w hw => ?_, ?_, ?_, fun k q hk => ?_⟩
            · rw [p_up_c _ _ _ _ _ (by decide)]; exact h12
            · rw [p_up_c _ _ _ _ 322 (by decide), p_up_c _ _ _ _ 326 (by decide), w5.cell 322 rfl rfl, w5.cell 326 rfl rfl]
              exact P.2.2.1 k w hw
            · rw [p_up_c _ _ _ _ _ (by decide), List.length_set]; exact w4.1
            · rw [List.length_set]; exact w4.2.1
            · dsimp only at hk
              rw [p_up_c _ _ _ _ 324 (by decide), p_up_c _ _ _ _ 323 (by decide), p_up_c _ _ _ _ 256 (by decide)]
              by_cases z : i = k
              · subst z
                rw [List.getElem?_set_self w3] at hk
                cases hk
                rw [p_up_s]
                exact ⟨v1, v2, rfl, v4, v5⟩
              · rw [List.getElem?_set_ne z] at hk
                rw [p_up_n _ _ _ _ _ _ (Or.inr (fun y => z y.symm))]
                exact w4.2.2 k q hk
          · rw [if_neg c4, if_neg c4]
            exact ⟨3, h', rfl, w5.mono rfl rfl, rfl, by decide⟩
      · rw [if_neg c3, if_neg c3]
        exact ⟨3, h, rfl, p_fr.refl h, rfl, by decide⟩
    · rw [pB_f c2, if_pos rfl, if_neg (fun z => c2 z.2)]
      exact ⟨1, h, rfl, p_fr.refl h, rfl, by decide⟩
  · rw [if_neg c1, if_neg (fun z => c1 z.1)]
    exact ⟨1, h, rfl, p_fr.refl h, rfl, by decide⟩
theorem sd_digs (H : lm_T t n h) {a m : Nat} (he : a + m ≤ n) (h5 : m ≤ 5) : ∀ (r k : Nat) (v : Int), k + r = m → 0 ≤ v → (v + 1) * 10 ^ r ≤ 100000 → (sDig t (a + k) r → 0 ≤ lx_num t r (a + k) v ∧ lx_num t r (a + k) v ≤ 99999 ∧ ∃ u5, am_E (am_D (d + 1)) m_17_134 (.inl 3) [some (am_r (am_a 254)), some (am_i (a : Int)), some (am_i (m : Int)), some (am_i 1), some (am_i v), some (am_i (k : Int))] [] (zS L, h) = am_E (am_D (d + 1)) m_17_134 (.inl 4) [some (am_r (am_a 254)), some (am_i (a : Int)), some (am_i (m : Int)), some (am_i 1), some (am_i (lx_num t r (a + k) v)), u5] [] (zS L, h)) ∧ (¬ sDig t (a + k) r → ∃ v' u5, am_E (am_D (d + 1)) m_17_134 (.inl 3) [some (am_r (am_a 254)), some (am_i (a : Int)), some (am_i (m : Int)), some (am_i 1), some (am_i v), some (am_i (k : Int))] [] (zS L, h) = am_E (am_D (d + 1)) m_17_134 (.inl 4) [some (am_r (am_a 254)), some (am_i (a : Int)), some (am_i (m : Int)), some (am_i 0), some (am_i v'), u5] [] (zS L, h))
  | 0, k, v, hk, v0, vb => by
    refine ⟨fun _ => ⟨v0, ?_, some (am_i (k : Int)), ?_⟩, fun z => absurd (fun j hj => by omega) z⟩
    · show v ≤ _; rw [Int.pow_zero] at vb; omega
    · rw [q_17_134_3, if_neg (by omega)]; rfl
  | r + 1, k, v, hk, v0, vb => by
    have hn := H.2.1
    have p1 : (1 : Int) ≤ 10 ^ r := Int.pow_pos (by decide)
    have hb2 : (v + 1) * 10 * 10 ^ r ≤ 100000 := by
      rw [Int.pow_succ, Int.mul_comm (10 ^ r) 10, ← Int.mul_assoc] at vb; exact vb
    have b1 : (v + 1) * 10 ≤ 100000 := by
      have := Int.mul_le_mul_of_nonneg_left p1 (show 0 ≤ (v + 1) * 10 by omega)
      omega
    have e1 := H.2.2 (a + k) (by omega)
    have st : am_E (am_D (d + 1)) m_17_134 (.inl 3) [some (am_r (am_a 254)), some (am_i (a : Int)), some (am_i (m : Int)), some (am_i 1), some (am_i v), some (am_i (k : Int))] [] (zS L, h) = am_E (am_D (d + 1)) m_17_134 (.inl 3) [some (am_r (am_a 254)), some (am_i (a : Int)), some (am_i (m : Int)), some (am_i (pB (lx_digit (t (a + k))))), some (am_i (10 * v + t (a + k) - 48)), some (am_i ((k + 1 : Nat) : Int))] [] (zS L, h) := by
      rw [q_17_134_3, if_pos (by omega), if_neg (by decide), p_w (x := (a : Int) + (k : Int)) (by omega) (by omega), p_idx (by omega) (by omega), show ((a : Int) + (k : Int)).toNat = a + k by omega, e1.1, lm_digit, p_xI, p_idx (by omega) (by omega), show ((a : Int) + (k : Int)).toNat = a + k by omega, e1.1, p_w (x := 10 * v) (by omega) (by omega), p_w (x := 10 * v + t (a + k)) (by omega) (by omega), p_w (x := 10 * v + t (a + k) - 48) (by omega) (by omega), p_w (x := (k : Int) + 1) (by omega) (by omega)]
      rfl
    by_cases c : lx_digit (t (a + k))
    · have c' := c
      unfold lx_digit at c'
      obtain ⟨i1, i2⟩ := sd_digs H he h5 r (k + 1) (10 * v + t (a + k) - 48) (by omega) (by omega) (by
        refine Int.le_trans (Int.mul_le_mul_of_nonneg_right (show 10 * v + t (a + k) - 48 + 1 ≤ (v + 1) * 10 by omega) (by omega)) hb2)
      rw [st, pB_t c]
      rw [show a + (k + 1) = a + k + 1 by omega] at i1 i2
      exact ⟨fun z => i1 (sDig_s.1 z).2, fun z => i2 (fun y => z (sDig_s.2 ⟨c, y⟩))⟩
    · refine ⟨fun z => absurd (sDig_s.1 z).1 c, fun _ => ⟨10 * v + t (a + k) - 48, some (am_i ((k + 1 : Nat) : Int)), ?_⟩⟩
      rw [st, pB_f c, q_17_134_3]
      by_cases z : ((k + 1 : Nat) : Int) < (m : Int)
      · rw [if_pos z, if_pos rfl]
      · rw [if_neg z]
theorem sd_addr (H : lm_T t n h) (P : mP t s h) {a e : Nat} (he : e ≤ n) (ha : a < e) (h32 : ∀ k, a ≤ k → k < e → t k ≠ 32) (h40 : t a ≠ 40) (h64 : t a = 64) : ∃ r h', am_D (d + 5) 17 134 [am_r (am_a 254), am_i ((a + 1 : Nat) : Int), am_i ((e - (a + 1) : Nat) : Int)] (zS L, h) = pI L r h' ∧ p_fr miC siF h h' ∧ match sgC t a e s with
      | .inl f => r = f ∧ 0 < f
      | .inr s' => r = 0 ∧ mP t s' h' := by
  have hn := H.2.1
  unfold sgC
  rw [if_neg h40, if_pos h64]
  obtain ⟨b, hb⟩ : ∃ b, b = a + 1 := ⟨_, rfl⟩
  rw [← hb]
  obtain ⟨m, hm⟩ : ∃ m, m = e - b := ⟨_, rfl⟩
  have be : b + m = e := by omega
  have l15 := P.2.1
  -- behind the checks
  have E7 : ∀ {u5 : Option am_V} {x3 x4 : Int}, (x3 = 0 ∨ x3 = 1 ∧ 0 ≤ x4) → (x3 = 0 → sSym t b e) → ∃ r h', am_E (am_D (d + 4)) m_17_134 (.inl 7) [some (am_r (am_a 254)), some (am_i (b : Int)), some (am_i (m : Int)), some (am_i x3), some (am_i x4), u5] [] (zS L, h) = pI L r h' ∧ p_fr miC siF h h' ∧ match (if s.1.length = 1500 then .inl 2 else if x3 = 1 then .inr (s.1 ++ [(x4, -1)], s.2) else if knS t b e = -1 then
        match ssym (lx_span t b e) s.2 with
        | none => .inl 2
        | some q => .inr (s.1 ++ [(0, (q.1 : Int))], q.2)
      else .inr (s.1 ++ [(knS t b e, -1)], s.2) : Int ⊕ sgS) with
      | .inl f => r = f ∧ 0 < f
      | .inr s' => r = 0 ∧ mP t s' h' := fun {u5 x3 x4} hx hsy => by
    rw [q_17_134_7, P.1]
    by_cases c : s.1.length = 1500
    · rw [if_pos (by omega), if_pos c]
      exact ⟨2, h, rfl, p_fr.refl h, rfl, by decide⟩
    rw [if_neg (by omega), if_neg c, p_idx (by omega) (by omega), Int.toNat_natCast]
    obtain ⟨g, hg⟩ : ∃ g, g = am_up h 326 s.1.length (-1) := ⟨_, rfl⟩
    rw [← hg]
    have fg : p_fr [322, 326] [(254, 110)] h g := by rw [hg]; exact (p_fr.refl h).upc _ _ _ rfl
    have Hg : lm_T t n g := H.next (fg.cell 256 rfl rfl) (fg 254 3 rfl rfl)
    have g110 : g 254 110 = (s.1.length : Int) := by rw [hg, p_up_c _ _ _ _ _ (by decide)]; exact P.1
    have Sg : mS t s.2 g := P.2.2.2.fr (fg.mono rfl rfl)
    have g326 : g 326 s.1.length = -1 := by rw [hg, p_up_s]
    have gold : ∀ i, i < s.1.length → g 322 i = h 322 i ∧ g 326 i = h 326 i := fun i hi => by
      rw [hg]; exact ⟨by rw [p_up_c _ _ _ _ _ (by decide)], by rw [p_up_n _ _ _ _ _ _ (Or.inr (by omega))]⟩
    -- a value that is known
    have K : ∀ {u1 u2 u3 u4 u5 : Option am_V} {v : Int}, v ≠ -1 → ∃ r h', am_E (am_D (d + 4)) m_17_134 (.inl 10) [some (am_r (am_a 254)), some (am_i (b : Int)), some (am_i (m : Int)), u3, u4, u5] [am_i v] (zS L, g) = pI L r h' ∧ p_fr miC siF h h' ∧ r = 0 ∧ mP t (s.1 ++ [(v, -1)], s.2) h' := fun {u1 u2 u3 u4 u5 v} hv => by
      rw [q_17_134_10, if_neg hv, q_17_134_11, if_neg hv, g110, p_idx (by omega) (by omega), Int.toNat_natCast, p_w (by omega) (by omega)]
      obtain ⟨G, hG⟩ : ∃ G, G = am_up (am_up g 322 s.1.length v) 254 110 ((s.1.length : Int) + 1) := ⟨_, rfl⟩
      have fG : p_fr [322, 326] [(254, 110)] g G := by rw [hG]; exact ((p_fr.refl g).upc _ _ _ rfl).upf _ _ _ rfl
      rw [← hG]
      refine ⟨0, G, rfl, (fg.trans fG).mono rfl rfl, rfl, P.put (by omega) (Sg.fr (fG.mono rfl rfl)) (by rw [hG, p_up_s]) (fun i hi => ?_) ⟨?_, ?_⟩⟩
      · rw [hG, p_up_c _ _ _ _ _ (by decide), p_up_n _ _ _ _ _ _ (Or.inr (by omega)), p_up_c _ _ _ _ _ (by decide), p_up_c _ _ _ _ _ (by decide)]
        exact gold i hi
      · rw [hG, p_up_c _ _ _ _ _ (by decide), p_up_s]
      · rw [hG, p_up_c _ _ _ _ _ (by decide), p_up_c _ _ _ _ _ (by decide)]; exact g326
    rcases hx with rfl | ⟨rfl, h4⟩
    · have sy := hsy rfl
      have q2 := sd_known (d := d + 2) (L := L) Hg (a := b) (m := m) (by omega) (by have := sy.1.1.1; omega) (fun k k1 k2 => h32 k (by omega) (by omega))
      rw [be] at q2
      rw [if_pos rfl, q2, p_xI, if_neg (show ¬ (0 : Int) = 1 by decide)]
      by_cases c3 : knS t b e = -1
      · rw [if_pos c3, c3, q_17_134_10, if_pos rfl]
        have q3 := sd_symbol (d := d + 3) (L := L) Hg Sg (a := b) (m := m) (by omega) (by have := sy.1.1.1; omega) (by have := sy.1.1.2; omega)
        rw [be] at q3
        rcases q3 with ⟨w1, w2⟩ | ⟨i, T', h', w1, w2, w3, w4, w5⟩
        · rw [w1, w2, p_xI, g110, p_idx (by omega) (by omega), Int.toNat_natCast, p_idx (by omega) (by omega), Int.toNat_natCast, p_up_s, if_pos rfl]
          exact ⟨2, _, rfl, (fg.mono rfl rfl).upc _ _ _ rfl, rfl, by decide⟩
        · have h110 : h' 254 110 = (s.1.length : Int) := by rw [w5 254 110 rfl rfl]; exact g110
          have hi : i < 100 := by have := w4.2.1; omega
          rw [w1, w2, p_xI, g110, h110, p_idx (by omega) (by omega), Int.toNat_natCast, p_idx (by omega) (by omega), Int.toNat_natCast, p_up_s, if_neg (by omega), q_17_134_11, if_pos rfl, p_up_c _ _ _ _ _ (by decide), h110, p_idx (by omega) (by omega), Int.toNat_natCast, p_w (by omega) (by omega)]
          obtain ⟨G, hG⟩ : ∃ G, G = am_up (am_up (am_up h' 326 s.1.length (i : Int)) 322 s.1.length 0) 254 110 ((s.1.length : Int) + 1) := ⟨_, rfl⟩
          have fG : p_fr [322, 326] [(254, 110)] h' G := by rw [hG]; exact (((p_fr.refl h').upc _ _ _ rfl).upc _ _ _ rfl).upf _ _ _ rfl
          rw [← hG]
          refine ⟨0, G, rfl, ((fg.mono rfl rfl).trans (w5.mono rfl rfl)).trans (fG.mono rfl rfl), rfl, P.put (by omega) (w4.fr (fG.mono rfl rfl)) (by rw [hG, p_up_s]) (fun j hj => ?_) ⟨?_, ?_⟩⟩
          · rw [hG, p_up_c _ _ _ _ _ (by decide), p_up_n _ _ _ _ _ _ (Or.inr (by omega)), p_up_c _ _ _ _ _ (by decide), p_up_c _ _ _ _ _ (by decide), p_up_c _ _ _ _ _ (by decide), p_up_n _ _ _ _ _ _ (Or.inr (by omega)), w5.cell 322 rfl rfl, w5.cell 326 rfl rfl]
            exact gold j hj
          · rw [hG, p_up_c _ _ _ _ _ (by decide), p_up_s]
          · rw [hG, p_up_c _ _ _ _ _ (by decide), p_up_c _ _ _ _ _ (by decide), p_up_s]
      · rw [if_neg c3]
        exact K (u1 := none) (u2 := none) c3
    · rw [if_neg (show ¬ (1 : Int) = 0 by decide), if_pos (show (1 : Int) = 1 from rfl)]
      exact K (u1 := none) (u2 := none) (by omega)
  -- no number
  have E40 : ∀ {u5 : Option am_V} {x4 : Int}, ¬ sNum t b e → ∃ r h', am_E (am_D (d + 4)) m_17_134 (.inl 4) [some (am_r (am_a 254)), some (am_i (b : Int)), some (am_i (m : Int)), some (am_i 0), some (am_i x4), u5] [] (zS L, h) = pI L r h' ∧ p_fr miC siF h h' ∧ match (if sNum t b e then (if s.1.length = 1500 then .inl 2 else .inr (s.1 ++ [(lx_num t (e - b) b 0, -1)], s.2)) else if sSym t b e then
      (if s.1.length = 1500 then .inl 2
      else if knS t b e = -1 then
        match ssym (lx_span t b e) s.2 with
        | none => .inl 2
        | some q => .inr (s.1 ++ [(0, (q.1 : Int))], q.2)
      else .inr (s.1 ++ [(knS t b e, -1)], s.2))
    else .inl 1 : Int ⊕ sgS) with
      | .inl f => r = f ∧ 0 < f
      | .inr s' => r = 0 ∧ mP t s' h' := fun {u5 x4} hnum => by
    have q1 := sd_issym (d := d) (L := L) H (a := b) (m := m) (by omega)
    rw [be] at q1
    rw [q_17_134_4, if_pos rfl, if_pos rfl, q1, p_xI, if_neg hnum]
    by_cases c : sSym t b e
    · rw [pB_t c, if_neg (show ¬ (1 : Int) = 0 by decide), if_pos c]
      have := E7 (u5 := u5) (x3 := 0) (x4 := x4) (Or.inl rfl) (fun _ => c)
      rw [if_neg (show ¬ (0 : Int) = 1 by decide)] at this
      exact this
    · rw [pB_f c, if_pos rfl, if_neg c]
      exact ⟨1, h, rfl, p_fr.refl h, rfl, by decide⟩
  have E30 : ¬ sNum t b e → ∃ r h', am_E (am_D (d + 4)) m_17_134 (.inl 3) [some (am_r (am_a 254)), some (am_i (b : Int)), some (am_i (m : Int)), some (am_i 0), some (am_i 0), some (am_i 0)] [] (zS L, h) = pI L r h' ∧ p_fr miC siF h h' ∧ match (if sNum t b e then (if s.1.length = 1500 then .inl 2 else .inr (s.1 ++ [(lx_num t (e - b) b 0, -1)], s.2)) else if sSym t b e then
      (if s.1.length = 1500 then .inl 2
      else if knS t b e = -1 then
        match ssym (lx_span t b e) s.2 with
        | none => .inl 2
        | some q => .inr (s.1 ++ [(0, (q.1 : Int))], q.2)
      else .inr (s.1 ++ [(knS t b e, -1)], s.2))
    else .inl 1 : Int ⊕ sgS) with
      | .inl f => r = f ∧ 0 < f
      | .inr s' => r = 0 ∧ mP t s' h' := fun hnum => by
    rw [q_17_134_3]
    by_cases z : (0 : Int) < (m : Int)
    · rw [if_pos z, if_pos rfl]; exact E40 hnum
    · rw [if_neg z]; exact E40 hnum
  have en : lx_num t (e - b) b 0 = lx_num t m b 0 := by rw [hm]
  have hmi : ((e - b : Nat) : Int) = (m : Int) := by rw [hm]
  rw [hmi, D_17_134]
  by_cases c1 : 0 < (m : Int)
  · rw [if_pos c1]
    by_cases c2 : 5 < (m : Int)
    · rw [if_pos c2]
      exact E30 (fun z => by have := z.1.1.2; omega)
    · rw [if_neg c2]
      obtain ⟨i1, i2⟩ := sd_digs (d := d + 3) (L := L) H (a := b) (m := m) (by omega) (by omega) m 0 0 (by omega) (by decide) (by
        have : ∀ m : Nat, m ≤ 5 → ((0 : Int) + 1) * (10 : Int) ^ m ≤ 100000 := by decide
        exact this m (by omega))
      rw [Nat.add_zero] at i1 i2
      by_cases c3 : sDig t b m
      · obtain ⟨n1, n2, u5, r⟩ := i1 c3
        have r : am_E (am_D (d + 4)) m_17_134 (.inl 3) [some (am_r (am_a 254)), some (am_i (b : Int)), some (am_i (m : Int)), some (am_i 1), some (am_i 0), some (am_i 0)] [] (zS L, h) = _ := r
        rw [r, q_17_134_4, if_neg (show ¬ (1 : Int) = 0 by decide)]
        by_cases c4 : 32767 < lx_num t m b 0
        · have nn : ¬ sNum t b e := fun z => by
            have := z.2
            rw [show e - b = m by omega] at this
            omega
          have ns : ¬ sSym t b e := fun z => z.1.2 (c3 0 (by omega))
          rw [if_pos c4, if_neg nn, if_neg ns]
          exact ⟨1, h, rfl, p_fr.refl h, rfl, by decide⟩
        · have nn : sNum t b e := ⟨⟨⟨by omega, by omega⟩, by rw [show e - b = m by omega]; exact c3⟩, by rw [show e - b = m by omega]; omega⟩
          rw [if_neg c4, if_neg (show ¬ (1 : Int) = 0 by decide), if_pos nn]
          have := E7 (u5 := u5) (x3 := 1) (x4 := lx_num t m b 0) (Or.inr ⟨rfl, n1⟩) (fun z => by cases z)
          rw [if_pos (show (1 : Int) = 1 from rfl), ← en] at this
          rw [← en]
          exact this
      · obtain ⟨v', u5, r⟩ := i2 c3
        have r : am_E (am_D (d + 4)) m_17_134 (.inl 3) [some (am_r (am_a 254)), some (am_i (b : Int)), some (am_i (m : Int)), some (am_i 1), some (am_i 0), some (am_i 0)] [] (zS L, h) = _ := r
        rw [r]
        exact E40 (fun z => c3 (by have := z.1.2; rw [show e - b = m by omega] at this; exact this))
  · rw [if_neg c1]
    exact E30 (fun z => by have := z.1.1.1; omega)
theorem sd_instr (H : lm_T t n h) (P : mP t s h) {a e : Nat} (he : e ≤ n) (ha : a < e) (h32 : ∀ k, a ≤ k → k < e → t k ≠ 32) : ∃ r h', am_D (d + 6) 17 138 [am_r (am_a 254), am_i (a : Int), am_i ((e : Int) - (a : Int)), am_i 0] (zS L, h) = pI L r h' ∧ p_fr miC siF h h' ∧ match sgC t a e s with
      | .inl f => r = f ∧ 0 < f
      | .inr s' => r = 0 ∧ mP t s' h' := by
  have hn := H.2.1
  rw [D_17_138, if_pos rfl, p_idx (by omega) (by omega), Int.toNat_natCast, (H.2.2 a (by omega)).1]
  by_cases c1 : t a = 40
  · obtain ⟨r, h', r1, r2, r3⟩ := sd_label (d := d) (L := L) H P he ha h32 c1
    exact ⟨r, h', by rw [if_pos c1, r1, p_xI], r2, r3⟩
  rw [if_neg c1, p_idx (by omega) (by omega), Int.toNat_natCast, (H.2.2 a (by omega)).1]
  by_cases c2 : t a = 64
  · obtain ⟨r, h', r1, r2, r3⟩ := sd_addr (d := d) (L := L) H P he ha h32 c1 c2
    rw [show ((a + 1 : Nat) : Int) = (a : Int) + 1 by omega, show ((e - (a + 1) : Nat) : Int) = (e : Int) - (a : Int) - 1 by omega] at r1
    exact ⟨r, h', by rw [if_pos c2, p_w (x := (a : Int) + 1) (by omega) (by omega), p_w (x := (e : Int) - (a : Int) - 1) (by omega) (by omega), r1, p_xI], r2, r3⟩
  · obtain ⟨r, h', r1, r2, r3⟩ := sd_computes (d := d + 2) (L := L) H P (a := a) (m := e - a) (by omega) (fun k k1 k2 => h32 k (by omega) (by omega))
    rw [show ((e - a : Nat) : Int) = (e : Int) - (a : Int) by omega] at r1
    rw [show a + (e - a) = e by omega] at r3
    refine ⟨r, h', by rw [if_neg c2, r1, p_xI], r2.mono rfl rfl, ?_⟩
    unfold sgC
    rw [if_neg c1, if_neg c2]
    rcases r3 with ⟨z1, rfl⟩ | ⟨z1, z2, rfl⟩ | ⟨z1, z2, rfl, z3⟩
    · rw [if_pos z1]; exact ⟨rfl, by decide⟩
    · rw [if_neg z1, if_pos z2]; exact ⟨rfl, by decide⟩
    · rw [if_neg z1, if_neg z2]; exact ⟨rfl, z3⟩
end
