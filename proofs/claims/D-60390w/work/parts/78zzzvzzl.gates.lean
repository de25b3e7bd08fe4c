/-! CHIPS, 64: the board: gates -/
section
variable {d e L : Nat} {c np ni P0 G Bt ib : Nat} {ws : List Int} {o ra rb oM : Nat → Nat} {sa sb lev lev' : Nat → Int} {R : Nat → Nat → Prop} {zc zm : Nat → Prop} {ord ord' : List Nat} {h h' : am_H}
theorem lsm_rg {f : Nat → Int} : ∀ (l : List Nat), (∀ i ∈ l, f i = 0 ∨ f i = 1) → 0 ≤ lsm f l ∧ lsm f l ≤ (l.length : Int)
  | [], _ => ⟨Int.le_refl _, Int.le_refl _⟩
  | i :: l, h => by
    have ih := lsm_rg l (fun a ha => h a (List.mem_cons_of_mem _ ha))
    have := h i (List.mem_cons_self ..)
    show 0 ≤ f i + lsm f l ∧ f i + lsm f l ≤ ((l.length + 1 : Nat) : Int)
    omega
theorem bo_c (B : BNx c np ni P0 G Bt ib ws o ra rb oM sa sb lev lev' R zc zm ord ord' h) (v6 : ∀ r, r < 2 + Bt → h 197 r = 0 ∨ h 197 r = 1) : ∀ (l : List Nat) (t : Nat) {x : Int}, ord.drop t = l → 0 ≤ x → x ≤ (t : Int) → am_E (am_D d) m_2_16 (.inl 1) [some (am_r (am_a 195)), some (am_i x), some (am_i (t : Int))] [] (zS L, h) = pI L (x + lsm (fun i => h 197 (o i)) l) h
  | [], t, x, hd, x0, xt => by
    have := List.drop_eq_nil_iff.1 hd
    have l15 := B.len
    rw [q_2_16_1, B.2.2.2.2.2.1.1.1, if_neg (by omega)]
    show pI L x h = pI L (x + 0) h
    rw [Int.add_zero]
  | i :: l, t, x, hd, x0, xt => by
    have l15 := B.len
    have tl : t < ord.length := by
      rcases Nat.lt_or_ge t ord.length with z | z
      · exact z
      · rw [List.drop_of_length_le z] at hd; cases hd
    rw [List.drop_eq_getElem_cons tl] at hd
    injection hd with d1 d2
    have ti : ord[t]? = some i := by rw [← d1]; exact List.getElem?_eq_getElem tl
    have ig := (B.2.2.2.2.1.1.2.1 i (List.mem_of_getElem? ti)).1
    obtain ⟨gl, -, ⟨o1, o2⟩, -, w⟩ := B.gt ig
    have c203 := B.2.2.2.2.2.1.1.2 t i ti
    have v01 := v6 _ o2
    rw [q_2_16_1, B.2.2.2.2.2.1.1.1, if_pos (by omega), p_idx (by omega) (by omega), Int.toNat_natCast, c203, p_idx (by omega) (by omega), Int.toNat_natCast, o1, p_idx (by omega) (by omega), Int.toNat_natCast, p_w (x := (t : Int) + 1) (by omega) (by omega), show (t : Int) + 1 = ((t + 1 : Nat) : Int) by omega]
    rcases v01 with z | z
    · have := bo_c B v6 l (t + 1) (x := x + 0) d2 (by omega) (by omega)
      rw [if_pos z, p_w (by omega) (by omega), this]
      show pI L _ h = pI L (x + (h 197 (o i) + lsm _ l)) h
      rw [z, ← Int.add_assoc]
    · have := bo_c B v6 l (t + 1) (x := x + 1) d2 (by omega) (by omega)
      rw [if_neg (by rw [z]; decide), p_w (by omega) (by omega), this]
      show pI L _ h = pI L (x + (h 197 (o i) + lsm _ l)) h
      rw [z, ← Int.add_assoc]
theorem bo_m (B : BNx c np ni P0 G Bt ib ws o ra rb oM sa sb lev lev' R zc zm ord ord' h) (v7 : ∀ y, y < Bt → h 363 y = 0 ∨ h 363 y = 1) (x1 : Int) : ∀ (l : List Nat) (t : Nat) {x2 x3 : Int} (u5 : Option am_V), ord'.drop t = l → 0 ≤ x2 → x2 ≤ (t : Int) → MXL (ord'.take t) lev' x3 → ∃ x3' w5, am_E (am_D d) m_17_189 (.inl 3) [some (am_r (am_a 254)), some (am_i x1), some (am_i x2), some (am_i x3), some (am_i (t : Int)), u5] [] (zS L, h) = am_E (am_D d) m_17_189 (.inl 3) [some (am_r (am_a 254)), some (am_i x1), some (am_i (x2 + lsm (fun j => h 363 (oM j)) l)), some (am_i x3'), some (am_i (ord'.length : Int)), w5] [] (zS L, h) ∧ MXL ord' lev' x3'
  | [], t, x2, x3, u5, hd, x0, xt, mx => by
    have hl := List.drop_eq_nil_iff.1 hd
    refine ⟨x3, u5, ?_, by rw [List.take_of_length_le hl] at mx; exact mx⟩
    have e1 := B.2.2.2.2.2.1.2.1
    show _ = am_E (am_D d) m_17_189 (.inl 3) [some (am_r (am_a 254)), some (am_i x1), some (am_i (x2 + 0)), some (am_i x3), some (am_i (ord'.length : Int)), u5] [] (zS L, h)
    rw [Int.add_zero, q_17_189_3, q_17_189_3, e1, if_neg (show ¬ (t : Int) < (ord'.length : Int) by omega), if_neg (show ¬ (ord'.length : Int) < (ord'.length : Int) by omega)]
  | j :: l, t, x2, x3, u5, hd, x0, xt, mx => by
    have l15 := B.len
    have tl : t < ord'.length := by
      rcases Nat.lt_or_ge t ord'.length with z | z
      · exact z
      · rw [List.drop_of_length_le z] at hd; cases hd
    rw [List.drop_eq_getElem_cons tl] at hd
    injection hd with d1 d2
    have tj : ord'[t]? = some j := by rw [← d1]; exact List.getElem?_eq_getElem tl
    obtain ⟨jg, jq⟩ := B.2.2.2.2.1.2.1.2.1 j (List.mem_of_getElem? tj)
    obtain ⟨gl, -, ⟨o1, o2⟩, -, w⟩ := B.mt jg
    rw [if_pos jq] at o1
    have c360 := B.2.2.2.2.2.1.2.2 t j tj
    have e1 := B.2.2.2.2.2.1.2.1
    have c359 := (B.2.2.2.1 j jg).2.2.2
    have lr := B.2.2.2.2.1.2.1.2.2.2.2 j
    have v01 := v7 _ o2
    have tk : ord'.take (t + 1) = ord'.take t ++ [j] := by rw [List.take_succ_eq_append_getElem tl, d1]
    have ls : lsm (fun j => h 363 (oM j)) (j :: l) = h 363 (oM j) + lsm (fun j => h 363 (oM j)) l := rfl
    have bb : 0 ≤ x2 + h 363 (oM j) ∧ x2 + h 363 (oM j) ≤ ((t + 1 : Nat) : Int) := by omega
    have q1 : (x2 + h 363 (oM j)) ≤ 1500 ∧ (t : Int) + 1 ≤ 1500 ∧ (t : Int) < (ord'.length : Int) := by omega
    obtain ⟨m1, m2, m3⟩ := mx
    have next : ∀ x3'', x3'' = (if x3 < lev' j then lev' j else x3) → ∃ x3' w5, am_E (am_D d) m_17_189 (.inl 3) [some (am_r (am_a 254)), some (am_i x1), some (am_i (x2 + h 363 (oM j))), some (am_i x3''), some (am_i ((t : Int) + 1)), some (am_i (j : Int))] [] (zS L, h) = am_E (am_D d) m_17_189 (.inl 3) [some (am_r (am_a 254)), some (am_i x1), some (am_i (x2 + lsm (fun j => h 363 (oM j)) (j :: l))), some (am_i x3'), some (am_i (ord'.length : Int)), w5] [] (zS L, h) ∧ MXL ord' lev' x3' := fun x3'' hx => by
      have := bo_m B v7 x1 l (t + 1) (x2 := x2 + h 363 (oM j)) (x3 := x3'') (some (am_i (j : Int))) d2 bb.1 bb.2 (by
        rw [tk]
        have k1 : x3 ≤ x3'' ∧ lev' j ≤ x3'' := by clear m3; rw [hx]; split <;> omega
        refine ⟨Int.le_trans m1 k1.1, fun a ha => ?_, ?_⟩
        · rcases List.mem_append.1 ha with z | z
          · exact Int.le_trans (m2 a z) k1.1
          · rw [List.mem_singleton] at z; rw [z]; exact k1.2
        · by_cases cc : x3 < lev' j
          · rw [if_pos cc] at hx
            exact Or.inr ⟨j, List.mem_append.2 (Or.inr (List.mem_singleton.2 rfl)), hx.symm⟩
          · rw [if_neg cc] at hx
            rw [hx]
            exact m3.imp id (fun ⟨a, a1, a2⟩ => ⟨a, List.mem_append.2 (Or.inl a1), a2⟩))
      rw [ls, ← Int.add_assoc]
      exact this
    clear m3
    rw [q_17_189_3, e1, if_pos (by omega), p_idx (by omega) (by omega), Int.toNat_natCast, c360, p_idx (by omega) (by omega), Int.toNat_natCast, o1, p_w (x := (oM j : Int)) (by omega) (by omega), p_idx (by omega) (by omega), Int.toNat_natCast, p_idx (by omega) (by omega), Int.toNat_natCast, c359, p_w (x := x2 + h 363 (oM j)) (by omega) (by omega), p_w (x := (t : Int) + 1) (by omega) (by omega)]
    by_cases cc : x3 < lev' j
    · rw [if_pos cc, p_idx (by omega) (by omega), Int.toNat_natCast, c359]
      exact next _ (by rw [if_pos cc])
    · rw [if_neg cc]
      exact next _ (by rw [if_neg cc])
/-- countPins -/
theorem bo_pins (B : BNp c np ni P0 Bt ib ws h) {x1 : Int} (h1 : x1 = 0 ∨ x1 = 1) : ∀ (m j : Nat) {x2 : Int}, j + m = np → x2 = (if x1 = 0 then (if j ≤ ni then (j : Int) else ni) else (if j ≤ ni then 0 else (j : Int) - ni)) → am_E (am_D d) m_17_188 (.inl 1) [some (am_r (am_a 254)), some (am_i x1), some (am_i x2), some (am_i ((P0 + j : Nat) : Int))] [] (zS L, h) = pI L (if x1 = 0 then (ni : Int) else (np : Int) - ni) h
  | 0, j, x2, hm, e => by
    obtain ⟨⟨b0, ⟨b1, b2, b3⟩, b4, -⟩, -, b6, b7, b8, b5⟩ := B
    rw [q_17_188_1, b6, p_w (by omega) (by omega), p_idx (by omega) (by omega), show ((c : Int) + 1).toNat = c + 1 by omega, b8, if_neg (by omega), e, if_neg (show ¬ j ≤ ni by omega), if_neg (show ¬ j ≤ ni by omega), show j = np by omega]
  | m + 1, j, x2, hm, e => by
    have B' := B
    obtain ⟨⟨b0, ⟨b1, b2, b3⟩, b4, -⟩, -, b6, b7, b8, b5⟩ := B
    have xr : 0 ≤ x2 ∧ x2 ≤ 12 := by rw [e]; split <;> split <;> omega
    rw [q_17_188_1, b6, p_w (by omega) (by omega), p_idx (by omega) (by omega), show ((c : Int) + 1).toNat = c + 1 by omega, b8, if_pos (by omega), p_idx (by omega) (by omega), Int.toNat_natCast, (b5 j (by omega)).1, p_w (x := ((P0 + j : Nat) : Int) + 1) (by omega) (by omega), show ((P0 + j : Nat) : Int) + 1 = ((P0 + (j + 1) : Nat) : Int) by omega]
    rcases h1 with rfl | rfl
    · rw [if_pos rfl] at e
      by_cases c1 : ni ≤ j
      · rw [if_pos c1, if_neg (show ¬ (1 : Int) = 0 by decide)]
        refine bo_pins B' (Or.inl rfl) m (j + 1) (by omega) ?_
        rw [if_pos rfl, if_neg (by omega), e]
        by_cases c2 : j ≤ ni
        · rw [if_pos c2]; omega
        · rw [if_neg c2]
      · rw [if_neg c1, if_pos rfl, p_w (x := x2 + 1) (by omega) (by omega)]
        refine bo_pins B' (Or.inl rfl) m (j + 1) (by omega) ?_
        rw [if_pos (by omega)] at e
        rw [if_pos rfl, if_pos (by omega), e]; omega
    · rw [if_neg (show ¬ (1 : Int) = 0 by decide)] at e
      by_cases c1 : ni ≤ j
      · rw [if_pos c1, if_pos rfl, p_w (x := x2 + 1) (by omega) (by omega)]
        refine bo_pins B' (Or.inr rfl) m (j + 1) (by omega) ?_
        rw [if_neg (show ¬ (1 : Int) = 0 by decide), if_neg (by omega), e]
        by_cases c2 : j ≤ ni
        · rw [if_pos c2]; omega
        · rw [if_neg c2]; omega
      · rw [if_neg c1, if_neg (show ¬ (0 : Int) = 1 by decide)]
        refine bo_pins B' (Or.inr rfl) m (j + 1) (by omega) ?_
        rw [if_pos (by omega)] at e
        rw [if_neg (show ¬ (1 : Int) = 0 by decide), if_pos (by omega), e]
theorem bo_cnt (B : BNp c np ni P0 Bt ib ws h) {x1 : Int} (h1 : x1 = 0 ∨ x1 = 1) : am_D (d + 1) 17 188 [am_r (am_a 254), am_i x1] (zS L, h) = pI L (if x1 = 0 then (ni : Int) else (np : Int) - ni) h := by
  have c0 := B.1.1
  rw [D_17_188, B.2.2.1, p_idx (by omega) (by omega), Int.toNat_natCast, B.2.2.2.1]
  exact bo_pins (d := d) (L := L) B h1 np 0 (by omega) (by rw [if_pos (Nat.zero_le _), if_pos (Nat.zero_le _)]; split <;> rfl)
theorem MXL_un (P : PB Bt G ib (h 201) (h 356) (h 357) o ra rb oM sa sb R zc zm) (M : ∀ i j, R i j → (i ∈ ord ↔ j ∈ ord')) (o1 : ∀ i ∈ ord, i < G) (o2 : ∀ j ∈ ord', j < G) (E : ∀ i j, R i j → lev i = lev' j) {v v' : Int} (H : MXL ord lev v) (H' : MXL ord' lev' v') : v = v' := by
  obtain ⟨-, -, ⟨t1, t2, -⟩, -⟩ := P
  obtain ⟨a1, a2, a3⟩ := H
  obtain ⟨b1, b2, b3⟩ := H'
  have l1 : v ≤ v' := by
    rcases a3 with z | ⟨i, z1, z2⟩
    · omega
    · obtain ⟨j, r⟩ := t1 i (o1 i z1)
      have := b2 j ((M i j r).1 z1)
      rw [← E i j r] at this; omega
  have l2 : v' ≤ v := by
    rcases b3 with z | ⟨j, z1, z2⟩
    · omega
    · obtain ⟨i, r⟩ := t2 j (o2 j z1)
      have := a2 i ((M i j r).2 z1)
      rw [E i j r] at this; omega
  omega
/-- gates -/
theorem q_gates (H : BR h) (x : Int) : ∃ r, am_D (d + 2) 0 22 [am_r (am_a 1), am_i x] (zS L, h) = pI L r h ∧ am_D (e + 2) 17 189 [am_r (am_a 254), am_i x] (zS L, h) = pI L r h := by
  obtain ⟨H1, H2, H3⟩ := H
  rcases H3 with z | ⟨eb, c, np, ni, P0, G, Bt, ib, ws, o, ra, rb, oM, sa, sb, lev, lev', R, zc, zm, ord, ord', B, v0, tk⟩
  · refine ⟨-1, ?_, ?_⟩
    · rw [D_0_22, z, if_pos rfl]
    · rw [D_17_189, ← H2, z, if_pos rfl]
  · have em : h 254 152 = 1 := by rw [← H2]; exact eb
    have v6 := v0.2.2.2.2.1
    have v7 := v0.2.2.2.2.2
    have C0 := CB_c L c B.1.1.1
    have l12 := B.1.1.2.1
    obtain ⟨le, l15⟩ := B.len
    obtain ⟨n1, n2, n3, n4, n5⟩ := B.2.2.2.2.2.2.1
    have e15 := B.2.2.2.2.2.1.2.1
    have M := B.mem
    have P := B.2.1
    have O1 := B.2.2.2.2.1.1
    have O2 := B.2.2.2.2.1.2.1
    have E := B.2.2.2.2.1.2.2
    have mxl := B.2.2.2.2.2.2.2.1
    have g1 := P.1.1
    have ol := O1.len
    by_cases rgx : x < 0 ∨ 7 < x
    · refine ⟨-1, ?_, ?_⟩
      · rw [D_0_22, eb, if_neg (by decide), if_neg (by omega), if_neg (by omega), if_neg (by omega), if_neg (by omega), if_neg (by omega), if_neg (by omega), if_neg (by omega), if_neg (by omega)]
      · rw [D_17_189, em, if_neg (by decide)]
        by_cases w : x < 0
        · rw [if_pos w]
        · rw [if_neg w, if_pos (by omega)]
    · obtain ⟨x3, w5, r3, m3⟩ := bo_m (d := e + 1) (L := L) B v7 x ord' 0 (x2 := 0) (x3 := 0) none rfl (Int.le_refl _) (Int.le_refl _) ⟨Int.le_refl _, fun i hi => (by rw [List.take_zero] at hi; cases hi), Or.inl rfl⟩
      have mu := MXL_un P M (fun i hi => (O1.2.1 i hi).1) (fun j hj => (O2.2.1 j hj).1) E mxl m3
      have sm : lsm (fun i => h 197 (o i)) ord = lsm (fun j => h 363 (oM j)) ord' := rel_sum (R := R) ord ord' O1.1 le (fun i hi => by
        obtain ⟨j, r⟩ := P.2.2.1.1 i (O1.2.1 i hi).1
        exact ⟨j, (M i j r).1 hi, r⟩) P.2.2.1.2.2.1 (fun i j r => v0.2.1 i j r)
      have mm : am_D (e + 2) 17 189 [am_r (am_a 254), am_i x] (zS L, h) = am_E (am_D (e + 1)) m_17_189 (.inl 3) [some (am_r (am_a 254)), some (am_i x), some (am_i (0 + lsm (fun j => h 363 (oM j)) ord')), some (am_i x3), some (am_i (ord'.length : Int)), w5] [] (zS L, h) := by
        rw [D_17_189, em, if_neg (by decide), if_neg (by omega), if_neg (by omega)]
        exact r3
      have cc : x = 0 ∨ x = 1 ∨ x = 2 ∨ x = 3 ∨ x = 4 ∨ x = 5 ∨ x = 6 ∨ x = 7 := by omega
      rw [mm, q_17_189_3, e15, if_neg (by omega), D_0_22, eb, if_neg (by decide)]
      rcases cc with rfl | rfl | rfl | rfl | rfl | rfl | rfl | rfl
      · refine ⟨(ord.length : Int), ?_, ?_⟩
        · rw [if_pos rfl, n3]
        · rw [if_pos rfl, le]
      · refine ⟨(G : Int) - (ord.length : Int), ?_, ?_⟩
        · rw [if_neg (by decide), if_pos rfl, n4]
        · rw [if_neg (by decide), if_pos rfl, n2, le, p_w (by omega) (by omega)]
      · refine ⟨(ni : Int), ?_, ?_⟩
        · rw [if_neg (by decide), if_neg (by decide), if_pos rfl, bn_dec B.1, C0.ob, B.1.2.1.2.2.1]
        · rw [if_neg (by decide), if_neg (by decide), if_pos rfl, bo_cnt (d := e) B.1 (Or.inl rfl), p_xI, if_pos rfl]
      · refine ⟨(np : Int) - ni, ?_, ?_⟩
        · rw [if_neg (by decide), if_neg (by decide), if_neg (by decide), if_pos rfl, bn_dec B.1, C0.ob, C0.ob, B.1.2.1.2.2.1, B.1.2.1.2.1, p_w (by omega) (by omega)]
        · rw [if_neg (by decide), if_neg (by decide), if_neg (by decide), if_pos rfl, bo_cnt (d := e) B.1 (Or.inr rfl), p_xI, if_neg (by decide)]
      · refine ⟨h 36 6, ?_, ?_⟩
        · rw [if_neg (by decide), if_neg (by decide), if_neg (by decide), if_neg (by decide), if_pos rfl]
        · rw [if_neg (by decide), if_neg (by decide), if_neg (by decide), if_neg (by decide), if_pos rfl, n5]
      · refine ⟨h 195 16, ?_, ?_⟩
        · rw [if_neg (by decide), if_neg (by decide), if_neg (by decide), if_neg (by decide), if_neg (by decide), if_pos rfl]
        · rw [if_neg (by decide), if_neg (by decide), if_neg (by decide), if_neg (by decide), if_neg (by decide), if_pos rfl, mu]
      · refine ⟨h 195 17, ?_, ?_⟩
        · rw [if_neg (by decide), if_neg (by decide), if_neg (by decide), if_neg (by decide), if_neg (by decide), if_neg (by decide), if_pos rfl]
        · rw [if_neg (by decide), if_neg (by decide), if_neg (by decide), if_neg (by decide), if_neg (by decide), if_neg (by decide), if_pos rfl, tk]
      · refine ⟨0 + lsm (fun i => h 197 (o i)) ord, ?_, ?_⟩
        · have r7 := bo_c (d := d) (L := L) B v6 ord 0 (x := 0) rfl (Int.le_refl _) (Int.le_refl _)
          have r7' : am_E (am_D d) m_2_16 (.inl 1) [some (am_r (am_a 195)), some (am_i 0), some (am_i 0)] [] (zS L, h) = _ := r7
          rw [if_neg (by decide), if_neg (by decide), if_neg (by decide), if_neg (by decide), if_neg (by decide), if_neg (by decide), if_neg (by decide), if_pos rfl, D_2_16, r7', p_xI]
        · rw [if_neg (by decide), if_neg (by decide), if_neg (by decide), if_neg (by decide), if_neg (by decide), if_neg (by decide), if_neg (by decide), sm]
end
