/-! QUERIES: what is asked behind a run -/
def s2 : List (Int × Int) → Int
  | [] => 0
  | q :: l => q.2 + s2 l
theorem s2_perm {l l' : List (Int × Int)} (p : l.Perm l') : s2 l = s2 l' := by
  induction p with
  | nil => rfl
  | cons x _ ih => show x.2 + _ = x.2 + _; rw [ih]
  | swap x y l => show y.2 + (x.2 + s2 l) = x.2 + (y.2 + s2 l); omega
  | trans _ _ h1 h2 => exact h1.trans h2
theorem s2_app (l : List (Int × Int)) (q : Int × Int) : s2 (l ++ [q]) = s2 l + q.2 := by
  induction l with
  | nil => show q.2 + 0 = 0 + q.2; omega
  | cons x l ih => show x.2 + s2 (l ++ [q]) = x.2 + s2 l + q.2; rw [ih]; omega
theorem s2_bd {l : List (Int × Int)} (h : ∀ q ∈ l, 0 ≤ q.2 ∧ q.2 ≤ 14336) : 0 ≤ s2 l ∧ s2 l ≤ 14336 * (l.length : Int) := by
  induction l with
  | nil => exact ⟨Int.le_refl _, Int.le_refl _⟩
  | cons x l ih =>
    have a := h x (List.mem_cons_self ..)
    have b := ih (fun q hq => h q (List.mem_cons_of_mem _ hq))
    show 0 ≤ x.2 + s2 l ∧ x.2 + s2 l ≤ 14336 * ((l.length + 1 : Nat) : Int)
    omega
/-- both sides, for whoever asks -/
def QR (h : am_H) : Prop :=
  (∀ a : Nat, v_pl (a : Int) → h 18 a = h 308 a) ∧
  (∃ bl : List (Int × Int), (h 18 18 = (bl.length : Int) ∧ bl.length ≤ 100 ∧ ∀ j q, bl[j]? = some q → h 18 (16640 + j) = q.2) ∧ (0 ≤ h 254 81 ∧ h 254 81 ≤ 100) ∧ bl.Perm (bk h) ∧ ∀ q ∈ bl, 0 ≤ q.2 ∧ q.2 ≤ 14336) ∧
  ((h 17 8 = h 254 96 ∧ h 17 11 = h 254 89 ∧ h 17 13 = h 254 100) ∧ h 1 3 = h 254 4 ∧ h 1 16 = h 254 104 ∧ (h 1 18 = 0 ↔ h 254 71 = 0) ∧ h 1 2 = h 254 1) ∧
  (∃ ol : List Int, h 17 7 = (ol.length : Int) ∧ (0 ≤ h 254 107 ∧ h 254 106 = h 254 107 + (ol.length : Int) ∧ h 254 106 ≤ 3000) ∧ ∀ j c, ol[j]? = some c → h 20 j % 256 = c ∧ h 320 ((h 254 107).toNat + j) = c ∧ 0 ≤ c ∧ c ≤ 255) ∧ ∀ k, rg16 (h 18 k)
theorem bS_mem : ∀ {l : List (Int × Int)} {lo : Int}, bS lo l → 0 ≤ lo → ∀ q ∈ l, 0 ≤ q.2 ∧ q.2 ≤ 14336
  | [], _, _, _, q, hq => by cases hq
  | x :: l, lo, ⟨h1, h2, h3, h4⟩, h0, q, hq => by
    rcases List.mem_cons.1 hq with rfl | hq
    · omega
    · exact bS_mem h4 (by omega) q hq
theorem RAN.qr {ky : List Int} {h : am_H} (R : RAN ky h) (r : ∀ k, rg16 (h 18 k)) (e1 : h 1 18 = 0 ↔ h 254 71 = 0) (e2 : h 1 2 = h 254 1) : QR h := by
  obtain ⟨G, ⟨I, M, m⟩, ⟨w1, w2, w3, w4, w5⟩, w6⟩ := R
  obtain ⟨m1, ⟨bl, ⟨⟨b1, b2, b3, b4⟩, b5, b6⟩, b7, b8⟩, m3, m4, ⟨o1, o2, o3⟩, m6⟩ := M
  obtain ⟨-, -, i1, i2, i3⟩ := I
  refine ⟨fun a ha => ?_, ⟨bl, ⟨?_, b4, fun j q hq => ?_⟩, b7, b8, bS_mem b6 (by decide)⟩, ⟨⟨w1, w2, w3⟩, w4, w5, e1, e2⟩, ⟨G.2.2, i1, ⟨by rw [w6]; decide, by rw [w6, o1]; omega, by rw [o1]; omega⟩, fun j c hc => ⟨i3 j c hc, ?_⟩⟩, r⟩
  · rw [m a (by unfold v_pl at ha; omega) (by unfold v_pl at ha; omega)]; exact m1 a ha
  · rw [m 18 (by decide) (by decide)]; exact b3
  · have hj := (List.getElem?_eq_some_iff.1 hq).1
    rw [m _ (by omega) (by omega)]; exact (b5 j q hq).2
  · rw [w6]; show h 320 (0 + j) = c ∧ _
    rw [Nat.zero_add]; exact o3 j c hc
section
variable {L d n : Nat} {h : am_H}
theorem q_place (Q : QR h) : ∃ v, am_D (n + 1) 0 25 [am_r (am_a 1)] (zS L, h) = pI L v h ∧ am_D (d + 1) 17 122 [am_r (am_a 254)] (zS L, h) = pI L v h := ⟨h 1 3, by rw [D_0_25], by rw [D_17_122, Q.2.2.1.2.1]⟩
theorem q_error (Q : QR h) : ∃ v, am_D (n + 1) 0 26 [am_r (am_a 1)] (zS L, h) = pI L v h ∧ am_D (d + 1) 17 123 [am_r (am_a 254)] (zS L, h) = pI L v h := ⟨h 17 13, by rw [D_0_26], by rw [D_17_123, Q.2.2.1.1.2.2]⟩
theorem q_word (Q : QR h) (a : Int) : ∃ v, am_D (n + 1) 0 29 [am_r (am_a 1), am_i a] (zS L, h) = pI L v h ∧ am_D (d + 2) 17 126 [am_r (am_a 254), am_i a] (zS L, h) = pI L v h := by
  have M : am_D (d + 2) 17 126 [am_r (am_a 254), am_i a] (zS L, h) = pI L (if v_pl a then h 308 a.toNat else 100000) h := by
    rw [D_17_126, m_pl, p_xI]
    by_cases c : v_pl a
    · rw [pB_t c, if_neg (by decide), if_pos c, p_idx (by unfold v_pl at c; omega) (by unfold v_pl at c; omega)]
    · rw [pB_f c, if_pos rfl, if_neg c]
  refine ⟨_, ?_, M⟩
  rw [D_0_29]
  by_cases c : v_pl a
  · rw [if_pos (c := v_pl a) c]
    have e := Q.1 a.toNat (by unfold v_pl at c ⊢; omega)
    rw [if_neg (show ¬ a < 2048 by unfold v_pl at c; omega), ← e]
    by_cases c2 : a < 14336
    · rw [if_pos c2, p_idx (by unfold v_pl at c; omega) (by omega)]
    · rw [if_neg c2, q_0_29_1, if_neg (by unfold v_pl at c; omega), if_pos (by unfold v_pl at c; omega), p_idx (by omega) (by unfold v_pl at c; omega)]
  · rw [if_neg (c := v_pl a) c]
    have e1 : am_E (am_D n) m_0_29 (.inl 1) [some (am_r (am_a 1)), some (am_i a)] [] (zS L, h) = pI L 100000 h := by
      rw [q_0_29_1]
      by_cases c1 : a < 16384
      · rw [if_pos c1]
      · rw [if_neg c1, if_neg (by unfold v_pl at c; omega)]
    by_cases c1 : a < 2048
    · rw [if_pos c1]; exact e1
    · rw [if_neg c1, if_neg (by unfold v_pl at c; omega)]; exact e1
/-- sums of blocks -/
theorem c_sum {x1 : Int} {bl : List (Int × Int)} (b1 : h 18 18 = (bl.length : Int)) (b2 : bl.length ≤ 100) (b3 : ∀ j q, bl[j]? = some q → h 18 (16640 + j) = q.2) (b4 : ∀ q ∈ bl, 0 ≤ q.2 ∧ q.2 ≤ 14336) : ∀ j i : Nat, i + j = bl.length → am_E (am_D (n + 1)) m_0_31 (.inl 1) [some (am_r (am_a 1)), some (am_i x1), some (am_i (s2 (bl.take i))), some (am_i (i : Int))] [] (zS L, h) = am_E (am_D (n + 1)) m_0_31 (.inl 1) [some (am_r (am_a 1)), some (am_i x1), some (am_i (s2 bl)), some (am_i (bl.length : Int))] [] (zS L, h) := by
  intro j
  induction j with
  | zero => intro i hi; have : i = bl.length := by omega
            rw [this, List.take_length]
  | succ j ih =>
    intro i hi
    have hl : i < bl.length := by omega
    have hv := b3 i _ (List.getElem?_eq_getElem hl)
    have bt := s2_bd (l := bl.take i) (fun q hq => b4 q (List.mem_of_mem_take hq))
    have bv := b4 bl[i] (List.getElem_mem hl)
    have lt : (bl.take i).length = i := by rw [List.length_take]; omega
    rw [lt] at bt
    rw [q_0_31_1, D_0_30, p_idx (by decide) (by decide)]
    show am_xI (zS L) (pI L (h 18 18) h) _ _ = _
    rw [p_xI, b1, if_pos (by omega), p_w (x := 16640 + (i : Int)) (by omega) (by omega), p_idx (by omega) (by omega), show (16640 + (i : Int)).toNat = 16640 + i by omega, hv, p_w (by omega) (by omega), p_w (by omega) (by omega)]
    have := ih (i + 1) (by omega)
    rw [List.take_succ_eq_append_getElem hl, s2_app] at this
    exact this
theorem bk_get (i : Nat) (hi : (i : Int) < h 254 81) : (bk h)[i]? = some (h 309 i, h 310 i) := by
  unfold bk
  rw [List.getElem?_map, List.getElem?_range (by omega)]; rfl
theorem m_sum {u1 : Option am_V} (b0 : 0 ≤ h 254 81 ∧ h 254 81 ≤ 100) (b4 : ∀ q ∈ bk h, 0 ≤ q.2 ∧ q.2 ≤ 14336) : ∀ j i : Nat, ((i + j : Nat) : Int) = h 254 81 → am_E (am_D d) m_17_127 (.inl 5) [some (am_r (am_a 254)), u1, some (am_i (s2 ((bk h).take i))), some (am_i (i : Int))] [] (zS L, h) = pI L (s2 (bk h)) h := by
  have lk : (bk h).length = (h 254 81).toNat := by unfold bk; rw [List.length_map, List.length_range]
  intro j
  induction j with
  | zero =>
    intro i hi
    rw [q_17_127_5, if_neg (by omega), show i = (bk h).length by omega, List.take_length]
  | succ j ih =>
    intro i hi
    have hl : i < (bk h).length := by omega
    have hg := bk_get (h := h) i (by omega)
    have hge : (bk h)[i] = (h 309 i, h 310 i) := by rw [List.getElem?_eq_getElem hl] at hg; exact Option.some.inj hg
    have bt := s2_bd (l := (bk h).take i) (fun q hq => b4 q (List.mem_of_mem_take hq))
    have bv := b4 _ (List.getElem_mem hl)
    rw [hge] at bv
    dsimp only at bv
    have lt : ((bk h).take i).length = i := by rw [List.length_take]; omega
    rw [lt] at bt
    rw [q_17_127_5, if_pos (by omega), p_idx (by omega) (by omega), Int.toNat_natCast, p_w (by omega) (by omega), p_w (by omega) (by omega)]
    have := ih (i + 1) (by omega)
    rw [List.take_succ_eq_append_getElem hl, s2_app, hge] at this
    exact this
theorem q_count (Q : QR h) (x : Int) : ∃ v, am_D (n + 2) 0 31 [am_r (am_a 1), am_i x] (zS L, h) = pI L v h ∧ am_D (d + 1) 17 127 [am_r (am_a 254), am_i x] (zS L, h) = pI L v h := by
  obtain ⟨-, ⟨bl, ⟨b1, b2, b3⟩, b4, b5, b6⟩, ⟨⟨w1, w2, w3⟩, w4, w5, w6, w7⟩, ⟨ol, o1, ⟨o2, o3, o4⟩, -⟩, -⟩ := Q
  have lk : (bk h).length = (h 254 81).toNat := by unfold bk; rw [List.length_map, List.length_range]
  have e81 : h 254 81 = (bl.length : Int) := by rw [b5.length_eq, lk]; omega
  have C := c_sum (L := L) (n := n) (x1 := x) b1 b2 b3 b6 bl.length 0 (by omega)
  have C : am_D (n + 2) 0 31 [am_r (am_a 1), am_i x] (zS L, h) = am_E (am_D (n + 1)) m_0_31 (.inl 1) [some (am_r (am_a 1)), some (am_i x), some (am_i (s2 bl)), some (am_i (bl.length : Int))] [] (zS L, h) := by rw [D_0_31]; exact C
  have D0 : am_D (n + 1) 0 30 [am_r (am_a 1)] (zS L, h) = pI L (bl.length : Int) h := by rw [D_0_30, p_idx (by decide) (by decide), ← b1]; rfl
  rw [C, q_0_31_1, D0, p_xI, if_neg (by omega), D_17_127]
  by_cases c0 : x = 0
  · rw [if_pos c0, if_pos c0]; exact ⟨_, rfl, by rw [w7]⟩
  rw [if_neg c0, if_neg c0]
  by_cases c1 : x = 1
  · rw [if_pos c1, if_pos c1]; exact ⟨_, rfl, by rw [w1]⟩
  rw [if_neg c1, if_neg c1]
  by_cases c2 : x = 2
  · rw [if_pos c2, if_pos c2]; exact ⟨_, rfl, by rw [w2]⟩
  rw [if_neg c2, if_neg c2]
  by_cases c3 : x = 3
  · rw [if_pos c3, if_pos c3]
    refine ⟨_, rfl, ?_⟩
    have := m_sum (L := L) (d := d) (u1 := some (am_i x)) b4 (fun q hq => b6 q (b5.mem_iff.2 hq)) (h 254 81).toNat 0 (by omega)
    rw [s2_perm b5]; exact this
  rw [if_neg c3, if_neg c3]
  by_cases c4 : x = 4
  · rw [if_pos c4, if_pos c4, D0, p_xI]; exact ⟨_, rfl, by rw [e81]⟩
  rw [if_neg c4, if_neg c4]
  by_cases c5 : x = 5
  · rw [if_pos c5, if_pos c5, p_w (by omega) (by omega)]
    exact ⟨_, rfl, by rw [o1, o3, show h 254 107 + (ol.length : Int) - h 254 107 = (ol.length : Int) by omega]⟩
  rw [if_neg c5, if_neg c5]
  by_cases c6 : x = 6
  · rw [if_pos c6, if_pos c6]; exact ⟨_, rfl, by rw [w5]⟩
  rw [if_neg c6, if_neg c6]
  by_cases c7 : x = 7
  · rw [if_pos c7, if_pos c7]
    by_cases z : h 1 18 = 0
    · rw [if_pos z, if_pos (w6.1 z)]; exact ⟨_, rfl, rfl⟩
    · rw [if_neg z, if_neg (fun q => z (w6.2 q))]; exact ⟨_, rfl, rfl⟩
  · rw [if_neg c7, if_neg c7]; exact ⟨_, rfl, rfl⟩
end
