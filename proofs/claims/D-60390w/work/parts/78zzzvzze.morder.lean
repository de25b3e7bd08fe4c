/-! CHIPS, 57: the board: the model's sources, its order -/
section
variable {d L : Nat} {G : Nat} {F Gb Q I : Nat → Int} {sa sb : Nat → Int} {h hs : am_H}
theorem ms_loop (hF : h 355 = F) (hG : h 356 = Gb) (u1 : Option am_V) : ∀ (N : Nat) {b s : Int}, SD F Gb N b s → am_E (am_D d) m_17_178 (.inl 1) [some (am_r (am_a 254)), u1, some (am_i b)] [] (zS L, h) = pI L s h
  | 0, b, s, ⟨h1, h2, h3⟩ => by
    rw [q_17_178_1, h1]
    rcases h3 with z | ⟨z1, z2⟩
    · rw [if_pos z]
    · rw [if_neg (by omega), p_idx z1 (by omega), hG]
      rcases z2 with w | ⟨w1, w2⟩
      · rw [if_neg w]
      · rw [if_pos w1, p_idx z1 (by omega), hF, if_pos w2]
  | N + 1, b, s, ⟨h1, h2, h3, h4, h5⟩ => by
    rw [q_17_178_1, if_neg (by omega), p_idx h1 (by omega), hG, if_pos h3, p_idx h1 (by omega), hF, if_neg h4, p_idx h1 (by omega)]
    exact ms_loop hF hG u1 N h5
theorem ms_src {N : Nat} {b s : Int} (H : SD (h 355) (h 356) N b s) : am_D (d + 1) 17 178 [am_r (am_a 254), am_i b] (zS L, h) = pI L s h := by
  rw [D_17_178]
  exact ms_loop rfl rfl _ N H
/-- rows of gates -/
def mGt (G : Nat) (F Gb Q I : Nat → Int) (sa sb : Nat → Int) : Prop := G ≤ 1500 ∧ ∀ j, j < G → (Q j = 0 ∨ Q j = 1) ∧ ∃ y : Nat, I j = (y : Int) ∧ y < 40000 ∧ (∃ N, SD F Gb N (y : Int) (sa j)) ∧ (Q j = 0 → ∃ N, SD F Gb N ((y + 1 : Nat) : Int) (sb j)) ∧ (Q j ≠ 0 → sb j = -1)
theorem ms_8 (H : mGt G F Gb Q I sa sb) (hF : h 355 = F) (hG : h 356 = Gb) (hQ : h 357 = Q) (hI : h 358 = I) (e1 : h 254 161 = (G : Int)) (u1 u3 u4 u5 u6 : Option am_V) : ∀ (m j : Nat) {h1 : am_H}, j + m = G → (∀ x, x < j → h1 361 x = sa x ∧ h1 362 x = sb x) → p_fr [361, 362] [] h h1 → ∃ h', am_E (am_D (d + 1)) m_17_177 (.inl 8) [some (am_r (am_a 254)), u1, some (am_i (j : Int)), u3, u4, u5, u6] [] (zS L, h1) = pV L h' ∧ (∀ x, x < G → h' 361 x = sa x ∧ h' 362 x = sb x) ∧ p_fr [361, 362] [] h h'
  | 0, j, h1, hm, X, f => by
    rw [q_17_177_8, f 254 161 rfl rfl, e1, if_neg (by omega)]
    exact ⟨h1, rfl, fun x hx => X x (by omega), f⟩
  | m + 1, j, h1, hm, X, f => by
    have hG15 := H.1
    obtain ⟨q01, y, y1, y2, ⟨N, s1⟩, s2, s3⟩ := H.2 j (by omega)
    have F1 := ms_src (d := d) (L := L) (h := h1) (by rw [f.cell 355 rfl rfl, f.cell 356 rfl rfl, hF, hG]; exact s1)
    have e357 : h1 357 j = Q j := by rw [f.cell 357 rfl rfl, hQ]
    have e358 : h1 358 j = (y : Int) := by rw [f.cell 358 rfl rfl, hI, y1]
    have next : ∀ v, v = sb j → ∃ h', am_E (am_D (d + 1)) m_17_177 (.inl 8) [some (am_r (am_a 254)), u1, some (am_i ((j : Int) + 1)), u3, u4, u5, u6] [] (zS L, am_up (am_up h1 361 j (sa j)) 362 j v) = pV L h' ∧ (∀ x, x < G → h' 361 x = sa x ∧ h' 362 x = sb x) ∧ p_fr [361, 362] [] h h' := fun v hv => by
      refine ms_8 H hF hG hQ hI e1 u1 u3 u4 u5 u6 m (j + 1) (by omega) (fun x hx => ?_) ((f.upc _ _ _ rfl).upc _ _ _ rfl)
      rw [p_up_c _ _ _ _ _ (by decide), p_up_f, p_up_f, p_up_c _ _ _ _ _ (by decide)]
      unfold p_set
      by_cases e : x = j
      · rw [if_pos e, if_pos e, e]; exact ⟨rfl, hv⟩
      · rw [if_neg e, if_neg e]; exact X x (by omega)
    rw [q_17_177_8, f 254 161 rfl rfl, e1, if_pos (by omega), p_idx (by omega) (by omega), Int.toNat_natCast, e358, F1, p_xI, p_idx (by omega) (by omega), p_idx (by omega) (by omega), Int.toNat_natCast, e357, p_w (x := (j : Int) + 1) (by omega) (by omega)]
    by_cases c : Q j = 0
    · obtain ⟨N', s4⟩ := s2 c
      have F2 := ms_src (d := d) (L := L) (h := am_up h1 361 j (sa j)) (by rw [p_up_c _ _ _ _ _ (by decide), p_up_c _ _ _ _ _ (by decide), f.cell 355 rfl rfl, f.cell 356 rfl rfl, hF, hG]; exact s4)
      rw [if_pos c, p_idx (by omega) (by omega), Int.toNat_natCast, e358, p_w (by omega) (by omega), show (y : Int) + 1 = ((y + 1 : Nat) : Int) by omega, F2, p_xI, p_idx (by omega) (by omega), Int.toNat_natCast]
      exact next _ rfl
    · rw [if_neg c, p_idx (by omega) (by omega), Int.toNat_natCast]
      exact next _ (s3 c).symm
/-- the Nand that a bit is of -/
def mOf (Gb Q : Nat → Int) (s : Int) : Option Nat := if 0 ≤ s ∧ Gb s.toNat ≠ 0 ∧ Q (Gb s.toNat - 1).toNat = 0 then some (Gb s.toNat - 1).toNat else none
/-- a bit that sources may be -/
def inp (G : Nat) (Gb : Nat → Int) (s : Int) : Prop := s < 40000 ∧ (0 ≤ s → 0 ≤ Gb s.toNat ∧ Gb s.toNat ≤ (G : Int))
theorem mo_lev (hG : G ≤ 1500) (e6 : h 356 = Gb) (e7 : h 357 = Q) {lev : Nat → Int} (e9 : ∀ j, j < G → h 359 j = lev j) {s : Int} (hi : inp G Gb s) : am_D (d + 1) 17 179 [am_r (am_a 254), am_i s] (zS L, h) = pI L (lvo lev (mOf Gb Q s)) h := by
  rw [D_17_179]
  unfold mOf
  by_cases s0 : s < 0
  · rw [if_pos s0, if_neg (fun z => by omega)]; rfl
  · obtain ⟨i1, i2⟩ := hi
    obtain ⟨i3, i4⟩ := i2 (by omega)
    rw [if_neg s0, p_idx (by omega) (by omega), e6]
    by_cases g0 : Gb s.toNat = 0
    · rw [if_pos g0, if_neg (fun z => z.2.1 g0)]; rfl
    · rw [if_neg g0, p_idx (by omega) (by omega), p_w (by omega) (by omega), p_idx (by omega) (by omega), e7]
      by_cases q0 : Q (Gb s.toNat - 1).toNat = 0
      · rw [if_pos q0, p_idx (by omega) (by omega), p_w (by omega) (by omega), p_idx (by omega) (by omega), if_pos ⟨by omega, g0, q0⟩, e9 _ (by omega)]; rfl
      · rw [if_neg q0, if_neg (fun z => q0 z.2.2)]; rfl
/-- the state of the search -/
def mSo (G : Nat) (Gb Q sa sb : Nat → Int) (hs : am_H) (ord : List Nat) (lev : Nat → Int) (h : am_H) : Prop := OD G (fun i => Q i = 0) (fun i => mOf Gb Q (sa i)) (fun i => mOf Gb Q (sb i)) ord lev ∧ (h 254 166 = (ord.length : Int) ∧ ∀ (t i : Nat), ord[t]? = some i → h 360 t = (i : Int)) ∧ (∀ j, j < G → h 359 j = lev j) ∧ p_fr [359, 360] [(254, 166)] hs h
theorem mo_6 (hG : G ≤ 1500) (e6 : hs 356 = Gb) (e7 : hs 357 = Q) (e1 : hs 254 161 = (G : Int)) (hab : ∀ i, i < G → (hs 361 i = sa i ∧ hs 362 i = sb i) ∧ inp G Gb (sa i) ∧ inp G Gb (sb i)) (x1 : Int) : ∀ (m j : Nat) {x2 : Int} {ord : List Nat} {lev : Nat → Int} {h : am_H} (u4 u5 : Option am_V), j + m = G → mSo G Gb Q sa sb hs ord lev h → ∃ h' ord' lev' x2' w3 w4 w5, am_E (am_D (d + 1)) m_17_180 (.inl 6) [some (am_r (am_a 254)), some (am_i x1), some (am_i x2), some (am_i (j : Int)), u4, u5] [] (zS L, h) = am_E (am_D (d + 1)) m_17_180 (.inl 5) [some (am_r (am_a 254)), some (am_i x1), some (am_i x2'), w3, w4, w5] [] (zS L, h') ∧ mSo G Gb Q sa sb hs ord' lev' h' ∧ ord.length ≤ ord'.length ∧ (x2' = x2 ∧ lev' = lev ∧ ord' = ord ∧ (∀ i, j ≤ i → i < G → Q i = 0 → lvo lev (mOf Gb Q (sa i)) ≠ -1 → lvo lev (mOf Gb Q (sb i)) ≠ -1 → lev i ≠ -1) ∨ x2' = 1 ∧ ord.length < ord'.length)
  | 0, j, x2, ord, lev, h, u4, u5, hm, I => by
    rw [q_17_180_6, I.2.2.2 254 161 rfl rfl, e1, if_neg (by omega)]
    exact ⟨h, ord, lev, x2, _, _, _, rfl, I, Nat.le_refl _, Or.inl ⟨rfl, rfl, rfl, fun i h1 h2 => by omega⟩⟩
  | m + 1, j, x2, ord, lev, h, u4, u5, hm, I => by
    have I' := I
    obtain ⟨I1, ⟨I2, I2'⟩, I3, FR⟩ := I
    obtain ⟨⟨ab1, ab2⟩, in1, in2⟩ := hab j (by omega)
    have c361 : h 361 j = sa j := by rw [FR.cell 361 rfl rfl, ab1]
    have c362 : h 362 j = sb j := by rw [FR.cell 362 rfl rfl, ab2]
    have LA := mo_lev (d := d) (L := L) (h := h) hG (by rw [FR.cell 356 rfl rfl, e6]) (by rw [FR.cell 357 rfl rfl, e7]) I3 in1
    have LB := mo_lev (d := d) (L := L) (h := h) hG (by rw [FR.cell 356 rfl rfl, e6]) (by rw [FR.cell 357 rfl rfl, e7]) I3 in2
    have skip : ∀ (v4 v5 : Option am_V), (Q j = 0 → lvo lev (mOf Gb Q (sa j)) ≠ -1 → lvo lev (mOf Gb Q (sb j)) ≠ -1 → lev j ≠ -1) → ∃ h' ord' lev' x2' w3 w4 w5, am_E (am_D (d + 1)) m_17_180 (.inl 6) [some (am_r (am_a 254)), some (am_i x1), some (am_i x2), some (am_i ((j : Int) + 1)), v4, v5] [] (zS L, h) = am_E (am_D (d + 1)) m_17_180 (.inl 5) [some (am_r (am_a 254)), some (am_i x1), some (am_i x2'), w3, w4, w5] [] (zS L, h') ∧ mSo G Gb Q sa sb hs ord' lev' h' ∧ ord.length ≤ ord'.length ∧ (x2' = x2 ∧ lev' = lev ∧ ord' = ord ∧ (∀ i, j ≤ i → i < G → Q i = 0 → lvo lev (mOf Gb Q (sa i)) ≠ -1 → lvo lev (mOf Gb Q (sb i)) ≠ -1 → lev i ≠ -1) ∨ x2' = 1 ∧ ord.length < ord'.length) := fun v4 v5 nj => by
      obtain ⟨h', ord', lev', x2', w3, w4, w5, r, J, jl, je⟩ := mo_6 hG e6 e7 e1 hab x1 m (j + 1) (x2 := x2) v4 v5 (by omega) I'
      refine ⟨h', ord', lev', x2', w3, w4, w5, r, J, jl, je.imp (fun z => ⟨z.1, z.2.1, z.2.2.1, fun i h1 h2 h3 => ?_⟩) id⟩
      by_cases e : i = j
      · rw [e]; rw [e] at h3; exact nj h3
      · exact z.2.2.2 i (by omega) h2 h3
    rw [q_17_180_6, FR 254 161 rfl rfl, e1, if_pos (by omega), p_idx (by omega) (by omega), Int.toNat_natCast, FR.cell 357 rfl rfl, e7, p_w (x := (j : Int) + 1) (by omega) (by omega)]
    by_cases dj : Q j = 0
    · rw [if_pos dj, p_idx (by omega) (by omega), Int.toNat_natCast, I3 j (by omega)]
      by_cases lj : lev j = -1
      · rw [if_pos lj, p_idx (by omega) (by omega), Int.toNat_natCast, c361, LA, p_xI, p_idx (by omega) (by omega), Int.toNat_natCast, c362, LB, p_xI]
        by_cases ka : lvo lev (mOf Gb Q (sa j)) = -1
        · rw [if_pos ka]
          exact skip _ _ (fun _ z => absurd ka z)
        · rw [if_neg ka]
          by_cases kb : lvo lev (mOf Gb Q (sb j)) = -1
          · rw [if_pos kb]
            exact skip _ _ (fun _ _ z => absurd kb z)
          · have ra' := (I1.lv (mOf Gb Q (sa j))).resolve_left ka
            have rb' := (I1.lv (mOf Gb Q (sb j))).resolve_left kb
            have st := I1.step (i := j) (by omega) dj lj ka kb
            have ol := st.len
            rw [List.length_append, List.length_singleton] at ol
            have mr := mx_rg ra' rb'
            obtain ⟨M, hM⟩ : ∃ M, M = mxi (lvo lev (mOf Gb Q (sa j))) (lvo lev (mOf Gb Q (sb j))) := ⟨_, rfl⟩
            rw [← hM] at st mr
            have E10 : ∀ (v4 v5 : Option am_V), ∃ h' ord' lev' x2' w3 w4 w5, am_E (am_D (d + 1)) m_17_180 (.inl 10) [some (am_r (am_a 254)), some (am_i x1), some (am_i x2), some (am_i (j : Int)), v4, v5] [am_i M, am_i 1, am_i (j : Int), am_r (am_a 359)] (zS L, h) = am_E (am_D (d + 1)) m_17_180 (.inl 5) [some (am_r (am_a 254)), some (am_i x1), some (am_i x2'), w3, w4, w5] [] (zS L, h') ∧ mSo G Gb Q sa sb hs ord' lev' h' ∧ ord.length ≤ ord'.length ∧ (x2' = x2 ∧ lev' = lev ∧ ord' = ord ∧ (∀ i, j ≤ i → i < G → Q i = 0 → lvo lev (mOf Gb Q (sa i)) ≠ -1 → lvo lev (mOf Gb Q (sb i)) ≠ -1 → lev i ≠ -1) ∨ x2' = 1 ∧ ord.length < ord'.length) := fun v4 v5 => by
              have e166 : am_up h 359 j (1 + M) 254 166 = (ord.length : Int) := by rw [p_up_c _ _ _ _ _ (by decide)]; exact I2
              rw [q_17_180_10, p_arr (show (zS L)[359]? = some (1, 1500, []) from rfl), p_idx (by omega) (by omega), Int.toNat_natCast, show ∀ x : Option am_O, cond (Nat.beq 359 0) none x = x from fun _ => rfl, p_w (x := 1 + M) (by omega) (by omega), e166, p_idx (by omega) (by omega), Int.toNat_natCast, p_w (x := (j : Int) + 1) (by omega) (by omega), p_w (x := (ord.length : Int) + 1) (by omega) (by omega)]
              obtain ⟨h2, e2⟩ : ∃ h2, h2 = am_up (am_up (am_up h 359 j (1 + M)) 360 ord.length (j : Int)) 254 166 ((ord.length : Int) + 1) := ⟨_, rfl⟩
              rw [← e2]
              have g359 : h2 359 = p_set (h 359) j (1 + M) := by rw [e2, p_up_c _ _ _ _ _ (by decide), p_up_c _ _ _ _ _ (by decide), p_up_f]
              have g360 : h2 360 = p_set (h 360) ord.length (j : Int) := by rw [e2, p_up_c _ _ _ _ _ (by decide), p_up_f, p_up_c _ _ _ _ _ (by decide)]
              have I9 : mSo G Gb Q sa sb hs (ord ++ [j]) (p_set lev j (1 + M)) h2 := by
                refine ⟨st, ⟨by rw [e2, p_up_s, List.length_append, List.length_singleton]; omega, fun t i ht => ?_⟩, fun i hi => ?_, by rw [e2]; exact ((FR.upc _ _ _ rfl).upc _ _ _ rfl).upf _ _ _ rfl⟩
                · rw [g360]
                  unfold p_set
                  by_cases tl : t < ord.length
                  · rw [if_neg (by omega)]
                    rw [List.getElem?_append_left tl] at ht
                    exact I2' t i ht
                  · rw [List.getElem?_append_right (by omega)] at ht
                    have te : t - ord.length = 0 := by
                      rcases Nat.eq_zero_or_pos (t - ord.length) with z | z
                      · exact z
                      · rw [List.getElem?_eq_none (by show 1 ≤ _; omega)] at ht; cases ht
                    rw [te] at ht
                    injection ht with ht
                    rw [if_pos (by omega), ht]
                · rw [g359]
                  unfold p_set
                  by_cases e : i = j
                  · rw [if_pos e, if_pos e]
                  · rw [if_neg e, if_neg e]; exact I3 i hi
              obtain ⟨h', ord', lev', x2', w3, w4, w5, r, J, jl, je⟩ := mo_6 hG e6 e7 e1 hab x1 m (j + 1) (x2 := 1) v4 v5 (by omega) I9
              rw [List.length_append, List.length_singleton] at jl je
              refine ⟨h', ord', lev', x2', w3, w4, w5, r, J, by omega, Or.inr ⟨?_, by omega⟩⟩
              rcases je with z | z
              · exact z.1
              · exact z.1
            rw [if_neg kb]
            by_cases c : lvo lev (mOf Gb Q (sb j)) < lvo lev (mOf Gb Q (sa j))
            · rw [if_pos c, show lvo lev (mOf Gb Q (sa j)) = M by rw [hM]; unfold mxi; rw [if_neg (by omega)]]
              exact E10 _ _
            · rw [if_neg c, show lvo lev (mOf Gb Q (sb j)) = M by rw [hM]; unfold mxi; rw [if_pos (by omega)]]
              exact E10 _ _
      · rw [if_neg lj]
        exact skip _ _ (fun _ _ _ => lj)
    · rw [if_neg dj]
      exact skip _ _ (fun z => absurd z dj)
theorem mo_5 (hG : G ≤ 1500) (e6 : hs 356 = Gb) (e7 : hs 357 = Q) (e1 : hs 254 161 = (G : Int)) (hab : ∀ i, i < G → (hs 361 i = sa i ∧ hs 362 i = sb i) ∧ inp G Gb (sa i) ∧ inp G Gb (sb i)) (x1 : Int) : ∀ (N : Nat) {ord : List Nat} {lev : Nat → Int} {h : am_H} (u3 u4 u5 : Option am_V), G < N + ord.length → mSo G Gb Q sa sb hs ord lev h → ∃ h' ord' lev', am_E (am_D (d + 1)) m_17_180 (.inl 5) [some (am_r (am_a 254)), some (am_i x1), some (am_i 1), u3, u4, u5] [] (zS L, h) = pI L (if (ord'.length : Int) = x1 then 1 else 0) h' ∧ mSo G Gb Q sa sb hs ord' lev' h' ∧ CLO G (fun i => Q i = 0) (fun i => mOf Gb Q (sa i)) (fun i => mOf Gb Q (sb i)) lev'
  | 0, ord, lev, h, u3, u4, u5, hN, I => by
    have := I.1.len
    omega
  | N + 1, ord, lev, h, u3, u4, u5, hN, I => by
    obtain ⟨h', ord', lev', x2', w3, w4, w5, r, J, jl, je⟩ := mo_6 (d := d) (L := L) hG e6 e7 e1 hab x1 G 0 (x2 := 0) u4 u5 (by omega) I
    rw [show ((0 : Nat) : Int) = 0 from rfl] at r
    rw [q_17_180_5, if_neg (by decide), r]
    rcases je with ⟨z1, z2, z3, z4⟩ | ⟨z1, z2⟩
    · rw [z1, q_17_180_5, if_pos rfl, J.2.1.1]
      refine ⟨h', ord', lev', ?_, J, fun i hi hn a b => by subst z2; exact z4 i (Nat.zero_le _) hi hn a b⟩
      by_cases c : (ord'.length : Int) = x1
      · rw [if_pos c, if_pos c, p_bit1]
      · rw [if_neg c, if_neg c, p_bit0]
    · rw [z1]
      exact mo_5 hG e6 e7 e1 hab x1 N w3 w4 w5 (by omega) J
theorem cz_n (Q : Nat → Int) : ∀ n, cz Q n ≤ n
  | 0 => Nat.le_refl _
  | n + 1 => by
    have := cz_n Q n
    show cz Q n + (if Q n = 0 then 1 else 0) ≤ n + 1
    split <;> omega
theorem mo_1 (hG : G ≤ 1500) (e7 : h 357 = Q) (e1 : h 254 161 = (G : Int)) (u3 u4 u5 : Option am_V) : ∀ (m j : Nat) {h1 : am_H}, j + m = G → (∀ x, x < j → h1 359 x = -1) → p_fr [359] [] h h1 → ∃ h', am_E (am_D d) m_17_180 (.inl 1) [some (am_r (am_a 254)), some (am_i ((cz Q j : Nat) : Int)), some (am_i (j : Int)), u3, u4, u5] [] (zS L, h1) = am_E (am_D d) m_17_180 (.inl 5) [some (am_r (am_a 254)), some (am_i ((cz Q G : Nat) : Int)), some (am_i 1), u3, u4, u5] [] (zS L, h') ∧ (∀ x, x < G → h' 359 x = -1) ∧ p_fr [359] [] h h'
  | 0, j, h1, hm, X, f => by
    rw [q_17_180_1, f 254 161 rfl rfl, e1, if_neg (by omega), show j = G by omega]
    exact ⟨h1, rfl, fun x hx => X x (by omega), f⟩
  | m + 1, j, h1, hm, X, f => by
    have czl : cz Q j ≤ j := cz_n Q j
    have cs : cz Q (j + 1) = cz Q j + (if Q j = 0 then 1 else 0) := rfl
    have next : ∀ v : Int, v = ((cz Q (j + 1) : Nat) : Int) → ∃ h', am_E (am_D d) m_17_180 (.inl 1) [some (am_r (am_a 254)), some (am_i v), some (am_i ((j : Int) + 1)), u3, u4, u5] [] (zS L, am_up h1 359 j (-1)) = am_E (am_D d) m_17_180 (.inl 5) [some (am_r (am_a 254)), some (am_i ((cz Q G : Nat) : Int)), some (am_i 1), u3, u4, u5] [] (zS L, h') ∧ (∀ x, x < G → h' 359 x = -1) ∧ p_fr [359] [] h h' := fun v hv => by
      rw [hv]
      refine mo_1 hG e7 e1 u3 u4 u5 m (j + 1) (by omega) (fun x hx => ?_) (f.upc _ _ _ rfl)
      rw [p_up_f]
      unfold p_set
      by_cases e : x = j
      · rw [if_pos e]
      · rw [if_neg e]; exact X x (by omega)
    rw [q_17_180_1, f 254 161 rfl rfl, e1, if_pos (by omega), p_idx (by omega) (by omega), p_idx (by omega) (by omega), Int.toNat_natCast, f.cell 357 rfl rfl, e7, p_w (x := (j : Int) + 1) (by omega) (by omega)]
    by_cases c : Q j = 0
    · rw [if_pos c, p_w (by omega) (by omega)]
      exact next _ (by rw [cs, if_pos c]; omega)
    · rw [if_neg c]
      exact next _ (by rw [cs, if_neg c]; rfl)
/-- order -/
theorem mo_order (hG : G ≤ 1500) (e1 : h 254 161 = (G : Int)) (hab : ∀ i, i < G → (h 361 i = sa i ∧ h 362 i = sb i) ∧ inp G (h 356) (sa i) ∧ inp G (h 356) (sb i)) : ∃ h' ord lev, am_D (d + 2) 17 180 [am_r (am_a 254)] (zS L, h) = pI L (if ord.length = cz (h 357) G then 1 else 0) h' ∧ OD G (fun i => h 357 i = 0) (fun i => mOf (h 356) (h 357) (sa i)) (fun i => mOf (h 356) (h 357) (sb i)) ord lev ∧ CLO G (fun i => h 357 i = 0) (fun i => mOf (h 356) (h 357) (sa i)) (fun i => mOf (h 356) (h 357) (sb i)) lev ∧ (h' 254 166 = (ord.length : Int) ∧ ∀ (t i : Nat), ord[t]? = some i → h' 360 t = (i : Int)) ∧ (∀ j, j < G → h' 359 j = lev j) ∧ p_fr [359, 360] [(254, 166)] h h' := by
  obtain ⟨h0, eh0⟩ : ∃ h0, h0 = am_up h 254 166 0 := ⟨_, rfl⟩
  have f0 : p_fr [359, 360] [(254, 166)] h h0 := by rw [eh0]; exact (p_fr.refl h).upf _ _ _ rfl
  obtain ⟨h1, r1, a1, f1⟩ := mo_1 (d := d + 1) (L := L) (h := h0) (Q := h 357) hG (f0.cell 357 rfl rfl) (by rw [f0 254 161 rfl rfl]; exact e1) none none none G 0 (h1 := h0) (by omega) (fun x hx => absurd hx (Nat.not_lt_zero _)) (p_fr.refl h0)
  rw [show ((cz (h 357) 0 : Nat) : Int) = 0 from rfl, show ((0 : Nat) : Int) = 0 from rfl] at r1
  rw [D_17_180, ← eh0, r1]
  have FT : p_fr [359, 360] [(254, 166)] h h1 := f0.trans (f1.mono rfl rfl)
  have I0 : mSo G (h 356) (h 357) sa sb h1 [] (fun _ => -1) h1 := ⟨OD_0, ⟨by rw [f1 254 166 rfl rfl, eh0, p_up_s]; rfl, fun t i ht => by cases ht⟩, fun j hj => a1 j hj, p_fr.refl h1⟩
  obtain ⟨h', ord, lev, r, ⟨J1, J2, J3, J4⟩, C⟩ := mo_5 (d := d) (L := L) (hs := h1) hG (FT.cell 356 rfl rfl) (FT.cell 357 rfl rfl) (by rw [FT 254 161 rfl rfl]; exact e1) (fun i hi => by rw [FT.cell 361 rfl rfl, FT.cell 362 rfl rfl]; exact hab i hi) ((cz (h 357) G : Nat) : Int) (G + 1) none none none (by rw [List.length_nil]; omega) I0
  refine ⟨h', ord, lev, ?_, J1, C, J2, J3, FT.trans (J4.mono rfl rfl)⟩
  rw [r]
  by_cases c : ord.length = cz (h 357) G
  · rw [if_pos c, if_pos (by rw [c])]
  · rw [if_neg c, if_neg (fun z => c (Int.natCast_inj.1 z))]
end
