/-! CHIPS, 63: the board: tick, gates -/
theorem p_bit01 {v : Int} (hv : v = 0 ∨ v = 1) (x : Option am_O) : am_bit v x = x := by
  rcases hv with z | z <;> rw [z]
  · exact p_bit0
  · exact p_bit1
/-- a Dff that changes -/
def gCh (D S : Nat → Int) (o : Nat → Nat) (T : Nat → Int) (i : Nat) : Int := if D i = 0 then 1 else if S (o i) = T i then 1 else 0
section
variable {Bt G ib : Nat} {D Gb Q : Nat → Int} {o ra rb oM : Nat → Nat} {sa sb : Nat → Int} {R : Nat → Nat → Prop} {zc zm : Nat → Prop}
theorem pb_cz (P : PB Bt G ib D Gb Q o ra rb oM sa sb R zc zm) {g g' : Nat → Int} (H : ∀ i j, R i j → (g i = 0 ↔ g' j = 0)) : cz g G = cz g' G := by
  obtain ⟨-, P2, ⟨t1, t2, u1, u2⟩, -⟩ := P
  have cl : ∀ (g : Nat → Int) (n : Nat), cz g n = ((List.range n).filter (fun i => decide (g i = 0))).length := by
    intro g n
    induction n with
    | zero => rfl
    | succ n ih =>
      rw [List.range_succ, List.filter_append, List.length_append, ← ih]
      show cz g n + (if g n = 0 then 1 else 0) = _
      by_cases c : g n = 0
      · rw [if_pos c]; simp [c]
      · rw [if_neg c]; simp [c]
  rw [cl, cl]
  have nd : ∀ g : Nat → Int, ((List.range G).filter (fun i => decide (g i = 0))).Nodup := fun g => List.Sublist.nodup (List.filter_sublist) List.nodup_range
  have mm : ∀ (g : Nat → Int) (i : Nat), i ∈ (List.range G).filter (fun i => decide (g i = 0)) ↔ i < G ∧ g i = 0 := fun g i => by simp [List.mem_filter]
  refine Nat.le_antisymm ?_ ?_
  · refine rel_len (R := R) _ _ (nd g) (fun i hi => ?_) u1
    obtain ⟨z1, z2⟩ := (mm g i).1 hi
    obtain ⟨j, r⟩ := t1 i z1
    exact ⟨j, (mm g' j).2 ⟨(P2 i j r).1.2.1, (H i j r).1 z2⟩, r⟩
  · refine rel_len (R := fun a b => R b a) _ _ (nd g') (fun j hj => ?_) (fun i i' j r r' => u2 j i i' r r')
    obtain ⟨z1, z2⟩ := (mm g' j).1 hj
    obtain ⟨i, r⟩ := t2 j z1
    exact ⟨i, (mm g i).2 ⟨(P2 i j r).1.1, (H i j r).2 z2⟩, r⟩
/-- values when Dffs have taken theirs -/
theorem VR_tick (P : PB Bt G ib D Gb Q o ra rb oM sa sb R zc zm) {S M S1 M1 : Nat → Int} (v : VRx Bt ib o oM R zc zm S M) (a1 : ∀ i, i < G → S1 (o i) = if D i = 0 then S (o i) else S (ra i)) (a2 : ∀ y, (∀ i, i < G → D i ≠ 0 → y ≠ o i) → S1 y = S y) (b1 : ∀ j, j < G → M1 (oM j) = if Q j = 0 then M (oM j) else vM M (sa j)) (b2 : ∀ y, (∀ j, j < G → Q j ≠ 0 → y ≠ oM j) → M1 y = M y) : VRx Bt ib o oM R zc zm S1 M1 ∧ ∀ i j, R i j → (gCh D S o (fun i => S (ra i)) i = 0 ↔ gCh Q M oM (fun j => vM M (sa j)) j = 0) := by
  have P' := P
  obtain ⟨P1, P2, ⟨t1, t2, -⟩, P4, P5, -, P7, P8, P9⟩ := P
  have v' := v
  obtain ⟨⟨v0, v1, v2⟩, v3, v4, v5, v6, v7⟩ := v
  have val : ∀ i j, R i j → S (ra i) = vM M (sa j) := fun i j r => rr_v (P2 i j r).2.1 v1 v2 (fun i j r _ => v3 i j r) v4 v5
  refine ⟨⟨⟨?_, ?_, fun x hx => ?_⟩, fun i j r => ?_, fun r z => ?_, fun y z => ?_, fun r hr => ?_, fun y hy => ?_⟩, fun i j r => ?_⟩
  · rw [a2 0 (fun i hi _ e => by have := (P4 i hi).1; omega)]; exact v0
  · rw [a2 1 (fun i hi _ e => by have := (P4 i hi).1; omega)]; exact v1
  · rw [a2 (2 + x) (fun i hi _ e => by have := (P4 i hi).1; omega), b2 x (fun j hj _ e => by have := (P5 j hj).1; omega)]; exact v2 x hx
  · obtain ⟨⟨i1, j1, dq, -⟩, -⟩ := P2 i j r
    rw [a1 i i1, b1 j j1, ← dq, v3 i j r, val i j r]
  · rw [a2 r (fun i hi _ e => (P4 i hi).2.2 (e ▸ z))]; exact v4 r z
  · rw [b2 y (fun j hj _ e => by have a := (P5 j hj).2.2; have b := (P8 y z).2.2; rw [← e, b] at a; omega)]; exact v5 y z
  · by_cases c : ∃ i, i < G ∧ D i ≠ 0 ∧ r = o i
    · obtain ⟨i, c1, c2, rfl⟩ := c
      rw [a1 i c1, if_neg c2]
      obtain ⟨j, q⟩ := t1 i c1
      exact v6 _ (rr_s P' (P2 i j q).2.1).1
    · rw [a2 r (fun i h1 h2 e => c ⟨i, h1, h2, e⟩)]; exact v6 r hr
  · by_cases c : ∃ j, j < G ∧ Q j ≠ 0 ∧ y = oM j
    · obtain ⟨j, c1, c2, rfl⟩ := c
      rw [b1 j c1, if_neg c2]
      obtain ⟨i, q⟩ := t2 j c1
      exact vM_01 v7 (rr_s P' (P2 i j q).2.1).2.1
    · rw [b2 y (fun j h1 h2 e => c ⟨j, h1, h2, e⟩)]; exact v7 y hy
  · obtain ⟨⟨i1, j1, dq, -⟩, -⟩ := P2 i j r
    show (if D i = 0 then (1 : Int) else if S (o i) = S (ra i) then 1 else 0) = 0 ↔ (if Q j = 0 then (1 : Int) else if M (oM j) = vM M (sa j) then 1 else 0) = 0
    rw [dq, v3 i j r, val i j r]
end
section
variable {d e L : Nat} {c np ni P0 G Bt ib : Nat} {ws : List Int} {o ra rb oM : Nat → Nat} {sa sb lev lev' : Nat → Int} {R : Nat → Nat → Prop} {zc zm : Nat → Prop} {ord ord' : List Nat} {h h' : am_H}
theorem BNx.gt (B : BNx c np ni P0 G Bt ib ws o ra rb oM sa sb lev lev' R zc zm ord ord' h) {i : Nat} (hi : i < G) : G ≤ 1500 ∧ (h 198 i = (ra i : Int) ∧ ra i < 2 + Bt) ∧ (h 200 i = (o i : Int) ∧ o i < 2 + Bt) ∧ (h 201 i = 0 ∨ h 201 i = 1) ∧ 2 + Bt ≤ 40002 := by
  obtain ⟨-, P, X1, -⟩ := B
  obtain ⟨j, r⟩ := P.2.2.1.1 i hi
  obtain ⟨⟨-, -, -, d01⟩, a1, -⟩ := P.2.1 i j r
  have g1 := P.1
  exact ⟨g1.1, ⟨(X1 i hi).1, (rr_s P a1).1⟩, ⟨(X1 i hi).2.2, (P.2.2.2.1 i hi).2.1⟩, d01, by omega⟩
theorem BNx.mt (B : BNx c np ni P0 G Bt ib ws o ra rb oM sa sb lev lev' R zc zm ord ord' h) {j : Nat} (hj : j < G) : G ≤ 1500 ∧ (h 361 j = sa j ∧ sa j < (Bt : Int)) ∧ (h 358 j + (if h 357 j = 0 then 2 else 1) = (oM j : Int) ∧ oM j < Bt) ∧ (h 357 j = 0 ∨ h 357 j = 1) ∧ Bt ≤ 40000 := by
  obtain ⟨-, P, -, X2, -⟩ := B
  obtain ⟨i, r⟩ := P.2.2.1.2.1 j hj
  obtain ⟨⟨-, -, dq, d01⟩, a1, -⟩ := P.2.1 i j r
  have g1 := P.1
  exact ⟨g1.1, ⟨(X2 j hj).1, (rr_s P a1).2.1⟩, ⟨(X2 j hj).2.2.1, (P.2.2.2.2.1 j hj).2.1⟩, by rw [← dq]; exact d01, by omega⟩
theorem bt_c1 (B : BNx c np ni P0 G Bt ib ws o ra rb oM sa sb lev lev' R zc zm ord ord' h) (v6 : ∀ r, r < 2 + Bt → h 197 r = 0 ∨ h 197 r = 1) (x1 : Int) : ∀ (m j : Nat) {h1 : am_H}, j + m = G → (∀ x, x < j → h1 202 x = h 197 (ra x)) → p_fr [202] [] h h1 → ∃ h', am_E (am_D d) m_2_15 (.inl 1) [some (am_r (am_a 195)), some (am_i x1), some (am_i (j : Int))] [] (zS L, h1) = am_E (am_D d) m_2_15 (.inl 3) [some (am_r (am_a 195)), some (am_i x1), some (am_i 0)] [] (zS L, h') ∧ (∀ x, x < G → h' 202 x = h 197 (ra x)) ∧ p_fr [202] [] h h'
  | 0, j, h1, hm, X, f => by
    rw [q_2_15_1, f 195 9 rfl rfl, B.2.2.2.2.2.2.1.1, if_neg (by omega)]
    exact ⟨h1, rfl, fun x hx => X x (by omega), f⟩
  | m + 1, j, h1, hm, X, f => by
    obtain ⟨gl, ⟨a1, a2⟩, -, -, w⟩ := B.gt (show j < G by omega)
    rw [q_2_15_1, f 195 9 rfl rfl, B.2.2.2.2.2.2.1.1, if_pos (by omega), p_idx (by omega) (by omega), Int.toNat_natCast, f.cell 198 rfl rfl, a1, p_idx (by omega) (by omega), Int.toNat_natCast, f.cell 197 rfl rfl, p_bit01 (v6 _ a2), p_idx (by omega) (by omega), Int.toNat_natCast, p_w (by omega) (by omega)]
    refine bt_c1 B v6 x1 m (j + 1) (by omega) (fun x hx => ?_) (f.upc _ _ _ rfl)
    rw [p_up_f]
    unfold p_set
    by_cases e : x = j
    · rw [if_pos e, e]
    · rw [if_neg e]; exact X x (by omega)
theorem bt_c3 (B : BNx c np ni P0 G Bt ib ws o ra rb oM sa sb lev lev' R zc zm ord ord' h) (v6 : ∀ r, r < 2 + Bt → h 197 r = 0 ∨ h 197 r = 1) (hT : ∀ x, x < G → h 202 x = h 197 (ra x)) : ∀ (m j : Nat) {h1 : am_H}, j + m = G → (∀ x, x < j → h1 197 (o x) = if h 201 x = 0 then h 197 (o x) else h 197 (ra x)) → (∀ y, (∀ x, x < j → h 201 x ≠ 0 → y ≠ o x) → h1 197 y = h 197 y) → p_fr [197] [] h h1 → ∃ h1', am_E (am_D (d + 1)) m_2_15 (.inl 3) [some (am_r (am_a 195)), some (am_i ((cz (gCh (h 201) (h 197) o (fun i => h 197 (ra i))) j : Nat) : Int)), some (am_i (j : Int))] [] (zS L, h1) = (am_xV (zS L) (am_D (d + 1) 2 12 [am_r (am_a 195)] (zS L, am_up h1' 195 17 (am_w (h 195 17 + 1)))) (am_up1 (zS L)) fun h1 => pI L ((cz (gCh (h 201) (h 197) o (fun i => h 197 (ra i))) G : Nat) : Int) h1) ∧ (∀ x, x < G → h1' 197 (o x) = if h 201 x = 0 then h 197 (o x) else h 197 (ra x)) ∧ (∀ y, (∀ x, x < G → h 201 x ≠ 0 → y ≠ o x) → h1' 197 y = h 197 y) ∧ p_fr [197] [] h h1'
  | 0, j, h1, hm, X1, X2, f => by
    rw [q_2_15_3, f 195 9 rfl rfl, B.2.2.2.2.2.2.1.1, if_neg (by omega), f 195 17 rfl rfl, show j = G by omega]
    exact ⟨h1, rfl, fun x hx => X1 x (by omega), fun y hy => X2 y (fun x hx => hy x (by omega)), f⟩
  | m + 1, j, h1, hm, X1, X2, f => by
    obtain ⟨gl, ⟨a1, a2⟩, ⟨o1, o2⟩, d01, w⟩ := B.gt (show j < G by omega)
    have inj := B.2.1.2.2.2.2.2.1.1
    have cn := cz_n (gCh (h 201) (h 197) o (fun i => h 197 (ra i))) j
    have cs : cz (gCh (h 201) (h 197) o (fun i => h 197 (ra i))) (j + 1) = cz (gCh (h 201) (h 197) o (fun i => h 197 (ra i))) j + (if gCh (h 201) (h 197) o (fun i => h 197 (ra i)) j = 0 then 1 else 0) := rfl
    rw [q_2_15_3, f 195 9 rfl rfl, B.2.2.2.2.2.2.1.1, if_pos (by omega), p_idx (by omega) (by omega), Int.toNat_natCast, f.cell 201 rfl rfl, p_w (x := (j : Int) + 1) (by omega) (by omega), show (j : Int) + 1 = ((j + 1 : Nat) : Int) by omega]
    have oj : h1 197 (o j) = h 197 (o j) := X2 _ (fun x hx _ e => by have := inj j x (by omega) (by omega) e; omega)
    by_cases z : h 201 j = 0
    · have g1 : gCh (h 201) (h 197) o (fun i => h 197 (ra i)) j = 1 := by unfold gCh; rw [if_pos z]
      rw [if_pos z]
      have := bt_c3 B v6 hT m (j + 1) (h1 := h1) (by omega) (fun x hx => by
        by_cases e : x = j
        · rw [e, if_pos z]; exact oj
        · exact X1 x (by omega)) (fun y hy => X2 y (fun x hx => hy x (by omega))) f
      rw [cs, g1, if_neg (by decide), Nat.add_zero] at this
      exact this
    · have E6 : ∀ s0 : Int, s0 = (if gCh (h 201) (h 197) o (fun i => h 197 (ra i)) j = 0 then 1 else 0) → ∃ h1', am_E (am_D (d + 1)) m_2_15 (.inl 6) [some (am_r (am_a 195)), some (am_i ((cz (gCh (h 201) (h 197) o (fun i => h 197 (ra i))) j : Nat) : Int)), some (am_i (j : Int))] [am_i s0, am_i ((cz (gCh (h 201) (h 197) o (fun i => h 197 (ra i))) j : Nat) : Int)] (zS L, h1) = (am_xV (zS L) (am_D (d + 1) 2 12 [am_r (am_a 195)] (zS L, am_up h1' 195 17 (am_w (h 195 17 + 1)))) (am_up1 (zS L)) fun h1 => pI L ((cz (gCh (h 201) (h 197) o (fun i => h 197 (ra i))) G : Nat) : Int) h1) ∧ (∀ x, x < G → h1' 197 (o x) = if h 201 x = 0 then h 197 (o x) else h 197 (ra x)) ∧ (∀ y, (∀ x, x < G → h 201 x ≠ 0 → y ≠ o x) → h1' 197 y = h 197 y) ∧ p_fr [197] [] h h1' := fun s0 hs => by
        have s01 : 0 ≤ s0 ∧ s0 ≤ 1 := by rw [hs]; split <;> omega
        have ca : ((cz (gCh (h 201) (h 197) o (fun i => h 197 (ra i))) j : Nat) : Int) + s0 = ((cz (gCh (h 201) (h 197) o (fun i => h 197 (ra i))) (j + 1) : Nat) : Int) := by
          rw [cs, hs]; split <;> omega
        rw [q_2_15_6, p_idx (by omega) (by omega), p_idx (by omega) (by omega), Int.toNat_natCast, f.cell 202 rfl rfl, hT j (by omega), p_bit01 (v6 _ a2), f.cell 200 rfl rfl, o1, p_idx (by omega) (by omega), Int.toNat_natCast, p_w (x := _ + s0) (by omega) (by omega), p_w (x := (j : Int) + 1) (by omega) (by omega), ca, show (j : Int) + 1 = ((j + 1 : Nat) : Int) by omega]
        refine bt_c3 B v6 hT m (j + 1) (by omega) (fun x hx => ?_) (fun y hy => ?_) (f.upc _ _ _ rfl)
        · rw [p_up_f]; unfold p_set
          by_cases e : x = j
          · rw [e, if_pos rfl, if_neg z]
          · rw [if_neg (fun q => e (inj x j (by omega) (by omega) q))]; exact X1 x (by omega)
        · rw [p_up_f]; unfold p_set
          rw [if_neg (hy j (by omega) z)]
          exact X2 y (fun x hx => hy x (by omega))
      rw [if_neg z, p_idx (by omega) (by omega), Int.toNat_natCast, f.cell 200 rfl rfl, o1, p_idx (by omega) (by omega), p_idx (by omega) (by omega), Int.toNat_natCast, Int.toNat_natCast, oj, f.cell 202 rfl rfl, hT j (by omega)]
      by_cases q : h 197 (o j) = h 197 (ra j)
      · rw [if_pos q]
        exact E6 0 (by unfold gCh; rw [if_neg z, if_pos q, if_neg (by decide)])
      · rw [if_neg q]
        exact E6 1 (by unfold gCh; rw [if_neg z, if_neg q, if_pos rfl])
theorem bt_m2 (B : BNx c np ni P0 G Bt ib ws o ra rb oM sa sb lev lev' R zc zm ord ord' h) (x1 : Int) : ∀ (m j : Nat) {h1 : am_H}, j + m = G → (∀ x, x < j → h1 366 x = vM (h 363) (sa x)) → p_fr [366] [] h h1 → ∃ h', am_E (am_D (d + 1)) m_17_187 (.inl 2) [some (am_r (am_a 254)), some (am_i x1), some (am_i (j : Int))] [] (zS L, h1) = am_E (am_D (d + 1)) m_17_187 (.inl 4) [some (am_r (am_a 254)), some (am_i x1), some (am_i 0)] [] (zS L, h') ∧ (∀ x, x < G → h' 366 x = vM (h 363) (sa x)) ∧ p_fr [366] [] h h'
  | 0, j, h1, hm, X, f => by
    rw [q_17_187_2, f 254 161 rfl rfl, B.2.2.2.2.2.2.1.2.1, if_neg (by omega)]
    exact ⟨h1, rfl, fun x hx => X x (by omega), f⟩
  | m + 1, j, h1, hm, X, f => by
    obtain ⟨gl, ⟨a1, a2⟩, -, -, w⟩ := B.mt (show j < G by omega)
    rw [q_17_187_2, f 254 161 rfl rfl, B.2.2.2.2.2.2.1.2.1, if_pos (by omega), p_idx (by omega) (by omega), Int.toNat_natCast, f.cell 361 rfl rfl, a1, ms_val (d := d) (by omega), p_xI, p_idx (by omega) (by omega), Int.toNat_natCast, f.cell 363 rfl rfl, p_w (by omega) (by omega)]
    refine bt_m2 B x1 m (j + 1) (by omega) (fun x hx => ?_) (f.upc _ _ _ rfl)
    rw [p_up_f]
    unfold p_set
    by_cases e : x = j
    · rw [if_pos e, e]
    · rw [if_neg e]; exact X x (by omega)
theorem bt_m4 (B : BNx c np ni P0 G Bt ib ws o ra rb oM sa sb lev lev' R zc zm ord ord' h) (hT : ∀ x, x < G → h 366 x = vM (h 363) (sa x)) : ∀ (m j : Nat) {h1 : am_H}, j + m = G → (∀ x, x < j → h1 363 (oM x) = if h 357 x = 0 then h 363 (oM x) else vM (h 363) (sa x)) → (∀ y, (∀ x, x < j → h 357 x ≠ 0 → y ≠ oM x) → h1 363 y = h 363 y) → p_fr [363] [] h h1 → ∃ h1', am_E (am_D (d + 2)) m_17_187 (.inl 4) [some (am_r (am_a 254)), some (am_i ((cz (gCh (h 357) (h 363) oM (fun j => vM (h 363) (sa j))) j : Nat) : Int)), some (am_i (j : Int))] [] (zS L, h1) = (am_xV (zS L) (am_D (d + 2) 17 182 [am_r (am_a 254)] (zS L, am_up h1' 254 173 (am_w (h 254 173 + 1)))) (am_up1 (zS L)) fun h1 => pI L ((cz (gCh (h 357) (h 363) oM (fun j => vM (h 363) (sa j))) G : Nat) : Int) h1) ∧ (∀ x, x < G → h1' 363 (oM x) = if h 357 x = 0 then h 363 (oM x) else vM (h 363) (sa x)) ∧ (∀ y, (∀ x, x < G → h 357 x ≠ 0 → y ≠ oM x) → h1' 363 y = h 363 y) ∧ p_fr [363] [] h h1'
  | 0, j, h1, hm, X1, X2, f => by
    rw [q_17_187_4, f 254 161 rfl rfl, B.2.2.2.2.2.2.1.2.1, if_neg (by omega), f 254 173 rfl rfl, show j = G by omega]
    exact ⟨h1, rfl, fun x hx => X1 x (by omega), fun y hy => X2 y (fun x hx => hy x (by omega)), f⟩
  | m + 1, j, h1, hm, X1, X2, f => by
    obtain ⟨gl, ⟨a1, a2⟩, ⟨o1, o2⟩, d01, w⟩ := B.mt (show j < G by omega)
    have inj := B.2.1.2.2.2.2.2.1.2
    have cn := cz_n (gCh (h 357) (h 363) oM (fun j => vM (h 363) (sa j))) j
    have cs : cz (gCh (h 357) (h 363) oM (fun j => vM (h 363) (sa j))) (j + 1) = cz (gCh (h 357) (h 363) oM (fun j => vM (h 363) (sa j))) j + (if gCh (h 357) (h 363) oM (fun j => vM (h 363) (sa j)) j = 0 then 1 else 0) := rfl
    rw [q_17_187_4, f 254 161 rfl rfl, B.2.2.2.2.2.2.1.2.1, if_pos (by omega), p_idx (by omega) (by omega), Int.toNat_natCast, f.cell 357 rfl rfl, p_w (x := (j : Int) + 1) (by omega) (by omega), show (j : Int) + 1 = ((j + 1 : Nat) : Int) by omega]
    have oj : h1 363 (oM j) = h 363 (oM j) := X2 _ (fun x hx _ e => by have := inj j x (by omega) (by omega) e; omega)
    by_cases z : h 357 j = 0
    · have g1 : gCh (h 357) (h 363) oM (fun j => vM (h 363) (sa j)) j = 1 := by unfold gCh; rw [if_pos z]
      rw [if_pos z]
      have := bt_m4 B hT m (j + 1) (h1 := h1) (by omega) (fun x hx => by
        by_cases e : x = j
        · rw [e, if_pos z]; exact oj
        · exact X1 x (by omega)) (fun y hy => X2 y (fun x hx => hy x (by omega))) f
      rw [cs, g1, if_neg (by decide), Nat.add_zero] at this
      exact this
    · rw [if_neg z] at o1
      have c358 : h1 358 j = (oM j : Int) - 1 := by rw [f.cell 358 rfl rfl]; omega
      have E6 : ∀ x1 : Int, x1 = ((cz (gCh (h 357) (h 363) oM (fun j => vM (h 363) (sa j))) (j + 1) : Nat) : Int) → ∃ h1', am_E (am_D (d + 2)) m_17_187 (.inl 6) [some (am_r (am_a 254)), some (am_i x1), some (am_i (j : Int))] [] (zS L, h1) = (am_xV (zS L) (am_D (d + 2) 17 182 [am_r (am_a 254)] (zS L, am_up h1' 254 173 (am_w (h 254 173 + 1)))) (am_up1 (zS L)) fun h1 => pI L ((cz (gCh (h 357) (h 363) oM (fun j => vM (h 363) (sa j))) G : Nat) : Int) h1) ∧ (∀ x, x < G → h1' 363 (oM x) = if h 357 x = 0 then h 363 (oM x) else vM (h 363) (sa x)) ∧ (∀ y, (∀ x, x < G → h 357 x ≠ 0 → y ≠ oM x) → h1' 363 y = h 363 y) ∧ p_fr [363] [] h h1' := fun x1 hx1 => by
        rw [q_17_187_6, p_idx (by omega) (by omega), p_idx (by omega) (by omega), Int.toNat_natCast, c358, p_w (x := (oM j : Int) - 1 + 1) (by omega) (by omega), p_idx (by omega) (by omega), show ((oM j : Int) - 1 + 1).toNat = oM j by omega, f.cell 366 rfl rfl, hT j (by omega), p_w (x := (j : Int) + 1) (by omega) (by omega), hx1, show (j : Int) + 1 = ((j + 1 : Nat) : Int) by omega]
        refine bt_m4 B hT m (j + 1) (by omega) (fun x hx => ?_) (fun y hy => ?_) (f.upc _ _ _ rfl)
        · rw [p_up_f]; unfold p_set
          by_cases e : x = j
          · rw [e, if_pos rfl, if_neg z]
          · rw [if_neg (fun q => e (inj x j (by omega) (by omega) q))]; exact X1 x (by omega)
        · rw [p_up_f]; unfold p_set
          rw [if_neg (hy j (by omega) z)]
          exact X2 y (fun x hx => hy x (by omega))
      rw [if_neg z, p_idx (by omega) (by omega), Int.toNat_natCast, c358, p_w (x := (oM j : Int) - 1 + 1) (by omega) (by omega), p_idx (by omega) (by omega), p_idx (by omega) (by omega), Int.toNat_natCast, show ((oM j : Int) - 1 + 1).toNat = oM j by omega, oj, f.cell 366 rfl rfl, hT j (by omega)]
      by_cases q : h 363 (oM j) = vM (h 363) (sa j)
      · rw [if_pos q]
        exact E6 _ (by rw [cs]; unfold gCh; rw [if_neg z, if_pos q, if_neg (by decide)]; rfl)
      · rw [if_neg q, p_w (by omega) (by omega)]
        exact E6 _ (by rw [cs, show gCh (h 357) (h 363) oM (fun j => vM (h 363) (sa j)) j = 0 by unfold gCh; rw [if_neg z, if_neg q], if_pos rfl]; omega)
/-- tick -/
theorem q_tick (H : BR h) : ∃ r h1 h2, am_D (d + 3) 0 21 [am_r (am_a 1)] (zS L, h) = pI L r h1 ∧ am_D (e + 3) 17 187 [am_r (am_a 254)] (zS L, h1) = pI L r h2 ∧ BR h2 ∧ p_fr bwC bwF h h2 := by
  obtain ⟨H1, H2, H3⟩ := H
  rcases H3 with z | ⟨eb, c, np, ni, P0, G, Bt, ib, ws, o, ra, rb, oM, sa, sb, lev, lev', R, zc, zm, ord, ord', B, v0, tk⟩
  · refine ⟨-1, h, h, ?_, ?_, ⟨H1, H2, Or.inl z⟩, p_fr.refl h⟩
    · rw [D_0_21, z, if_pos rfl]
    · rw [D_17_187, ← H2, z, if_pos rfl]
  · have em : h 254 152 = 1 := by rw [← H2]; exact eb
    have v6 := v0.2.2.2.2.1
    have v7 := v0.2.2.2.2.2
    obtain ⟨h1, r1, a1, f1⟩ := bt_c1 (d := d + 1) (L := L) B v6 0 G 0 (h1 := h) (by omega) (fun x hx => absurd hx (Nat.not_lt_zero _)) (p_fr.refl h)
    have f1' : p_fr bwC bwF h h1 := f1.mono rfl rfl
    have B1 := B.fr f1'
    obtain ⟨h2, r2, a2, a3, f2⟩ := bt_c3 (d := d) (L := L) B1 (by rw [f1.cell 197 rfl rfl]; exact v6) (by rw [f1.cell 197 rfl rfl]; exact a1) G 0 (h1 := h1) (by omega) (fun x hx => absurd hx (Nat.not_lt_zero _)) (fun y hy => rfl) (p_fr.refl h1)
    obtain ⟨h3, e3⟩ : ∃ h3, h3 = am_up h2 195 17 (am_w (h1 195 17 + 1)) := ⟨_, rfl⟩
    rw [← e3] at r2
    have f3 : p_fr bwC bwF h h3 := by rw [e3]; exact (f1'.trans (f2.mono rfl rfl)).upf _ _ _ rfl
    have B3 := B.fr f3
    obtain ⟨h4, r4, a4, f4⟩ := bn_cset (d := d) (L := L) B3
    have f4' : p_fr bwC bwF h h4 := f3.trans (f4.mono rfl rfl)
    have B4 := B.fr f4'
    have c363 : h4 363 = h 363 := by rw [f4.cell 363 rfl rfl, e3, p_up_c _ _ _ _ _ (by decide), f2.cell 363 rfl rfl, f1.cell 363 rfl rfl]
    obtain ⟨g1, s1, b1, k1⟩ := bt_m2 (d := e + 1) (L := L) B4 0 G 0 (h1 := h4) (by omega) (fun x hx => absurd hx (Nat.not_lt_zero _)) (p_fr.refl h4)
    have k1' : p_fr bwC bwF h4 g1 := k1.mono rfl rfl
    have B5 := B4.fr k1'
    obtain ⟨g2, s2, b2, b3, k2⟩ := bt_m4 (d := e) (L := L) B5 (by rw [k1.cell 363 rfl rfl]; exact b1) G 0 (h1 := g1) (by omega) (fun x hx => absurd hx (Nat.not_lt_zero _)) (fun y hy => rfl) (p_fr.refl g1)
    obtain ⟨g3, e4⟩ : ∃ g3, g3 = am_up g2 254 173 (am_w (g1 254 173 + 1)) := ⟨_, rfl⟩
    rw [← e4] at s2
    have k3 : p_fr bwC bwF h4 g3 := by rw [e4]; exact (k1'.trans (k2.mono rfl rfl)).upf _ _ _ rfl
    have B6 := B4.fr k3
    have d201 : h1 201 = h 201 := f1.cell 201 rfl rfl
    have d197 : h1 197 = h 197 := f1.cell 197 rfl rfl
    have q357 : g1 357 = h 357 := by rw [k1.cell 357 rfl rfl, f4'.cell 357 rfl rfl]
    have q363 : g1 363 = h 363 := by rw [k1.cell 363 rfl rfl, c363]
    rw [d201, d197] at a2 a3 r2
    rw [q357, q363] at b2 b3 s2
    obtain ⟨VT, CT⟩ := VR_tick B.2.1 v0 (S1 := h2 197) (M1 := g2 363) a2 a3 b2 b3
    have ce := pb_cz B.2.1 CT
    have g363 : g3 363 = g2 363 := by rw [e4, p_up_c _ _ _ _ _ (by decide)]
    have h197 : h3 197 = h2 197 := by rw [e3, p_up_c _ _ _ _ _ (by decide)]
    obtain ⟨g4, s4, b4, k4⟩ := bn_mset (d := e) (L := L) B6 (by rw [g363]; exact VT.2.2.2.2.2)
    have FT : p_fr bwC bwF h g4 := (f4'.trans k3).trans (k4.mono rfl rfl)
    refine ⟨((cz (gCh (h 201) (h 197) o (fun i => h 197 (ra i))) G : Nat) : Int), h4, g4, ?_, ?_, ⟨by rw [FT 254 174 rfl rfl]; exact H1, by rw [FT 1 24 rfl rfl, FT 254 152 rfl rfl]; exact H2, Or.inr ⟨by rw [FT 1 24 rfl rfl]; exact eb, c, np, ni, P0, G, Bt, ib, ws, o, ra, rb, oM, sa, sb, lev, lev', R, zc, zm, ord, ord', B.fr FT, ?_, ?_⟩⟩, FT⟩
    · rw [D_0_21, eb, if_neg (by decide), D_2_15]
      rw [show ((0 : Nat) : Int) = 0 from rfl] at r1
      rw [r1]
      have r2' : am_E (am_D (d + 1)) m_2_15 (.inl 3) [some (am_r (am_a 195)), some (am_i 0), some (am_i 0)] [] (zS L, h1) = _ := r2
      rw [r2', r4, p_xV, p_xI]
    · have em4 : h4 254 152 = 1 := by rw [f4' 254 152 rfl rfl]; exact em
      rw [D_17_187, em4, if_neg (by decide)]
      rw [show ((0 : Nat) : Int) = 0 from rfl] at s1
      rw [s1]
      have s2' : am_E (am_D (e + 2)) m_17_187 (.inl 4) [some (am_r (am_a 254)), some (am_i 0), some (am_i 0)] [] (zS L, g1) = _ := s2
      rw [s2', s4, p_xV, ← ce]
    · rw [k4.cell 197 rfl rfl, e4, p_up_c _ _ _ _ _ (by decide), k2.cell 197 rfl rfl, k1.cell 197 rfl rfl, a4, b4, h197, g363]
      exact bn_vset B VT
    · rw [k4 195 17 rfl rfl, k4 254 173 rfl rfl, e4, p_up_s, p_up_c _ _ _ _ _ (by decide), k2 195 17 rfl rfl, k1 195 17 rfl rfl, f4 195 17 rfl rfl, e3, p_up_s, k1 254 173 rfl rfl, f4 254 173 rfl rfl, e3, p_up_c _ _ _ _ _ (by decide), f2 254 173 rfl rfl, f1 254 173 rfl rfl, f1 195 17 rfl rfl, tk]
end
