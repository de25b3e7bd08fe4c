/-! TRANSLATOR, 1: words are written behind what stands there -/
/-- rows that are written: word, label (or -1), watch -/
def TL (h h' : am_H) (l : List (Int × Int × Int)) : Prop :=
  h' 12 3 = h 12 3 + (l.length : Int) ∧ (∀ j e, l[j]? = some e → h' 13 ((h 12 3).toNat + j) = e.1 ∧ h' 14 ((h 12 3).toNat + j) = e.2.1 ∧ h' 16 ((h 12 3).toNat + j) = e.2.2) ∧ (∀ c k, c = 13 ∨ c = 14 ∨ c = 16 → k < (h 12 3).toNat → h' c k = h c k) ∧ (∀ j, j ≠ 3 → h' 12 j = h 12 j) ∧ ∀ c, c ≠ 12 → c ≠ 13 → c ≠ 14 → c ≠ 16 → h' c = h c
theorem TL.app {h h1 h2 : am_H} {l l' : List (Int × Int × Int)} (h0 : 0 ≤ h 12 3) (a : TL h h1 l) (b : TL h1 h2 l') : TL h h2 (l ++ l') := by
  obtain ⟨a1, a2, a3, a4, a5⟩ := a
  obtain ⟨b1, b2, b3, b4, b5⟩ := b
  have e : (h1 12 3).toNat = (h 12 3).toNat + l.length := by omega
  refine ⟨by rw [b1, a1, List.length_append]; omega, fun j x hj => ?_, fun c k hc hk => by rw [b3 c k hc (by omega), a3 c k hc hk], fun j hj => by rw [b4 j hj, a4 j hj], fun c c1 c2 c3 c4 => by rw [b5 c c1 c2 c3 c4, a5 c c1 c2 c3 c4]⟩
  by_cases z : j < l.length
  · rw [List.getElem?_append_left z] at hj
    rw [b3 13 _ (by omega) (by omega), b3 14 _ (by omega) (by omega), b3 16 _ (by omega) (by omega)]
    exact a2 j x hj
  · rw [List.getElem?_append_right (by omega)] at hj
    have := b2 _ x hj
    rw [e, show (h 12 3).toNat + l.length + (j - l.length) = (h 12 3).toNat + j by omega] at this
    exact this
/-- a call that writes rows -/
def TW (L d i : Nat) (as : List am_V) (h : am_H) (l : List (Int × Int × Int)) : Prop := ∃ h', am_D d 14 i as (zS L, h) = pV L h' ∧ TL h h' l
section
variable {L d : Nat} {h : am_H}
theorem t_word (x : Int) (h0 : 0 ≤ h 12 3) (h1 : h 12 3 < 32768) : TW L (d + 1) 3 [am_r (am_a 12), am_i x] h [(am_s16 x, -1, 0)] := by
  refine ⟨_, by rw [D_14_3, p_idx h0 h1, p_idx h0 h1, p_idx h0 h1, p_s16_s16, p_w (by omega) (by omega)], ?_, fun j e hj => ?_, fun c k hc hk => ?_, fun j hj => ?_, fun c c1 c2 c3 c4 => ?_⟩
  · rw [p_up_s]; rfl
  · have : j = 0 := by
      have := (List.getElem?_eq_some_iff.1 hj).1
      rw [List.length_singleton] at this; omega
    subst this
    cases hj
    rw [Nat.add_zero]
    refine ⟨?_, ?_, ?_⟩
    · rw [p_up_c _ _ _ _ _ (by decide), p_up_c _ _ _ _ _ (by decide), p_up_c _ _ _ _ _ (by decide), p_up_s]
    · rw [p_up_c _ _ _ _ _ (by decide), p_up_c _ _ _ _ _ (by decide), p_up_s]; exact show am_s16 (-1) = -1 by decide
    · rw [p_up_c _ _ _ _ _ (by decide), p_up_s]; exact show am_s16 0 = 0 by decide
  · rcases hc with rfl | rfl | rfl
    · rw [p_up_c _ _ _ _ _ (by decide), p_up_c _ _ _ _ _ (by decide), p_up_c _ _ _ _ _ (by decide), p_up_n _ _ _ _ _ _ (Or.inr (by omega))]
    · rw [p_up_c _ _ _ _ _ (by decide), p_up_c _ _ _ _ _ (by decide), p_up_n _ _ _ _ _ _ (Or.inr (by omega)), p_up_c _ _ _ _ _ (by decide)]
    · rw [p_up_c _ _ _ _ _ (by decide), p_up_n _ _ _ _ _ _ (Or.inr (by omega)), p_up_c _ _ _ _ _ (by decide), p_up_c _ _ _ _ _ (by decide)]
  · rw [p_up_n _ _ _ _ _ _ (Or.inr hj), p_up_c _ _ _ _ _ (by decide), p_up_c _ _ _ _ _ (by decide), p_up_c _ _ _ _ _ (by decide)]
  · rw [p_up_c _ _ _ _ _ c1, p_up_c _ _ _ _ _ c4, p_up_c _ _ _ _ _ c3, p_up_c _ _ _ _ _ c2]
theorem t_at (x : Int) (h0 : 0 ≤ h 12 3) (h1 : h 12 3 < 32768) : TW L (d + 2) 4 [am_r (am_a 12), am_i x] h [(am_s16 x, -1, 0)] := by
  obtain ⟨h', r, T⟩ := t_word (L := L) (d := d) x h0 h1
  exact ⟨h', by rw [D_14_4, r, p_xV], T⟩
theorem t_lab (x : Int) (h0 : 0 ≤ h 12 3) (h1 : h 12 3 < 32768) (hx : rg16 x) : TW L (d + 2) 5 [am_r (am_a 12), am_i x] h [(0, x, 0)] := by
  obtain ⟨h', r, t1, t2, t3, t4, t5⟩ := t_word (L := L) (d := d) 0 h0 h1
  have t1 : h' 12 3 = h 12 3 + 1 := t1
  refine ⟨am_up h' 14 (h 12 3).toNat x, by rw [D_14_5, r, p_xV, t1, p_w (by omega) (by omega), p_idx (by omega) (by omega), p_s16_s16, s16_id hx, show (h 12 3 + 1 - 1).toNat = (h 12 3).toNat by congr 1; omega], ?_, fun j e hj => ?_, fun c k hc hk => ?_, fun j hj => ?_, fun c c1 c2 c3 c4 => ?_⟩
  · rw [p_up_c _ _ _ _ _ (by decide)]; exact t1
  · have : j = 0 := by
      have := (List.getElem?_eq_some_iff.1 hj).1
      rw [List.length_singleton] at this; omega
    subst this
    cases hj
    have q := t2 0 _ rfl
    rw [Nat.add_zero] at q ⊢
    exact ⟨by rw [p_up_c _ _ _ _ _ (by decide)]; exact q.1, by rw [p_up_s], by rw [p_up_c _ _ _ _ _ (by decide)]; exact q.2.2⟩
  · rcases hc with rfl | rfl | rfl
    · rw [p_up_c _ _ _ _ _ (by decide)]; exact t3 13 k (by omega) hk
    · rw [p_up_n _ _ _ _ _ _ (Or.inr (by omega))]; exact t3 14 k (by omega) hk
    · rw [p_up_c _ _ _ _ _ (by decide)]; exact t3 16 k (by omega) hk
  · rw [p_up_c _ _ _ _ _ (by decide)]; exact t4 j hj
  · rw [p_up_c _ _ _ _ _ c3]; exact t5 c c1 c2 c3 c4
theorem t_put (a b w : Int) (h0 : 0 ≤ h 12 3) (h1 : h 12 3 < 32768) (hw : am_s16 (am_or (am_or 57344 (am_shl b 6)) (am_shl a 3)) = w) : TW L (d + 2) 6 [am_r (am_a 12), am_i a, am_i b] h [(w, -1, 0)] := by
  obtain ⟨h', r, T⟩ := t_word (L := L) (d := d) (am_or (am_or 57344 (am_shl b 6)) (am_shl a 3)) h0 h1
  rw [hw] at T
  exact ⟨h', by rw [D_14_6, r, p_xV], T⟩
theorem t_jump (a b w : Int) (h0 : 0 ≤ h 12 3) (h1 : h 12 3 < 32768) (hw : am_s16 (am_or (am_or 57344 (am_shl a 6)) b) = w) : TW L (d + 2) 7 [am_r (am_a 12), am_i a, am_i b] h [(w, -1, 0)] := by
  obtain ⟨h', r, T⟩ := t_word (L := L) (d := d) (am_or (am_or 57344 (am_shl a 6)) b) h0 h1
  rw [hw] at T
  exact ⟨h', by rw [D_14_7, r, p_xV], T⟩
theorem TL.sz {h h' : am_H} {l : List (Int × Int × Int)} (T : TL h h' l) : h' 12 3 = h 12 3 + (l.length : Int) := T.1
theorem t_go (x : Int) (h0 : 0 ≤ h 12 3) (h1 : h 12 3 + 2 ≤ 32768) (hx : rg16 x) : TW L (d + 3) 8 [am_r (am_a 12), am_i x] h [(0, x, 0), (-5497, -1, 0)] := by
  obtain ⟨g1, r1, T1⟩ := t_lab (L := L) (d := d) x h0 (by omega) hx
  have s1 : g1 12 3 = h 12 3 + 1 := T1.1
  obtain ⟨g2, r2, T2⟩ := t_jump (L := L) (d := d) (h := g1) 42 7 (-5497) (by omega) (by omega) (by decide)
  exact ⟨g2, by rw [D_14_8, r1, p_xV, r2, p_xV], T1.app h0 T2⟩
theorem t_push (h0 : 0 ≤ h 12 3) (h1 : h 12 3 + 4 ≤ 32768) : TW L (d + 3) 10 [am_r (am_a 12)] h [(0, -1, 0), (-536, -1, 0), (-4960, -1, 0), (-7416, -1, 0)] := by
  obtain ⟨g1, r1, T1⟩ := t_at (L := L) (d := d) 0 h0 (by omega)
  have s1 : g1 12 3 = h 12 3 + 1 := T1.1
  obtain ⟨g2, r2, T2⟩ := t_put (L := L) (d := d) (h := g1) 5 119 (-536) (by omega) (by omega) (by decide)
  have s2 : g2 12 3 = g1 12 3 + 1 := T2.1
  obtain ⟨g3, r3, T3⟩ := t_put (L := L) (d := d) (h := g2) 4 50 (-4960) (by omega) (by omega) (by decide)
  have s3 : g3 12 3 = g2 12 3 + 1 := T3.1
  obtain ⟨g4, r4, T4⟩ := t_put (L := L) (d := d) (h := g3) 1 12 (-7416) (by omega) (by omega) (by decide)
  exact ⟨g4, by rw [D_14_10, r1, p_xV, r2, p_xV, r3, p_xV, r4, p_xV], T1.app h0 (T2.app (by omega) (T3.app (by omega) T4))⟩
theorem t_pop (h0 : 0 ≤ h 12 3) (h1 : h 12 3 + 3 ≤ 32768) : TW L (d + 3) 11 [am_r (am_a 12)] h [(0, -1, 0), (-856, -1, 0), (-1008, -1, 0)] := by
  obtain ⟨g1, r1, T1⟩ := t_at (L := L) (d := d) 0 h0 (by omega)
  have s1 : g1 12 3 = h 12 3 + 1 := T1.1
  obtain ⟨g2, r2, T2⟩ := t_put (L := L) (d := d) (h := g1) 5 114 (-856) (by omega) (by omega) (by decide)
  have s2 : g2 12 3 = g1 12 3 + 1 := T2.1
  obtain ⟨g3, r3, T3⟩ := t_put (L := L) (d := d) (h := g2) 2 112 (-1008) (by omega) (by omega) (by decide)
  exact ⟨g3, by rw [D_14_11, r1, p_xV, r2, p_xV, r3, p_xV], T1.app h0 (T2.app (by omega) T3)⟩
theorem t_keep (x : Int) (hx : rg16 x) (h0 : 0 ≤ h 12 3) (h1 : h 12 3 + 2 ≤ 32768) : TW L (d + 3) 12 [am_r (am_a 12), am_i x] h [(x, -1, 0), (-7416, -1, 0)] := by
  obtain ⟨g1, r1, T1⟩ := t_at (L := L) (d := d) x h0 (by omega)
  rw [s16_id hx] at T1
  have s1 : g1 12 3 = h 12 3 + 1 := T1.1
  obtain ⟨g2, r2, T2⟩ := t_put (L := L) (d := d) (h := g1) 1 12 (-7416) (by omega) (by omega) (by decide)
  exact ⟨g2, by rw [D_14_12, r1, p_xV, r2, p_xV], T1.app h0 T2⟩
theorem t_take (x : Int) (hx : rg16 x) (h0 : 0 ≤ h 12 3) (h1 : h 12 3 + 2 ≤ 32768) : TW L (d + 3) 13 [am_r (am_a 12), am_i x] h [(x, -1, 0), (-1008, -1, 0)] := by
  obtain ⟨g1, r1, T1⟩ := t_at (L := L) (d := d) x h0 (by omega)
  rw [s16_id hx] at T1
  have s1 : g1 12 3 = h 12 3 + 1 := T1.1
  obtain ⟨g2, r2, T2⟩ := t_put (L := L) (d := d) (h := g1) 2 112 (-1008) (by omega) (by omega) (by decide)
  exact ⟨g2, by rw [D_14_13, r1, p_xV, r2, p_xV], T1.app h0 T2⟩
theorem t_rt {k : Nat} (hk : k < 15) (h0 : 0 ≤ h 12 3) (h1 : h 12 3 + 6 ≤ 32767) : TW L (d + 4) 14 [am_r (am_a 12), am_i (k : Int)] h [(h 12 3 + 6, -1, 0), (-5104, -1, 0), (15, -1, 0), (-7416, -1, 0), (0, 1630 + (k : Int), 0), (-5497, -1, 0)] := by
  obtain ⟨g1, r1, T1⟩ := t_at (L := L) (d := d + 1) (h 12 3 + 6) h0 (by omega)
  rw [s16_id ⟨by omega, by omega⟩] at T1
  have s1 : g1 12 3 = h 12 3 + 1 := T1.1
  obtain ⟨g2, r2, T2⟩ := t_put (L := L) (d := d + 1) (h := g1) 2 48 (-5104) (by omega) (by omega) (by decide)
  have s2 : g2 12 3 = g1 12 3 + 1 := T2.1
  obtain ⟨g3, r3, T3⟩ := t_keep (L := L) (d := d) (h := g2) 15 ⟨by decide, by decide⟩ (by omega) (by omega)
  have s3 : g3 12 3 = g2 12 3 + 2 := T3.1
  obtain ⟨g4, r4, T4⟩ := t_go (L := L) (d := d) (h := g3) (1630 + (k : Int)) (by omega) (by omega) ⟨by omega, by omega⟩
  exact ⟨g4, by rw [D_14_14, p_w (by omega) (by omega), r1, p_xV, r2, p_xV, r3, p_xV, D_14_1, p_w (by omega) (by omega)]; show am_xI (zS L) (pI L (1630 + (k : Int)) g3) _ _ = _; rw [p_xI, r4, p_xV], T1.app h0 (T2.app (by omega) (T3.app (by omega) T4))⟩
end
