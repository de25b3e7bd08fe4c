/-! TRANSLATOR, 3: labels become places; a sub's beginning -/
/-- a word when labels are known -/
def sttl (h : am_H) (k : Nat) : Int := if h 14 k < 0 then h 13 k else am_s16 (h 15 (h 14 k).toNat)
section
variable {L d : Nat} {h : am_H}
theorem t_settle {u1 : Option am_V} {N : Nat} (hN : N ≤ 32768) : ∀ (j i : Nat) {h : am_H}, i + j = N → h 12 3 = (N : Int) → (∀ k, k < N → h 14 k < 1645) → ∃ h', am_E (am_D d) m_14_30 (.inl 1) [some (am_r (am_a 12)), u1, some (am_i (i : Int))] [] (zS L, h) = pV L h' ∧ (∀ c, c ≠ 13 → h' c = h c) ∧ (∀ k, i ≤ k → k < N → h' 13 k = sttl h k) ∧ (∀ k, k < i ∨ N ≤ k → h' 13 k = h 13 k)
  | 0, i, h, hj, e, hb => by
    have : i = N := by omega
    subst this
    exact ⟨h, by rw [q_14_30_1, e, if_neg (by omega)], fun _ _ => rfl, fun k h1 h2 => by omega, fun _ _ => rfl⟩
  | j + 1, i, h, hj, e, hb => by
    by_cases c : h 14 i < 0
    · obtain ⟨h', r1, r2, r3, r4⟩ := t_settle (u1 := u1) hN j (i + 1) (h := h) (by omega) e hb
      refine ⟨h', ?_, r2, fun k h1 h2 => ?_, fun k hk => r4 k (by omega)⟩
      · rw [q_14_30_1, e, if_pos (by omega), p_idx (by omega) (by omega), Int.toNat_natCast, if_pos c, p_w (by omega) (by omega)]
        exact r1
      · by_cases z : k = i
        · rw [z, r4 i (by omega)]; unfold sttl; rw [if_pos c]
        · exact r3 k (by omega) h2
    · have b := hb i (by omega)
      obtain ⟨h', r1, r2, r3, r4⟩ := t_settle (u1 := u1) hN j (i + 1) (h := am_up h 13 i (am_s16 (h 15 (h 14 i).toNat))) (by omega) (by rw [p_up_c _ _ _ _ _ (by decide)]; exact e) (by rw [p_up_c _ _ _ _ _ (by decide)]; exact hb)
      refine ⟨h', ?_, fun c hc => by rw [r2 c hc, p_up_c _ _ _ _ _ hc], fun k h1 h2 => ?_, fun k hk => by rw [r4 k (by omega), p_up_n _ _ _ _ _ _ (Or.inr (by omega))]⟩
      · rw [q_14_30_1, e, if_pos (by omega), p_idx (by omega) (by omega), Int.toNat_natCast, if_neg c, p_idx (by omega) (by omega), Int.toNat_natCast, p_idx (by omega) (by omega), p_idx (by omega) (by omega), Int.toNat_natCast, p_s16_s16, p_w (by omega) (by omega)]
        exact r1
      · by_cases z : k = i
        · rw [z, r4 i (by omega), p_up_s]; unfold sttl; rw [if_neg c]
        · rw [r3 k (by omega) h2]
          unfold sttl
          rw [p_up_c _ _ _ _ _ (show 14 ≠ 13 by decide), p_up_c _ _ _ _ _ (show 15 ≠ 13 by decide), p_up_n _ _ _ _ _ _ (Or.inr z)]
/-- a watch at the first row -/
theorem TL.mark {h h' : am_H} {e : Int × Int × Int} {l : List (Int × Int × Int)} (T : TL h h' (e :: l)) (m : Int) : TL h (am_up h' 16 (h 12 3).toNat m) ((e.1, e.2.1, m) :: l) := by
  obtain ⟨t1, t2, t3, t4, t5⟩ := T
  refine ⟨by rw [p_up_c _ _ _ _ _ (by decide)]; exact t1, fun j x hj => ?_, fun c k hc hk => ?_, fun j hj => by rw [p_up_c _ _ _ _ _ (by decide)]; exact t4 j hj, fun c c1 c2 c3 c4 => by rw [p_up_c _ _ _ _ _ c4]; exact t5 c c1 c2 c3 c4⟩
  · rw [p_up_c _ _ _ _ _ (show 13 ≠ 16 by decide), p_up_c _ _ _ _ _ (show 14 ≠ 16 by decide)]
    cases j with
    | zero =>
      cases hj
      have q := t2 0 _ rfl
      rw [Nat.add_zero] at q ⊢
      exact ⟨q.1, q.2.1, p_up_s _ _ _ _⟩
    | succ j =>
      have q := t2 (j + 1) x hj
      exact ⟨q.1, q.2.1, by rw [p_up_n _ _ _ _ _ _ (Or.inr (by omega))]; exact q.2.2⟩
  · rcases hc with rfl | rfl | rfl
    · rw [p_up_c _ _ _ _ _ (by decide)]; exact t3 13 k (by omega) hk
    · rw [p_up_c _ _ _ _ _ (by decide)]; exact t3 14 k (by omega) hk
    · rw [p_up_n _ _ _ _ _ _ (Or.inr (by omega))]; exact t3 16 k (by omega) hk
def rloc : Nat → List (Int × Int × Int)
  | 0 => []
  | k + 1 => rx ([-5488] ++ wPush) ++ rloc k
theorem rloc_len : ∀ k, (rloc k).length = 5 * k
  | 0 => rfl
  | k + 1 => by
    show (rx ([-5488] ++ wPush) ++ rloc k).length = _
    rw [List.length_append, rloc_len k]; show 5 + 5 * k = _; omega
theorem TL.refl0 (h : am_H) : TL h h [] := ⟨by show _ = _ + ((0 : Nat) : Int); omega, fun j e hj => (by cases hj), fun _ _ _ _ => rfl, fun _ _ => rfl, fun _ _ _ _ _ => rfl⟩
theorem t_locs {u1 u3 u4 u5 : Option am_V} {nl : Nat} (hn : nl ≤ 100) : ∀ (j i : Nat) {h : am_H}, i + j = nl → 0 ≤ h 12 3 → h 12 3 + 5 * j ≤ 32768 → ∃ h', am_E (am_D (d + 3)) m_14_27 (.inl 2) [some (am_r (am_a 12)), u1, some (am_i (nl : Int)), u3, u4, u5, some (am_i (i : Int))] [] (zS L, h) = pV L h' ∧ TL h h' (rloc j)
  | 0, i, h, hj, h0, h1 => ⟨h, by rw [q_14_27_2, if_neg (by omega)], TL.refl0 h⟩
  | j + 1, i, h, hj, h0, h1 => by
    obtain ⟨g1, r1, T1⟩ := t_put (L := L) (d := d + 1) (h := h) 2 42 (-5488) h0 (by omega) (by decide)
    have s1 : g1 12 3 = h 12 3 + 1 := T1.1
    obtain ⟨g2, r2, T2⟩ := t_push (L := L) (d := d) (h := g1) (by omega) (by omega)
    have s2 : g2 12 3 = g1 12 3 + 4 := T2.1
    obtain ⟨g3, r3, T3⟩ := t_locs (u1 := u1) (u3 := u3) (u4 := u4) (u5 := u5) hn j (i + 1) (h := g2) (by omega) (by omega) (by omega)
    refine ⟨g3, ?_, (T1.app h0 T2).app h0 T3⟩
    rw [q_14_27_2, if_pos (by omega), r1, p_xV, r2, p_xV, p_w (by omega) (by omega)]
    exact r3
/-- rows of a sub's beginning -/
def rfun (w : Int) (an nl : Nat) (wd : Int) : List (Int × Int × Int) := (15, -1, wd) :: (-7416, -1, 0) :: (rx ([(an : Int), -5104] ++ wKeep ((13 : Nat) : Int) ++ [w + 12, -5104] ++ wKeep ((14 : Nat) : Int)) ++ ([(0, 1630, 0), (-5497, -1, 0)] ++ rloc nl))
theorem t_fun {s an nl : Nat} (wd : Int) (hwd : wd = 0 ∨ wd = 1) (hs : s < 130) (ha : an ≤ 32767) (hn : nl ≤ 100) (h0 : 0 ≤ h 12 3) (h1 : h 12 3 + 12 + 5 * nl ≤ 32767) : ∃ h', am_D (d + 4) 14 27 [am_r (am_a 12), am_i (s : Int), am_i (nl : Int), am_i (an : Int), am_i wd] (zS L, h) = pV L h' ∧ TL (am_up h 15 (1500 + s) (h 12 3)) h' (rfun (h 12 3) an nl wd) := by
  obtain ⟨g, hg⟩ : ∃ g, g = am_up h 15 (1500 + s) (h 12 3) := ⟨_, rfl⟩
  have sg : g 12 3 = h 12 3 := by rw [hg, p_up_c _ _ _ _ _ (by decide)]
  obtain ⟨g1, r1, T1⟩ := t_keep (L := L) (d := d) (h := g) 15 ⟨by decide, by decide⟩ (by omega) (by omega)
  have s1 : g1 12 3 = g 12 3 + 2 := T1.1
  obtain ⟨g2, r2, T2⟩ : ∃ g2, (if wd = 0 then g1 else am_up g1 16 (g 12 3).toNat 1) = g2 ∧ TL g g2 [(15, -1, wd), (-7416, -1, 0)] := by
    rcases hwd with rfl | rfl
    · exact ⟨g1, if_pos rfl, T1⟩
    · exact ⟨_, if_neg (by decide), T1.mark 1⟩
  have s2 : g2 12 3 = g 12 3 + 2 := T2.1
  obtain ⟨g3, r3, T3⟩ := t_at (L := L) (d := d + 1) (h := g2) (an : Int) (by omega) (by omega)
  rw [s16_id ⟨by omega, by omega⟩] at T3
  have s3 : g3 12 3 = g2 12 3 + 1 := T3.1
  obtain ⟨g4, r4, T4⟩ := t_put (L := L) (d := d + 1) (h := g3) 2 48 (-5104) (by omega) (by omega) (by decide)
  have s4 : g4 12 3 = g3 12 3 + 1 := T4.1
  obtain ⟨g5, r5, T5⟩ := t_keep (L := L) (d := d) (h := g4) 13 ⟨by decide, by decide⟩ (by omega) (by omega)
  have s5 : g5 12 3 = g4 12 3 + 2 := T5.1
  obtain ⟨g6, r6, T6⟩ := t_at (L := L) (d := d + 1) (h := g5) (h 12 3 + 12) (by omega) (by omega)
  rw [s16_id ⟨by omega, by omega⟩] at T6
  have s6 : g6 12 3 = g5 12 3 + 1 := T6.1
  obtain ⟨g7, r7, T7⟩ := t_put (L := L) (d := d + 1) (h := g6) 2 48 (-5104) (by omega) (by omega) (by decide)
  have s7 : g7 12 3 = g6 12 3 + 1 := T7.1
  obtain ⟨g8, r8, T8⟩ := t_keep (L := L) (d := d) (h := g7) 14 ⟨by decide, by decide⟩ (by omega) (by omega)
  have s8 : g8 12 3 = g7 12 3 + 2 := T8.1
  obtain ⟨g9, r9, T9⟩ := t_go (L := L) (d := d) (h := g8) 1630 (by omega) (by omega) ⟨by decide, by decide⟩
  have s9 : g9 12 3 = g8 12 3 + 2 := T9.1
  obtain ⟨ga, ra, Ta⟩ := t_locs (L := L) (d := d) (u1 := some (am_i (s : Int))) (u3 := some (am_i (an : Int))) (u4 := some (am_i wd)) (u5 := some (am_i (h 12 3))) hn nl 0 (h := g9) (by omega) (by omega) (by omega)
  refine ⟨ga, ?_, ?_⟩
  · have E1 : am_E (am_D (d + 3)) m_14_27 (.inl 1) [some (am_r (am_a 12)), some (am_i (s : Int)), some (am_i (nl : Int)), some (am_i (an : Int)), some (am_i wd), some (am_i (h 12 3)), none] [] (zS L, g2) = pV L ga := by
      rw [q_14_27_1, r3, p_xV, r4, p_xV, r5, p_xV, p_w (by omega) (by omega), show g5 12 3 + 6 = h 12 3 + 12 by omega, r6, p_xV, r7, p_xV, r8, p_xV, D_14_1, p_w (by decide) (by decide)]
      show am_xI (zS L) (pI L (1630 + 0) g8) _ _ = _
      rw [p_xI, show (1630 : Int) + 0 = 1630 from rfl, r9, p_xV]
      exact ra
    rw [D_14_27, D_14_2, p_w (by omega) (by omega)]
    show am_xI (zS L) (pI L (1500 + (s : Int)) h) _ _ = _
    rw [p_xI, D_14_9, p_idx (by omega) (by omega), show (1500 + (s : Int)).toNat = 1500 + s by omega, ← hg]
    show am_xV (zS L) (pV L g) _ _ = _
    rw [p_xV, r1, p_xV, sg]
    rcases hwd with rfl | rfl
    · rw [if_pos rfl] at r2 ⊢
      rw [r2]; exact E1
    · rw [if_neg (by decide)] at r2 ⊢
      rw [p_idx h0 (by omega), show am_s16 1 = 1 by decide]
      rw [sg] at r2
      rw [r2]; exact E1
  · rw [← hg]
    exact T2.app (by omega) ((T3.app (by omega) (T4.app (by omega) (T5.app (by omega) (T6.app (by omega) (T7.app (by omega) T8))))).app (by omega) (T9.app (by omega) Ta))
end
