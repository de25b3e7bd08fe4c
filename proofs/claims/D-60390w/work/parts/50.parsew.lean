/-! PURE LAYER, 20: strings, words, calls are read -/
section
variable (K V P : Nat → Int) (sy w : Bool) (Z : Nat) (g0 : am_H) (L : Nat)
/-- how a part of an e ends -/
def pc_post (deep : Nat) (q : Int × Int × Int × Int × Int × List (Int × Int × Int × Int)) (a : Nat × Nat × ce_S × Nat) (D : Option am_O) : Prop := ∃ h1, D = pV L h1 ∧ pc_N K V P sy w Z g0 a.1 deep a.2.1 a.2.2.1.1 h1 ∧ a.2.2.1.2 = q
end
section
variable {K V P : Nat → Int} {sy w : Bool} {Z : Nat} {g0 : am_H} {i deep st : Nat} {g h : am_H} (d L : Nat)
theorem pn_v (N : pc_N K V P sy w Z g0 i deep st g h) : -32768 ≤ V i ∧ V i ≤ 32767 := N.zz.2.2.1 i N.I.1
/-- the letters of a string -/
theorem pn_chars (hK : K i = 4) {n : Nat} {fr : Nat} (hfr : fr + n ≤ 16000) (cl : Int) (q : Int × Int × Int × Int × Int × List (Int × Int × Int × Int)) : ∀ (m k : Nat) (g h : am_H), k + m = n → pc_N K V P sy w Z g0 i deep st g h →
    pc_o L (am_E (am_D (d + 3)) m_7_65 (.inl 4) [some (am_r (am_a 212)), some (am_i n), some (am_i fr), some (am_i cl), some (am_i k)] [] (zS L, h)) g0
      (gx_b (ce_h (g, q) (ce_chars w sy cl fr m k g)) fun s1 => gx_b (gx_next sy K P i) fun j => .inr (j, st, s1, 0)) (pc_post K V P sy w Z g0 L deep q) := by
  intro m
  induction m with
  | zero =>
    intro k g h e N
    rw [q_7_65_4, if_neg (by omega)]
    refine pn_next d L N ⟨by rw [hK]; decide, by rw [hK]; decide⟩ (fun j h1 _ N1 => ⟨h1, rfl, N1, rfl⟩)
  | succ m ih =>
    intro k g h e N
    rw [q_7_65_4, if_pos (by omega), p_w (by omega) (by omega), p_idx (by omega) (by omega), show ((fr : Int) + (k : Int)).toNat = fr + k by omega, N.R.cell 3 rfl]
    unfold ce_chars
    refine pn_evb L N (em_push d L N.R _ _) (fun g1 h1 _ N1 => ?_)
    rw [N1.R.eq 212 32 rfl]
    refine pn_evb L N1 (em_call (d + 1) L N1.R _ _ _) (fun g2 h2 _ N2 => ?_)
    rw [q_7_65_5, p_w (by omega) (by omega), p_idx (by omega) (by omega), show ((fr : Int) + (k : Int)).toNat = fr + k by omega, N2.R.cell 3 rfl]
    refine pn_evb L N2 (em_li (d + 1) L N2.R (by omega) _ _) (fun g3 h3 _ N3 => ?_)
    rw [N3.R.eq 212 32 rfl]
    refine pn_evb L N3 (em_tcall (d + 1) L N3.R _ _ _) (fun g4 h4 _ N4 => ?_)
    rw [p_w (by omega) (by omega), show ((k : Int) + 1) = ((k + 1 : Nat) : Int) by omega]
    exact ih (k + 1) g4 h4 (by omega) N4
theorem pn_string (N : pc_N K V P sy w Z g0 i deep st g h) (hK : K i = 4) (q : Int × Int × Int × Int × Int × List (Int × Int × Int × Int)) :
    pc_o L (am_D (d + 4) 7 65 [am_r (am_a 212)] (zS L, h)) g0
      (gx_if (sy = true ∨ (st : Int) + V i ≤ 300) (2, P i) (gx_b (ce w sy K V P (5, (i : Int), 0, 0) (g, q)) fun s1 => gx_b (gx_next sy K P i) fun j => .inr (j, st + (V i).toNat, s1, 0))) (pc_post K V P sy w Z g0 L deep q) := by
  have hv := pn_v N
  have e : am_D (d + 4) 7 65 [am_r (am_a 212)] (zS L, h) = am_E (am_D (d + 3)) m_7_65 (.inl 3) [some (am_r (am_a 212)), some (am_i (V i)), none, none, none] [am_i (pB (sy = true ∨ (st : Int) + V i ≤ 300)), am_r (am_a 212)] (zS L, h) := by
    rw [D_7_65, pc_value (d + 2) L N.R N.lt, p_xI, N.R.syq]
    simp only [pB_0]
    by_cases hs : sy = true
    · rw [if_neg (fun z => z hs), pB_t (Or.inl hs)]
    · have s3 := N.ss (by simpa using hs)
      rw [if_pos hs, N.R.2.2.2.1, p_w_w, p_w (by omega) (by omega)]
      by_cases c : (st : Int) + V i ≤ 300
      · rw [if_neg (by omega), pB_t (Or.inr c)]
      · rw [if_pos (by omega), pB_f (fun z => z.elim hs c)]
  rw [e, q_7_65_3]
  refine pn_room (d + 1) L N _ (fun hr => ?_)
  show pc_o L _ g0 (gx_b (ce_h (g, q) (ce_str w sy V P ((i : Int)).toNat g)) _) _
  rw [Int.toNat_natCast]
  unfold ce_str
  refine pn_q L (fun hq => ?_)
  have N1 : pc_N K V P sy w Z g0 i deep (st + (V i).toNat) g (am_up h 212 12 (am_w (h 212 12 + V i))) := by
    have := N.str_ (st + (V i).toNat) (fun hs => by
      rcases hr with z | z
      · rw [hs] at z; cases z
      · omega)
    rw [show ((st + (V i).toNat : Nat) : Int) = (st : Int) + V i by omega] at this
    rw [N.R.2.2.2.1, p_w_w]
    exact this
  rw [pc_here (d + 2) L N1.R N.lt, p_xI, fi_cls (d + 2) L _ N1.R.okh.2.2.2.2.1, p_xI, N1.R.cls, N1.R.eq 212 30 rfl]
  refine pn_evb L N1 (em_push d L N1.R _ _) (fun g1 h1 _ N2 => ?_)
  rw [N2.R.eq 212 31 rfl]
  refine pn_evb L N2 (em_call (d + 1) L N2.R _ _ _) (fun g2 h2 _ N3 => ?_)
  refine pn_evb L N3 (em_li (d + 1) L N3.R (by omega) _ _) (fun g3 h3 _ N4 => ?_)
  rw [N4.R.eq 212 31 rfl]
  refine pn_evb L N4 (em_tcall (d + 1) L N4.R _ _ _) (fun g4 h4 _ N5 => ?_)
  rw [p_w (by omega) (by omega)]
  have := pn_chars d L hK (n := (V i).toNat) (fr := (P i + 1).toNat) (by omega) (ce_cls g (g 212 30)) q (V i).toNat 0 g4 h4 (by omega) N5
  rw [show (((V i).toNat : Nat) : Int) = V i by omega, show (((P i + 1).toNat : Nat) : Int) = P i + 1 by omega] at this
  exact this
/-- true, false, null, this -/
theorem pn_word (N : pc_N K V P sy w Z g0 i deep st g h) (hK : K i = 1) (q : Int × Int × Int × Int × Int × List (Int × Int × Int × Int)) :
    pc_o L (am_D (d + 5) 7 64 [am_r (am_a 212), am_i (V i)] (zS L, h)) g0
      (gx_if (V i = 11 ∨ V i = 12 ∨ V i = 13 ∨ V i = 14) (1, P i) (gx_b (ce w sy K V P (if V i = 14 then (4, (i : Int), 0, 0) else if V i = 11 then (2, 0, 0, 0) else (3, 0, 0, 0)) (g, q)) fun s1 => gx_b (gx_next sy K P i) fun j => .inr (j, st, s1, 0))) (pc_post K V P sy w Z g0 L deep q) := by
  have hK' : K i ≠ 0 ∧ K i ≠ 6 := ⟨by rw [hK]; decide, by rw [hK]; decide⟩
  have e : am_D (d + 5) 7 64 [am_r (am_a 212), am_i (V i)] (zS L, h) = am_E (am_D (d + 4)) m_7_64 (.inl 3) [some (am_r (am_a 212)), some (am_i (V i))] [am_i (pB (V i = 11 ∨ V i = 12 ∨ V i = 13 ∨ V i = 14)), am_r (am_a 212)] (zS L, h) := by
    rw [D_7_64]
    by_cases c1 : V i = 11
    · rw [if_pos c1, pB_t (by omega)]
    · by_cases c2 : V i = 12
      · rw [if_neg c1, if_pos c2, pB_t (by omega)]
      · by_cases c3 : V i = 13
        · rw [if_neg c1, if_neg c2, if_pos c3, pB_t (by omega)]
        · by_cases c4 : V i = 14
          · rw [if_neg c1, if_neg c2, if_neg c3, if_pos c4, pB_t (by omega)]
          · rw [if_neg c1, if_neg c2, if_neg c3, if_neg c4, pB_f (by omega)]
  rw [e, q_7_64_3]
  refine pn_need (d + 2) L N _ (fun hr => ?_)
  by_cases c4 : V i = 14
  · rw [if_pos c4, if_pos c4]
    have e5 : ∀ s0 : Int, s0 = pB (g 212 14 ≠ 2) → pc_o L (am_E (am_D (d + 4)) m_7_64 (.inl 5) [some (am_r (am_a 212)), some (am_i (V i))] [am_i s0, am_r (am_a 212)] (zS L, h)) g0 (gx_b (ce w sy K V P (4, (i : Int), 0, 0) (g, q)) fun s1 => gx_b (gx_next sy K P i) fun j => .inr (j, st, s1, 0)) (pc_post K V P sy w Z g0 L deep q) := by
      intro s0 es
      rw [q_7_64_5, es, pc_here (d + 3) L N.R N.lt, p_xI]
      show pc_o L _ g0 (gx_b (ce_h (g, q) (ce_chk w (g 212 14 ≠ 2) (6, P ((i : Int)).toNat) (gx_b (ce_vm w 0 4 0 g) (ce_li w sy 0 6 0)))) _) _
      rw [Int.toNat_natCast]
      refine pn_chk (d + 2) L N _ _ (fun _ => ?_)
      refine pn_evb L N (em_push (d + 1) L N.R _ _) (fun g1 h1 _ N1 => ?_)
      refine pn_ev L N1 (em_li (d + 2) L N1.R (by omega) _ _) (fun g2 h2 _ N2 => ?_)
      exact pn_next (d + 1) L N2 hK' (fun j h3 _ N3 => ⟨h3, rfl, N3, rfl⟩)
    rw [N.R.eq 212 14 rfl]
    by_cases c : g 212 14 = 2
    · rw [if_pos c]; exact e5 0 (by rw [pB_f (fun z => z c)])
    · rw [if_neg c]; exact e5 1 (by rw [pB_t c])
  · rw [if_neg c4, if_neg c4]
    by_cases c1 : V i = 11
    · simp only [if_pos c1]
      show pc_o L _ g0 (gx_b (ce_h (g, q) (gx_b (ce_vm w 0 0 0 g) fun g => gx_b (ce_li w sy 0 0 0 g) (ce_both w sy 7 7))) _) _
      refine pn_evb L N (em_push (d + 1) L N.R _ _) (fun g1 h1 _ N1 => ?_)
      refine pn_evb L N1 (em_li (d + 2) L N1.R (by omega) _ _) (fun g2 h2 _ N2 => ?_)
      refine pn_ev L N2 (em_both d L N2.R (by omega) (by omega)) (fun g3 h3 _ N3 => ?_)
      exact pn_next (d + 1) L N3 hK' (fun j h3 _ N3 => ⟨h3, rfl, N3, rfl⟩)
    · simp only [if_neg c1]
      show pc_o L _ g0 (gx_b (ce_h (g, q) (gx_b (ce_vm w 0 0 0 g) (ce_li w sy 0 0 0))) _) _
      refine pn_evb L N (em_push (d + 1) L N.R _ _) (fun g1 h1 _ N1 => ?_)
      refine pn_ev L N1 (em_li (d + 2) L N1.R (by omega) _ _) (fun g2 h2 _ N2 => ?_)
      exact pn_next (d + 1) L N2 hK' (fun j h3 _ N3 => ⟨h3, rfl, N3, rfl⟩)
end
