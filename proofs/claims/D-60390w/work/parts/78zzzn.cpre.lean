/-! LOAD, 13: the component's load(), up to the grammar -/
section
variable {L d : Nat}
theorem cl_take {n : Nat} (hn : n ≤ 4000) {u3 : Option am_V} : ∀ (m x : Nat) {h : am_H}, x + m = n → (∀ k, k < n → -128 ≤ h 2 k ∧ h 2 k ≤ 127) → ∃ h', am_E (am_D d) m_0_7 (.inl 3) [some (am_r (am_a 1)), some (am_i (n : Int)), some (am_i (x : Int)), u3] [] (zS L, h) = am_E (am_D d) m_0_7 (.inl 3) [some (am_r (am_a 1)), some (am_i (n : Int)), some (am_i (n : Int)), u3] [] (zS L, h') ∧ (∀ j, x ≤ j → j < n → h' 3 j = h 2 j) ∧ (∀ j, j < x → h' 3 j = h 3 j) ∧ ∀ c, c ≠ 3 → h' c = h c
  | 0, x, h, e, hb => by
    have : x = n := by omega
    subst this
    exact ⟨h, rfl, fun j h1 h2 => by omega, fun _ _ => rfl, fun _ _ => rfl⟩
  | m + 1, x, h, e, hb => by
    have b := hb x (by omega)
    have s8 : am_s8 (h 2 x) = h 2 x := Int.bmod_eq_of_le (by omega) (by omega)
    obtain ⟨h', r, a1, a2, a3⟩ := cl_take hn (u3 := u3) m (x + 1) (h := am_up h 3 x (h 2 x)) (by omega) (by rw [p_up_c _ _ _ _ _ (by decide)]; exact hb)
    refine ⟨h', ?_, fun j h1 h2 => ?_, fun j hj => by rw [a2 j (by omega), p_up_n _ _ _ _ _ _ (Or.inr (by omega))], fun c hc => by rw [a3 c hc, p_up_c _ _ _ _ _ hc]⟩
    · rw [q_0_7_3, if_pos (by omega), p_idx (by omega) (by omega), p_idx (by omega) (by omega), Int.toNat_natCast, s8, p_w (by omega) (by omega)]
      exact r
    · by_cases z : j = x
      · rw [z, a2 x (by omega), p_up_s]
      · rw [a1 j (by omega) h2, p_up_c _ _ _ _ _ (by decide)]
def prC : List Nat := [3, 5, 6, 7, 241, 242, 243]
def prF : List (Nat × Nat) := [(1, 2), (1, 19), (4, 3), (4, 4), (8, 3), (8, 4), (12, 3), (212, 9), (212, 10), (212, 15), (212, 20), (212, 21), (212, 22), (212, 23), (213, 3), (217, 5), (240, 5), (240, 6), (240, 7), (240, 8)]
variable {N0 ws : List (List Int)} {sc ss : Nat → Int} {cc cs : Nat → Nat} {h : am_H} {t : Nat → Int} {n : Nat}
theorem pn_pos_app2 (N G : List (List Int)) {i : Nat} (h : i ≤ N.length) : pn_pos (N ++ G) i = pn_pos N i := by unfold pn_pos; rw [List.take_append_of_le_length h]
theorem pn_pos_end (N G : List (List Int)) : pn_pos (N ++ G) N.length = pn_used N := by unfold pn_pos pn_used; simp
/-- what the grammar is given -/
def cPre (N0 : List (List Int)) (t : Nat → Int) (n k' : Nat) (h hc : am_H) : Prop :=
  lc_S t n k' (lx_toks t n 1000 (n + 1) 0 0 N0).1 (lx_toks t n 1000 (n + 1) 0 0 N0).2 hc ∧ (hc 8 3 = 1572 ∧ hc 8 4 = 152 ∧ hc 12 3 = 9623 ∧ hc 1 19 = 1 ∧ hc 1 2 = 0) ∧ (hc 213 3 = 9 ∧ hc 217 5 = 49 ∧ hc 212 15 = 4 ∧ hc 212 20 = 9 ∧ hc 212 21 = 49 ∧ hc 212 22 = 4 ∧ hc 212 23 = 0 ∧ hc 212 10 = -1) ∧ AGR N0 h hc ∧ p_fr prC prF h hc ∧ (∀ c i, c = 241 ∨ c = 242 ∨ c = 243 → 1001 ≤ i → hc c i = h c i) ∧ (∀ i, 0 ≤ hc 243 i ∧ hc 243 i ≤ 16000) ∧ ∀ k, k < n → hc 3 k = h 2 k
theorem c_pre (I : LST N0 ws sc ss cc cs h) (hn : n ≤ 4000) (hn2 : (n : Int) ≤ h 1 2) (ht : ∀ k, k < n → (-128 ≤ h 2 k ∧ h 2 k ≤ 127) ∧ h 2 k % 256 = t k) :
    ∃ hc k', am_D (d + 12) 0 7 [am_r (am_a 1), am_i (n : Int)] (zS L, h) = am_xI (zS L) (am_E (am_D (d + 10)) m_7_26 (.inl 3) [some (am_r (am_a 212)), some (am_i (n : Int)), some (am_i 0), some (am_i 0)] [] (zS L, hc)) (am_up1 (zS L)) (fun v3 h2 => if v3 = 0 then am_E (am_D (d + 11)) m_0_7 (.inl 7) [some (am_r (am_a 1)), some (am_i (n : Int)), some (am_i v3), none] [am_i 1, am_r (am_a 1)] (zS L, h2) else am_E (am_D (d + 11)) m_0_7 (.inl 7) [some (am_r (am_a 1)), some (am_i (n : Int)), some (am_i v3), none] [am_i 0, am_r (am_a 1)] (zS L, h2)) ∧ cPre N0 t n k' h hc := by
  obtain ⟨F, ⟨e14, e15, e16, e17⟩, told, nms, ⟨k2899, k243⟩, -, -, -⟩ := I
  obtain ⟨⟨Y, Yw, Yn, R⟩, -, -, -, -, ⟨W, w21, w398, w1960, -⟩, -⟩ := F
  obtain ⟨h1, r1, a1, a2, a3⟩ := cl_take (L := L) (d := d + 11) (u3 := none) hn n 0 (h := h) (by omega) (fun k hk => (ht k hk).1)
  have r1 : am_E (am_D (d + 11)) m_0_7 (.inl 3) [some (am_r (am_a 1)), some (am_i (n : Int)), some (am_i 0), none] [] (zS L, h) = _ := r1
  -- the system's counts
  obtain ⟨h2, r2, b1, b2, b3⟩ : ∃ h2, am_E (am_D (d + 11)) m_0_7 (.inl 3) [some (am_r (am_a 1)), some (am_i (n : Int)), some (am_i (n : Int)), none] [] (zS L, h1) = am_E (am_D (d + 11)) m_0_7 (.inl 5) [some (am_r (am_a 1)), some (am_i (n : Int)), some (am_i (n : Int)), none] [] (zS L, h2) ∧ (h2 213 3 = 9 ∧ h2 217 5 = 49 ∧ h2 212 15 = 4) ∧ h2 1 2 = 0 ∧ p_fr [] [(1, 2), (213, 3), (217, 5), (212, 15)] h1 h2 := by
    rcases told with ⟨t1, t2, t3, t4⟩ | ⟨t1, t2, t3, t4⟩
    · refine ⟨am_up h1 1 2 0, ?_, ⟨?_, ?_, ?_⟩, p_up_s _ _ _ _, (p_fr.refl h1).upf _ _ _ rfl⟩
      · rw [q_0_7_3, if_neg (by omega), a3 1 (by decide), if_pos t1]
      · rw [p_up_c _ _ _ _ _ (by decide), a3 213 (by decide)]; exact t2
      · rw [p_up_c _ _ _ _ _ (by decide), a3 217 (by decide)]; exact t3
      · rw [p_up_c _ _ _ _ _ (by decide), a3 212 (by decide)]; exact t4
    · refine ⟨am_up (am_up (am_up (am_up h1 1 2 0) 213 3 9) 217 5 49) 212 15 4, ?_, ⟨?_, ?_, ?_⟩, ?_, ((((p_fr.refl h1).upf _ _ _ rfl).upf _ _ _ rfl).upf _ _ _ rfl).upf _ _ _ rfl⟩
      · have e : ∀ j, am_up h1 1 2 0 212 j = h 212 j := fun j => by rw [p_up_c _ _ _ _ _ (by decide), a3 212 (by decide)]
        rw [q_0_7_3, if_neg (by omega), a3 1 (by decide), t1, if_neg (by decide), D_7_28, e, e, e, t2, t3, t4]
        exact p_xV ..
      · rw [p_up_c _ _ _ _ _ (by decide), p_up_c _ _ _ _ _ (by decide), p_up_s]
      · rw [p_up_c _ _ _ _ _ (by decide), p_up_s]
      · rw [p_up_s]
      · rw [p_up_c _ _ _ _ _ (by decide), p_up_c _ _ _ _ _ (by decide), p_up_c _ _ _ _ _ (by decide), p_up_s]
  have c2 : ∀ c, c ≠ 1 → c ≠ 3 → c ≠ 213 → c ≠ 217 → c ≠ 212 → h2 c = h c := fun c q1 q2 q3 q4 q5 => by
    have : h2 c = h1 c := by
      funext j
      refine b3 c j rfl ?_
      simp [q1, q3, q4, q5]
    rw [this, a3 c q2]
  have f1 : ∀ j, j ≠ 2 → h2 1 j = h 1 j := fun j hj => by rw [b3 1 j rfl (by simp [hj]), a3 1 (by decide)]
  have f212 : ∀ j, j ≠ 15 → h2 212 j = h 212 j := fun j hj => by rw [b3 212 j rfl (by simp [hj]), a3 212 (by decide)]
  have e3 : h2 3 = h1 3 := by funext j; exact b3 3 j rfl rfl
  -- names are forgotten
  obtain ⟨h3, eh3⟩ : ∃ h3, h3 = am_up h2 1 19 1 := ⟨_, rfl⟩
  obtain ⟨h4, r4, n1, n2, n3⟩ : ∃ h4, am_D (d + 11) 9 4 [am_r (am_a 4), am_i (h2 1 6)] (zS L, h3) = pV L h4 ∧ h4 4 3 = (N0.length : Int) ∧ h4 4 4 = (pn_used N0 : Int) ∧ p_fr [] [(4, 3), (4, 4)] h3 h4 := by
    have e6 : h2 1 6 = (N0.length : Int) := by rw [f1 6 (by decide)]; exact e16
    have e4 : ∀ j, h3 4 j = h 4 j := fun j => by rw [eh3, p_up_c _ _ _ _ _ (by decide), c2 4 (by decide) (by decide) (by decide) (by decide) (by decide)]
    have e6' : h3 6 = h 6 := by rw [eh3, p_up_c _ _ _ _ _ (by decide), c2 6 (by decide) (by decide) (by decide) (by decide) (by decide)]
    rw [e6]
    rcases nms with ⟨m1, m2⟩ | ⟨m1, m2⟩
    · refine ⟨_, by rw [D_9_4_4, if_neg (by rw [e4, m1]; omega)], p_up_s _ _ _ _, ?_, ((p_fr.refl h3).upf _ _ _ rfl).upf _ _ _ rfl⟩
      rw [p_up_n _ _ _ _ _ _ (Or.inr (by decide)), p_up_s, e4]; exact m2
    · refine ⟨_, by rw [D_9_4_4, if_pos (by rw [e4]; exact m1), p_idx (by omega) (by omega), Int.toNat_natCast], p_up_s _ _ _ _, ?_, ((p_fr.refl h3).upf _ _ _ rfl).upf _ _ _ rfl⟩
      rw [p_up_n _ _ _ _ _ _ (Or.inr (by decide)), p_up_s, e6']; exact m2
  have c4 : ∀ c, c ≠ 1 → c ≠ 4 → h4 c = h2 c := fun c q1 q2 => by
    have : h4 c = h3 c := by
      funext j
      refine n3 c j rfl ?_
      simp [q2]
    rw [this, eh3, p_up_c _ _ _ _ _ q1]
  have g1 : ∀ j, j ≠ 2 → j ≠ 19 → h4 1 j = h 1 j := fun j q1 q2 => by rw [n3 1 j rfl rfl, eh3, p_up_n _ _ _ _ _ _ (Or.inr q2), f1 j q1]
  -- sizes
  obtain ⟨h5, eh5⟩ : ∃ h5, h5 = am_up (am_up (am_up h4 8 3 (h4 1 4)) 8 4 (h4 1 7)) 12 3 (h4 1 5) := ⟨_, rfl⟩
  obtain ⟨h6, eh6⟩ : ∃ h6, h6 = am_up (am_up (am_up (am_up (am_up (am_up h5 212 23 0) 212 9 0) 212 10 (-1)) 212 20 (h5 213 3)) 212 21 (h5 217 5)) 212 22 (h5 212 15) := ⟨_, rfl⟩
  obtain ⟨h7, eh7⟩ : ∃ h7, h7 = am_up (am_up (am_up (am_up h6 240 5 0) 240 6 (n : Int)) 240 8 1000) 240 7 0 := ⟨_, rfl⟩
  have c7 : ∀ c, c ≠ 8 → c ≠ 12 → c ≠ 212 → c ≠ 240 → h7 c = h4 c := fun c q1 q2 q3 q4 => by
    rw [eh7, p_up_c _ _ _ _ _ q4, p_up_c _ _ _ _ _ q4, p_up_c _ _ _ _ _ q4, p_up_c _ _ _ _ _ q4, eh6, p_up_c _ _ _ _ _ q3, p_up_c _ _ _ _ _ q3, p_up_c _ _ _ _ _ q3, p_up_c _ _ _ _ _ q3, p_up_c _ _ _ _ _ q3, p_up_c _ _ _ _ _ q3, eh5, p_up_c _ _ _ _ _ q2, p_up_c _ _ _ _ _ q1, p_up_c _ _ _ _ _ q1]
  have fr7 : p_fr prC prF h h7 := by
    have x1 : p_fr prC prF h h1 := fun c k hc hf => by rw [a3 c (by rintro rfl; revert hc; decide)]
    have x2 : p_fr prC prF h h2 := x1.trans (b3.mono rfl rfl)
    have x4 : p_fr prC prF h h4 := (by rw [eh3] at n3; exact (x2.upf _ _ _ rfl).trans (n3.mono rfl rfl))
    rw [eh7, eh6, eh5]
    exact (((((((((((((x4.upf _ _ _ rfl).upf _ _ _ rfl).upf _ _ _ rfl).upf _ _ _ rfl).upf _ _ _ rfl).upf _ _ _ rfl).upf _ _ _ rfl).upf _ _ _ rfl).upf _ _ _ rfl).upf _ _ _ rfl).upf _ _ _ rfl).upf _ _ _ rfl).upf _ _ _ rfl)
  have s7 : ∀ j, h7 3 j = h1 3 j := fun j => by rw [c7 3 (by decide) (by decide) (by decide) (by decide), c4 3 (by decide) (by decide), e3]
  have cells : ∀ c, c = 5 ∨ c = 6 ∨ c = 7 ∨ c = 241 ∨ c = 242 ∨ c = 243 → h7 c = h c := fun c hc => by rw [c7 c (by omega) (by omega) (by omega) (by omega), c4 c (by omega) (by omega), c2 c (by omega) (by omega) (by omega) (by omega) (by omega)]
  have S0 : lc_S t n 0 [] N0 h7 := by
    refine ⟨⟨?_, by omega, fun k hk => ?_⟩, by rw [eh7, p_up_s]; rfl, ⟨?_, fun i q hi => (by cases hi)⟩, ?_, ?_, fun i w hi => ?_⟩
    · rw [eh7, p_up_n _ _ _ _ _ _ (Or.inr (by decide)), p_up_n _ _ _ _ _ _ (Or.inr (by decide)), p_up_s]
    · rw [s7, a1 k (by omega) hk]; exact ht k hk
    · rw [eh7, p_up_n _ _ _ _ _ _ (Or.inr (by decide)), p_up_n _ _ _ _ _ _ (Or.inr (by decide)), p_up_n _ _ _ _ _ _ (Or.inr (by decide)), p_up_s]; rfl
    · rw [c7 4 (by decide) (by decide) (by decide) (by decide)]; exact n1
    · rw [c7 4 (by decide) (by decide) (by decide) (by decide)]; exact n2
    · rw [cells 6 (by omega), cells 7 (by omega), cells 5 (by omega)]; exact R i w hi
  obtain ⟨G, g01, g02, g03⟩ := lx_grow (t := t) (n := n) (most := 1000) (n + 1) 0 0 N0
  have tk := fun k (hk : k < n) => S0.1.rg hk
  obtain ⟨sh1, sh2, sh3, -⟩ := lx_shape tk (most := 1000) (n + 1) 0 0 N0 (by omega) (by omega) (by omega)
  obtain ⟨hc, k', r8, lx, S8⟩ := lc_read (d + 5) L (t := t) (n := n) 1000 (by decide) (n + 1) h7 0 [] N0 (some (am_i (n : Int))) (some (am_i 1000)) none none none none S0 (by omega) (by omega) (by rw [eh7, p_up_n _ _ _ _ _ _ (Or.inr (by decide)), p_up_s]; rfl) (by decide) (by
      show (lx_toks t n 1000 (n + 1) 0 0 N0).2.length < 1400
      rw [g01, List.length_append]; omega) (by
      show pn_used (lx_toks t n 1000 (n + 1) 0 0 N0).2 + 16 ≤ 18000
      omega)
  have S8 : lc_S t n k' (lx_toks t n 1000 (n + 1) 0 0 N0).1 (lx_toks t n 1000 (n + 1) 0 0 N0).2 hc := S8
  obtain ⟨lx1, lx2, lx3⟩ := lx
  have cc' : ∀ c, c ≠ 4 → c ≠ 5 → c ≠ 6 → c ≠ 7 → c ≠ 240 → c ≠ 241 → c ≠ 242 → c ≠ 243 → hc c = h7 c := fun c q1 q2 q3 q4 q5 q6 q7 q8 => by
    funext j
    refine lx1 c j ?_ ?_
    · simp [lc_F, q2, q3, q4, q6, q7, q8]
    · simp [lc_P, q1, q5]
  have f7 : ∀ j, h7 212 j = (if j = 22 then 4 else if j = 21 then 49 else if j = 20 then 9 else if j = 10 then -1 else if j = 9 then 0 else if j = 23 then 0 else h4 212 j) := by
    intro j
    have v1 : h5 213 3 = 9 := by rw [eh5, p_up_c _ _ _ _ _ (by decide), p_up_c _ _ _ _ _ (by decide), p_up_c _ _ _ _ _ (by decide), c4 213 (by decide) (by decide)]; exact b1.1
    have v2 : h5 217 5 = 49 := by rw [eh5, p_up_c _ _ _ _ _ (by decide), p_up_c _ _ _ _ _ (by decide), p_up_c _ _ _ _ _ (by decide), c4 217 (by decide) (by decide)]; exact b1.2.1
    have v3 : h5 212 15 = 4 := by rw [eh5, p_up_c _ _ _ _ _ (by decide), p_up_c _ _ _ _ _ (by decide), p_up_c _ _ _ _ _ (by decide), c4 212 (by decide) (by decide)]; exact b1.2.2
    have v4 : h5 212 j = h4 212 j := by rw [eh5, p_up_c _ _ _ _ _ (by decide), p_up_c _ _ _ _ _ (by decide), p_up_c _ _ _ _ _ (by decide)]
    rw [eh7, p_up_c _ _ _ _ _ (by decide), p_up_c _ _ _ _ _ (by decide), p_up_c _ _ _ _ _ (by decide), p_up_c _ _ _ _ _ (by decide), eh6, v1, v2, v3]
    by_cases q1 : j = 22
    · rw [if_pos q1, q1, p_up_s]
    rw [if_neg q1, p_up_n _ _ _ _ _ _ (Or.inr q1)]
    by_cases q2 : j = 21
    · rw [if_pos q2, q2, p_up_s]
    rw [if_neg q2, p_up_n _ _ _ _ _ _ (Or.inr q2)]
    by_cases q3 : j = 20
    · rw [if_pos q3, q3, p_up_s]
    rw [if_neg q3, p_up_n _ _ _ _ _ _ (Or.inr q3)]
    by_cases q4 : j = 10
    · rw [if_pos q4, q4, p_up_s]
    rw [if_neg q4, p_up_n _ _ _ _ _ _ (Or.inr q4)]
    by_cases q5 : j = 9
    · rw [if_pos q5, q5, p_up_s]
    rw [if_neg q5, p_up_n _ _ _ _ _ _ (Or.inr q5)]
    by_cases q6 : j = 23
    · rw [if_pos q6, q6, p_up_s]
    rw [if_neg q6, p_up_n _ _ _ _ _ _ (Or.inr q6), v4]
  have e8 : h7 8 3 = 1572 ∧ h7 8 4 = 152 ∧ h7 12 3 = 9623 := by
    refine ⟨?_, ?_, ?_⟩
    · rw [eh7, p_up_c _ _ _ _ _ (by decide), p_up_c _ _ _ _ _ (by decide), p_up_c _ _ _ _ _ (by decide), p_up_c _ _ _ _ _ (by decide), eh6, p_up_c _ _ _ _ _ (by decide), p_up_c _ _ _ _ _ (by decide), p_up_c _ _ _ _ _ (by decide), p_up_c _ _ _ _ _ (by decide), p_up_c _ _ _ _ _ (by decide), p_up_c _ _ _ _ _ (by decide), eh5, p_up_c _ _ _ _ _ (by decide), p_up_n _ _ _ _ _ _ (Or.inr (by decide)), p_up_s, g1 4 (by decide) (by decide)]; exact e14
    · rw [eh7, p_up_c _ _ _ _ _ (by decide), p_up_c _ _ _ _ _ (by decide), p_up_c _ _ _ _ _ (by decide), p_up_c _ _ _ _ _ (by decide), eh6, p_up_c _ _ _ _ _ (by decide), p_up_c _ _ _ _ _ (by decide), p_up_c _ _ _ _ _ (by decide), p_up_c _ _ _ _ _ (by decide), p_up_c _ _ _ _ _ (by decide), p_up_c _ _ _ _ _ (by decide), eh5, p_up_c _ _ _ _ _ (by decide), p_up_s, g1 7 (by decide) (by decide)]; exact e17
    · rw [eh7, p_up_c _ _ _ _ _ (by decide), p_up_c _ _ _ _ _ (by decide), p_up_c _ _ _ _ _ (by decide), p_up_c _ _ _ _ _ (by decide), eh6, p_up_c _ _ _ _ _ (by decide), p_up_c _ _ _ _ _ (by decide), p_up_c _ _ _ _ _ (by decide), p_up_c _ _ _ _ _ (by decide), p_up_c _ _ _ _ _ (by decide), p_up_c _ _ _ _ _ (by decide), eh5, p_up_s, g1 5 (by decide) (by decide)]; exact e15
  have c1 : ∀ j, hc 1 j = h4 1 j := fun j => by rw [cc' 1 (by decide) (by decide) (by decide) (by decide) (by decide) (by decide) (by decide) (by decide), c7 1 (by decide) (by decide) (by decide) (by decide)]
  have c212 : ∀ j, hc 212 j = h7 212 j := fun j => by rw [cc' 212 (by decide) (by decide) (by decide) (by decide) (by decide) (by decide) (by decide) (by decide)]
  have frc : p_fr prC prF h hc := fr7.trans (lx1.mono rfl rfl)
  have ctab : ∀ c, 211 ≤ c → c ≠ 212 → c ≠ 213 → c ≠ 217 → c ≠ 240 → c ≠ 241 → c ≠ 242 → c ≠ 243 → hc c = h c := fun c q0 q1 q2 q3 q4 q5 q6 q7 => by rw [cc' c (by omega) (by omega) (by omega) (by omega) q4 q5 q6 q7, c7 c (by omega) (by omega) q1 q4, c4 c (by omega) (by omega), c2 c (by omega) (by omega) q2 q3 q1]
  obtain ⟨-, -, ⟨K1, K2⟩, ⟨P1, P2, P3⟩⟩ := S8
  refine ⟨hc, k', ?_, S8, ⟨?_, ?_, ?_, ?_, ?_⟩, ⟨?_, ?_, ?_, ?_, ?_, ?_, ?_, ?_⟩, ⟨fun i hi => ?_, fun j hj => ?_, fun k hk => ?_, ⟨ctab 211 (by decide) (by decide) (by decide) (by decide) (by decide) (by decide) (by decide) (by decide), ctab 297 (by decide) (by decide) (by decide) (by decide) (by decide) (by decide) (by decide) (by decide), ctab 298 (by decide) (by decide) (by decide) (by decide) (by decide) (by decide) (by decide) (by decide), ctab 299 (by decide) (by decide) (by decide) (by decide) (by decide) (by decide) (by decide) (by decide), ctab 300 (by decide) (by decide) (by decide) (by decide) (by decide) (by decide) (by decide) (by decide), ctab 301 (by decide) (by decide) (by decide) (by decide) (by decide) (by decide) (by decide) (by decide)⟩, fun i hi => ?_, fun k hk => ?_⟩, frc, fun c i hc' hi => ?_, fun i => ?_, fun k hk => ?_⟩
  · have r8 : am_E (am_D (d + 9)) m_13_7 (.inl 1) [some (am_r (am_a 240)), some (am_i (n : Int)), some (am_i 1000), some (am_i 1), none, none, none, none] [] (zS L, h7) = pV L hc := r8
    rw [D_0_7, if_neg (by omega), if_neg (by omega), r1, r2, q_0_7_5, p_bit1, ← eh3, r4, p_xV, ← eh5, D_7_26, p_bit0, if_pos rfl, ← eh6, D_13_7, ← eh7, r8, p_xV]
  · rw [cc' 8 (by decide) (by decide) (by decide) (by decide) (by decide) (by decide) (by decide) (by decide)]; exact e8.1
  · rw [cc' 8 (by decide) (by decide) (by decide) (by decide) (by decide) (by decide) (by decide) (by decide)]; exact e8.2.1
  · rw [cc' 12 (by decide) (by decide) (by decide) (by decide) (by decide) (by decide) (by decide) (by decide)]; exact e8.2.2
  · rw [c1, n3 1 19 rfl rfl, eh3, p_up_s]
  · rw [c1, n3 1 2 rfl rfl, eh3, p_up_n _ _ _ _ _ _ (Or.inr (by decide))]; exact b2
  · rw [cc' 213 (by decide) (by decide) (by decide) (by decide) (by decide) (by decide) (by decide) (by decide), c7 213 (by decide) (by decide) (by decide) (by decide), c4 213 (by decide) (by decide)]; exact b1.1
  · rw [cc' 217 (by decide) (by decide) (by decide) (by decide) (by decide) (by decide) (by decide) (by decide), c7 217 (by decide) (by decide) (by decide) (by decide), c4 217 (by decide) (by decide)]; exact b1.2.1
  · rw [c212, f7]; simp; rw [c4 212 (by decide) (by decide)]; exact b1.2.2
  · rw [c212, f7]; rfl
  · rw [c212, f7]; rfl
  · rw [c212, f7]; rfl
  · rw [c212, f7]; rfl
  · rw [c212, f7]; rfl
  · rw [ctab 214 (by decide) (by decide) (by decide) (by decide) (by decide) (by decide) (by decide) (by decide), ctab 215 (by decide) (by decide) (by decide) (by decide) (by decide) (by decide) (by decide) (by decide), ctab 216 (by decide) (by decide) (by decide) (by decide) (by decide) (by decide) (by decide) (by decide)]; exact ⟨rfl, rfl, rfl⟩
  · rw [ctab 218 (by decide) (by decide) (by decide) (by decide) (by decide) (by decide) (by decide) (by decide), ctab 219 (by decide) (by decide) (by decide) (by decide) (by decide) (by decide) (by decide) (by decide), ctab 220 (by decide) (by decide) (by decide) (by decide) (by decide) (by decide) (by decide) (by decide), ctab 221 (by decide) (by decide) (by decide) (by decide) (by decide) (by decide) (by decide) (by decide), ctab 222 (by decide) (by decide) (by decide) (by decide) (by decide) (by decide) (by decide) (by decide)]; exact ⟨rfl, rfl, rfl, rfl, rfl⟩
  · rw [c212, f7, if_neg (by omega), if_neg (by omega), if_neg (by omega), if_neg (by omega), if_neg (by omega), if_neg (by omega), c4 212 (by decide) (by decide), f212 k (by omega)]
  · have gi := List.getElem?_eq_getElem hi
    obtain ⟨x1, x2, -⟩ := R i _ gi
    have gi2 : (lx_toks t n 1000 (n + 1) 0 0 N0).2[i]? = some N0[i] := by rw [g01, List.getElem?_append_left hi]; exact gi
    obtain ⟨y1, y2, -⟩ := P3 i _ gi2
    rw [y1, y2, x1, x2, g01, pn_pos_app2 _ _ (by omega)]
    exact ⟨rfl, rfl⟩
  · -- letters of the system's names
    have find : ∀ (N : List (List Int)) (k : Nat), k < pn_used N → ∃ i w j, N[i]? = some w ∧ j < w.length ∧ k = pn_pos N i + j := by
      intro N
      induction N with
      | nil => intro k hk; exact absurd hk (Nat.not_lt_zero k)
      | cons w N ih =>
        intro k hk
        have hu : pn_used (w :: N) = w.length + pn_used N := by unfold pn_used; simp
        by_cases z : k < w.length
        · exact ⟨0, w, k, rfl, z, by unfold pn_pos; simp⟩
        · obtain ⟨i, v, j, h1, h2, h3⟩ := ih (k - w.length) (by omega)
          refine ⟨i + 1, v, j, h1, h2, ?_⟩
          have : pn_pos (w :: N) (i + 1) = w.length + pn_pos N i := by unfold pn_pos; simp
          omega
    obtain ⟨i, w, j, q1, q2, q3⟩ := find N0 k hk
    have hi : i < N0.length := (List.getElem?_eq_some_iff.1 q1).1
    have gi2 : (lx_toks t n 1000 (n + 1) 0 0 N0).2[i]? = some w := by rw [g01, List.getElem?_append_left hi]; exact q1
    have a := (R i w q1).2.2 j _ (List.getElem?_eq_getElem q2)
    have b := (P3 i w gi2).2.2 j _ (List.getElem?_eq_getElem q2)
    rw [g01, pn_pos_app2 _ _ (by omega)] at b
    rw [q3, b, a]
  · rw [lx3 c i hc' (by rw [K1]; omega), cells c (by omega)]
  · by_cases z : i < (lx_toks t n 1000 (n + 1) 0 0 N0).1.length
    · have gi := List.getElem?_eq_getElem z
      rw [(K2 i _ gi).2.2]
      have := (sh3 i _ gi).2.1.2.2.2.2.2
      omega
    · rw [lx3 243 i (by omega) (by rw [K1]; omega), cells 243 (by omega)]
      exact k243 i
  · rw [cc' 3 (by decide) (by decide) (by decide) (by decide) (by decide) (by decide) (by decide) (by decide), s7, a1 k (by omega) hk]
end
