/-! CHIPS, 3: the component's tokens, all -/
section
variable (d L : Nat) {t : Nat → Int} {n : Nat}
theorem p_getD12 (k : Nat) (hk : k < 12) : List.getD [am_k 38, am_k 39, am_k 40, am_k 41, am_k 42, am_k 43, am_k 44, am_k 45, am_k 46, am_k 47, am_k 48, am_k 49] k am_n = am_k (38 + k) ∧ cx_N0[k]? = some (am_str.getD (38 + k) []) ∧ ∀ j, j < am_sl (38 + k) → 0 ≤ am_sc (38 + k) j ∧ am_sc (38 + k) j ≤ 127 := by
  have : k = 0 ∨ k = 1 ∨ k = 2 ∨ k = 3 ∨ k = 4 ∨ k = 5 ∨ k = 6 ∨ k = 7 ∨ k = 8 ∨ k = 9 ∨ k = 10 ∨ k = 11 := by omega
  rcases this with rfl | rfl | rfl | rfl | rfl | rfl | rfl | rfl | rfl | rfl | rfl | rfl <;> exact ⟨rfl, rfl, by decide⟩
/-- one of the first words is spelled -/
theorem kc_spell {k : Nat} (hk : k < 12) (hl : am_sl (38 + k) ≤ 16) : ∀ (m i : Nat) {h : am_H}, i + m = am_sl (38 + k) → (∀ j, j < i → h 82 j = am_sc (38 + k) j) → ∃ h', am_E (am_D d) m_5_2 (.inl 2) [some (am_r (am_a 73)), some (am_r (am_a 82)), some (am_i (k : Int)), some (am_i (i : Int))] [] (zS L, h) = am_E (am_D d) m_5_2 (.inl 2) [some (am_r (am_a 73)), some (am_r (am_a 82)), some (am_i (k : Int)), some (am_i (am_sl (38 + k) : Nat))] [] (zS L, h') ∧ p_fr [82] [] h h' ∧ ∀ j, j < am_sl (38 + k) → h' 82 j = am_sc (38 + k) j
  | 0, i, h, hi, hj => by
    have : i = am_sl (38 + k) := by omega
    subst this
    exact ⟨h, rfl, p_fr.refl h, hj⟩
  | m + 1, i, h, hi, hj => by
    obtain ⟨g1, g2, g3⟩ := p_getD12 k hk
    have hb : Nat.blt (38 + k) am_ns = true := Nat.ble_eq.mpr (show 38 + k + 1 ≤ 168 by omega)
    have r := g3 i (by omega)
    obtain ⟨h', r1, r2, r3⟩ := kc_spell hk hl m (i + 1) (h := am_up h 82 i (am_sc (38 + k) i)) (by omega) (fun j hj' => by
      by_cases z : j = i
      · rw [z, p_up_s]
      · rw [p_up_n _ _ _ _ _ _ (Or.inr z)]; exact hj j (by omega))
    refine ⟨h', ?_, ((p_fr.refl h).upc _ _ _ rfl).trans r2, r3⟩
    rw [q_5_2_2, p_idx (by omega) (by omega), Int.toNat_natCast, g1]
    show cond (Nat.blt (38 + k) am_ns) _ _ = _
    rw [hb, cond_true, if_pos (by omega), p_idx (by omega) (by omega), Int.toNat_natCast, g1]
    show cond (Nat.blt (38 + k) am_ns) _ _ = _
    rw [hb, cond_true, p_idx (by omega) (by omega), Int.toNat_natCast]
    rw [p_arr (show (zS L)[82]? = some (2, 16, []) from rfl), p_idx (by omega) (by omega), show Nat.beq 82 0 = false from rfl, cond_false, Int.toNat_natCast, p_s8_s8, p_s8 (by omega) (by omega), p_w (x := (i : Int) + 1) (by omega) (by omega)]
    exact r1
theorem kc_first : ∀ (m k : Nat) (u3 : Option am_V) {h : am_H}, k + m = 12 → pnb_R h (cx_N0.take k) → ∃ h', am_E (am_D (d + 2)) m_5_2 (.inl 1) [some (am_r (am_a 73)), some (am_r (am_a 82)), some (am_i (k : Int)), u3] [] (zS L, h) = pV L h' ∧ p_fr (82 :: pnb_F) pnb_P h h' ∧ pnb_R h' cx_N0
  | 0, k, u3, h, hk, R => by
    have : k = 12 := by omega
    subst this
    exact ⟨h, by rw [q_5_2_1, if_neg (by decide)], p_fr.refl h, R⟩
  | m + 1, k, u3, h, hk, R => by
    obtain ⟨g1, g2, g3⟩ := p_getD12 k (by omega)
    have hb : Nat.blt (38 + k) am_ns = true := Nat.ble_eq.mpr (show 38 + k + 1 ≤ 168 by omega)
    have hl : am_sl (38 + k) ≤ 5 ∧ (cx_N0.take k).length ≤ 12 ∧ pn_used (cx_N0.take k) ≤ 60 ∧ pn_add (cx_N0.take k) (am_str.getD (38 + k) []) = cx_N0.take (k + 1) := by
      have : k = 0 ∨ k = 1 ∨ k = 2 ∨ k = 3 ∨ k = 4 ∨ k = 5 ∨ k = 6 ∨ k = 7 ∨ k = 8 ∨ k = 9 ∨ k = 10 ∨ k = 11 := by omega
      rcases this with rfl | rfl | rfl | rfl | rfl | rfl | rfl | rfl | rfl | rfl | rfl | rfl <;> exact ⟨by decide, by decide, by decide, by decide⟩
    obtain ⟨h1, r1, f1, s1⟩ := kc_spell (d + 2) L (k := k) (by omega) (by omega) (am_sl (38 + k)) 0 (h := h) (by omega) (fun j hj => by omega)
    have r1 : am_E (am_D (d + 2)) m_5_2 (.inl 2) [some (am_r (am_a 73)), some (am_r (am_a 82)), some (am_i (k : Int)), some (am_i 0)] [] (zS L, h) = _ := r1
    have R1 : pnb_R h1 (cx_N0.take k) := R.next (f1 74 3 rfl rfl) (f1 74 4 rfl rfl) (f1.cell 75 rfl rfl) (f1.cell 76 rfl rfl) (f1.cell 77 rfl rfl)
    have hw : (am_str.getD (38 + k) []).length = am_sl (38 + k) := rfl
    obtain ⟨h2, a1, a2, a3⟩ := pnb_find d L h1 (a := 82) (na := 16) (ra := []) rfl (by decide) R1 0 (am_str.getD (38 + k) []) (by rw [hw]; omega) (by decide) (fun q x hx => by
      obtain ⟨hq, e⟩ := List.getElem?_eq_some_iff.1 hx
      have : am_sc (38 + k) q = x := by unfold am_sc; rw [List.getD_eq_getElem?_getD, hx]; rfl
      have := g3 q (by rw [hw] at hq; exact hq)
      rw [Nat.zero_add, s1 q (by rw [hw] at hq; exact hq)]
      omega) (by omega) (by rw [hw]; omega)
    rw [hl.2.2.2] at a2
    obtain ⟨h3, r3, f3, R3⟩ := kc_first m (k + 1) (some (am_i (am_sl (38 + k) : Nat))) (h := h2) (by omega) a2
    refine ⟨h3, ?_, ((f1.mono rfl rfl).trans (a3.mono rfl rfl)).trans f3, R3⟩
    rw [q_5_2_1, if_pos (show (k : Int) < ((12 : Nat) : Int) by omega), r1, q_5_2_2, p_idx (by omega) (by omega), Int.toNat_natCast, g1]
    show cond (Nat.blt (38 + k) am_ns) _ _ = _
    rw [hb, cond_true, if_neg (Int.lt_irrefl _), p_idx (by omega) (by omega), Int.toNat_natCast, g1]
    show cond (Nat.blt (38 + k) am_ns) _ _ = _
    rw [hb, cond_true]
    have a1 : am_D (d + 2) 9 1 [am_r (am_a 74), am_r (am_a 82), am_i 0, am_i ((am_sl (38 + k) : Nat) : Int)] (zS L, h1) = _ := a1
    rw [a1, p_xI, p_w (x := (k : Int) + 1) (by omega) (by omega)]
    exact r3
/-- the names that are there from the beginning -/
theorem kc_begin {h : am_H} {N : List (List Int)} (R : pnb_R h N) (hN : N.length ≤ 1400) : ∃ h', am_D (d + 3) 5 2 [am_r (am_a 73)] (zS L, h) = pV L h' ∧ p_fr (82 :: pnb_F) pnb_P h h' ∧ pnb_R h' cx_N0 := by
  rw [D_5_2, D_9_4_74]
  have key : ∃ h1, (if (0 : Int) < h 74 3 then am_idx 0 1400 fun k1 => some (.inl none, (zS L, (am_up (am_up h 74 4 (h 76 k1)) 74 3 0))) else some (.inl none, (zS L, (am_up (am_up h 74 4 (h 74 4)) 74 3 0)))) = pV L h1 ∧ p_fr (82 :: pnb_F) pnb_P h h1 ∧ pnb_R h1 [] := by
    have fin : ∀ v : Int, v = 0 → p_fr (82 :: pnb_F) pnb_P h (am_up (am_up h 74 4 v) 74 3 0) ∧ pnb_R (am_up (am_up h 74 4 v) 74 3 0) [] := fun v hv => ⟨((p_fr.refl h).upf _ _ _ rfl).upf _ _ _ rfl, by rw [p_up_s]; rfl, by rw [p_up_n _ _ _ _ _ _ (Or.inr (by decide)), p_up_s, hv]; rfl, fun i w hw => by cases hw⟩
    obtain ⟨r1, r2, r3⟩ := R
    by_cases c : (0 : Int) < h 74 3
    · rw [if_pos c, p_idx (by decide) (by decide)]
      have hl : 0 < N.length := by omega
      have := (r3 0 _ (List.getElem?_eq_getElem hl)).1
      exact ⟨_, rfl, fin _ this⟩
    · rw [if_neg c]
      have : N = [] := by
        cases N with
        | nil => rfl
        | cons a l => rw [r1] at c; exfalso; apply c; simp
      refine ⟨_, rfl, fin _ (by rw [r2, this]; rfl)⟩
  obtain ⟨h1, e1, f1, R1⟩ := key
  rw [e1, p_xV]
  obtain ⟨h2, e2, f2, R2⟩ := kc_first d L 12 0 none (h := h1) rfl R1
  have e2 : am_E (am_D (d + 2)) m_5_2 (.inl 1) [some (am_r (am_a 73)), some (am_r (am_a 82)), some (am_i 0), none] [] (zS L, h1) = pV L h2 := e2
  exact ⟨h2, e2, f1.trans f2, R2⟩
/-- is there more to read? -/
theorem kc_more {h : am_H} {k : Nat} {tk : List (Int × Int × Int)} {N : List (List Int)} {q : Int × Int × Int} (S : kc_S t n k (tk ++ [q]) N h) (htk : tk.length < 2002) (u1 u2 u3 u4 u5 : Option am_V) :
    am_E (am_D d) m_5_3 (.inl 6) [some (am_r (am_a 73)), u1, u2, u3, u4, u5] [] (zS L, h) = am_E (am_D d) m_5_3 (.inl 1) [some (am_r (am_a 73)), u1, some (am_i (if q.1 = 0 ∨ q.1 = 5 ∨ 2000 < tk.length + 1 then 0 else 1)), u3, u4, u5] [] (zS L, h) := by
  have h5 : h 73 6 = tk.length + 1 := by rw [S.2.2.1.1, List.length_append]; simp
  have hq : h 78 tk.length = q.1 := (S.2.2.1.2 tk.length q (by rw [List.getElem?_append_right (Nat.le_refl _), Nat.sub_self]; rfl)).1
  rw [q_5_3_6, h5, p_w (by omega) (by omega), p_idx (by omega) (by omega), show ((tk.length : Int) + 1 - 1).toNat = tk.length by omega, hq]
  by_cases c1 : q.1 = 0
  · rw [if_pos c1, if_pos (Or.inl c1)]
  · rw [if_neg c1, p_idx (by omega) (by omega), show ((tk.length : Int) + 1 - 1).toNat = tk.length by omega, hq]
    by_cases c2 : q.1 = 5
    · rw [if_pos c2, if_pos (Or.inr (Or.inl c2))]
    · rw [if_neg c2]
      by_cases c3 : 2000 < tk.length + 1
      · rw [if_pos (by omega), if_pos (Or.inr (Or.inr c3))]
      · rw [if_neg (by omega), if_neg (by rintro (z | z | z); exact c1 z; exact c2 z; exact c3 z)]
theorem kc_read : ∀ (m : Nat) (h : am_H) (k : Nat) (tk : List (Int × Int × Int)) (N : List (List Int)) (u1 u3 u4 u5 : Option am_V), kc_S t n k tk N h → k ≤ n → n < k + m → tk.length ≤ 2000 → cx_ok N → cx_Q t n N k →
    ∃ h' k', am_E (am_D (d + 4)) m_5_3 (.inl 1) [some (am_r (am_a 73)), u1, some (am_i 1), u3, u4, u5] [] (zS L, h) = pV L h' ∧ p_fr kc_F kc_P h h' ∧ kc_S t n k' (tk ++ (cx_toks t n 2000 m tk.length k N).1) (cx_toks t n 2000 m tk.length k N).2 h' := by
  intro m
  induction m with
  | zero => intro h k tk N u1 u3 u4 u5 S hk hm; omega
  | succ m ih =>
    intro h k tk N u1 u3 u4 u5 S hk hm htk ok Q
    have hn := S.1.2.1
    obtain ⟨s1, s2, s3, s4⟩ := lx_skip_rg t n (n + 1) k hk (by omega)
    have S1 := S.at_ (lx_skip t n (n + 1) k).2
    rw [q_5_3_1, if_neg (by decide), D_5_5, kc_skip (d + 2) L (n + 1) h k none none S.1 S.2.1 hk (by omega), p_xI, kc_here0 (d + 3) L S1.1 S1.2.1 s2, p_xI, p_up_s]
    unfold cx_toks
    have stop : ∀ (g : am_H) (kk : Nat) (q : Int × Int × Int) (N' : List (List Int)) (v1 v2 v3 v4 v5 : Option am_V), p_fr kc_F kc_P h g → kc_S t n kk (tk ++ [q]) N' g → (q.1 = 0 ∨ q.1 = 5 ∨ 2000 < tk.length + 1) →
        ∃ h' k', am_E (am_D (d + 4)) m_5_3 (.inl 6) [some (am_r (am_a 73)), v1, v2, v3, v4, v5] [] (zS L, g) = pV L h' ∧ p_fr kc_F kc_P h h' ∧ kc_S t n k' (tk ++ [q]) N' h' := by
      intro g kk q N' v1 v2 v3 v4 v5 fr Sg hq
      rw [kc_more (d + 4) L Sg (by omega) v1 v2 v3 v4 v5, if_pos hq, q_5_3_1, if_pos rfl]
      exact ⟨g, kk, rfl, fr, Sg⟩
    by_cases c1 : (lx_skip t n (n + 1) k).1 = false
    · rw [pB_f (by rw [c1]; decide), if_pos rfl, kc_add (d + 3) L S1.2.2.1.1 (by omega) (by omega) (by omega), p_xV, if_pos c1]
      exact stop _ _ _ _ _ _ _ _ _ (kc_fr_add (kc_fr_at (p_fr.refl h) _) _ _ _ _) (S1.add 5 0 _) (Or.inr (Or.inl rfl))
    · have c1' : (lx_skip t n (n + 1) k).1 = true := by simpa using c1
      rw [pB_t c1', if_neg (by decide), if_neg c1]
      by_cases c2 : n ≤ (lx_skip t n (n + 1) k).2
      · have e0 : lx_at t n (lx_skip t n (n + 1) k).2 = -1 := if_neg (by omega)
        rw [e0, if_pos (by decide), kc_add (d + 3) L S1.2.2.1.1 (by omega) (by omega) (by omega), p_xV, if_pos c2]
        exact stop _ _ _ _ _ _ _ _ _ (kc_fr_add (kc_fr_at (p_fr.refl h) _) _ _ _ _) (S1.add 0 0 _) (Or.inl rfl)
      · have hlt : (lx_skip t n (n + 1) k).2 < n := by omega
        have e0 : lx_at t n (lx_skip t n (n + 1) k).2 = t (lx_skip t n (n + 1) k).2 := if_pos hlt
        have hr := S.1.rg hlt
        rw [if_neg c2]
        obtain ⟨o1, o2, o3⟩ := cx_room_res (N := N) hlt s1 ok Q
        generalize (lx_skip t n (n + 1) k).2 = p at *
        have hNl : N.length ≤ 1399 := by
          have := cx_w12 N
          have := cx_w1_le ok
          omega
        have hu : pn_used N + 16 ≤ 18000 := by have := Q.2; omega
        rw [e0, if_neg (by omega)]
        /- behind the token -/
        have go : ∀ (g : am_H) (v1 v2 v3 v4 v5 : Option am_V), p_fr kc_F kc_P h g → kc_S t n (cx_res t n N p).2.2 (tk ++ [(cx_res t n N p).1]) (cx_res t n N p).2.1 g →
            ∃ h' k', am_E (am_D (d + 4)) m_5_3 (.inl 6) [some (am_r (am_a 73)), v1, v2, v3, v4, v5] [] (zS L, g) = pV L h' ∧ p_fr kc_F kc_P h h' ∧ kc_S t n k' (tk ++ (if (cx_res t n N p).1.1 = 5 ∨ 2000 < tk.length + 1 then ([(cx_res t n N p).1], (cx_res t n N p).2.1) else ((cx_res t n N p).1 :: (cx_toks t n 2000 m (tk.length + 1) (cx_res t n N p).2.2 (cx_res t n N p).2.1).1, (cx_toks t n 2000 m (tk.length + 1) (cx_res t n N p).2.2 (cx_res t n N p).2.1).2)).1) (if (cx_res t n N p).1.1 = 5 ∨ 2000 < tk.length + 1 then ([(cx_res t n N p).1], (cx_res t n N p).2.1) else ((cx_res t n N p).1 :: (cx_toks t n 2000 m (tk.length + 1) (cx_res t n N p).2.2 (cx_res t n N p).2.1).1, (cx_toks t n 2000 m (tk.length + 1) (cx_res t n N p).2.2 (cx_res t n N p).2.1).2)).2 h' := by
          intro g v1 v2 v3 v4 v5 fr Sg
          by_cases z : (cx_res t n N p).1.1 = 5 ∨ 2000 < tk.length + 1
          · rw [if_pos z]
            exact stop g _ _ _ v1 v2 v3 v4 v5 fr Sg (Or.inr z)
          · rw [if_neg z]
            obtain ⟨b1, b2, b3, b4, b5, b6⟩ := cx_res_rg (t := t) (N := N) hlt
            rw [kc_more (d + 4) L Sg (by omega) v1 v2 v3 v4 v5, if_neg (by rintro (y | y); omega; exact z y)]
            have hl2 : (tk ++ [(cx_res t n N p).1]).length = tk.length + 1 := by rw [List.length_append]; rfl
            obtain ⟨h', k', a1, a2, a3⟩ := ih g (cx_res t n N p).2.2 (tk ++ [(cx_res t n N p).1]) (cx_res t n N p).2.1 v1 v3 v4 v5 Sg b2 (by omega) (by rw [hl2]; omega) o1 o2
            rw [hl2, List.append_assoc] at a3
            exact ⟨h', k', a1, fr.trans a2, a3⟩
        rw [lc_letter, p_xI]
        have nal : ¬ lx_alpha (t p) → ∃ h' k', (am_xI (zS L) (am_D (d + 4) 13 2 [am_i (t p)] (zS L, am_up h 73 8 (p : Int))) (am_up1 (zS L)) fun v8 h7 => if v8 = 0 then am_xV (zS L) (am_D (d + 4) 5 8 [am_r (am_a 73), am_i (t p), am_i (p : Int)] (zS L, h7)) (am_up1 (zS L)) fun h9 => am_E (am_D (d + 4)) m_5_3 (.inl 6) [some (am_r (am_a 73)), u1, some (am_i 1), some (am_i 1), some (am_i (p : Int)), some (am_i (t p))] [] (zS L, h9) else am_xV (zS L) (am_D (d + 4) 5 7 [am_r (am_a 73), am_i (p : Int)] (zS L, h7)) (am_up1 (zS L)) fun h10 => am_E (am_D (d + 4)) m_5_3 (.inl 6) [some (am_r (am_a 73)), u1, some (am_i 1), some (am_i 1), some (am_i (p : Int)), some (am_i (t p))] [] (zS L, h10)) = pV L h' ∧ p_fr kc_F kc_P h h' ∧ kc_S t n k' (tk ++ (if (cx_res t n N p).1.1 = 5 ∨ 2000 < tk.length + 1 then ([(cx_res t n N p).1], (cx_res t n N p).2.1) else ((cx_res t n N p).1 :: (cx_toks t n 2000 m (tk.length + 1) (cx_res t n N p).2.2 (cx_res t n N p).2.1).1, (cx_toks t n 2000 m (tk.length + 1) (cx_res t n N p).2.2 (cx_res t n N p).2.1).2)).1) (if (cx_res t n N p).1.1 = 5 ∨ 2000 < tk.length + 1 then ([(cx_res t n N p).1], (cx_res t n N p).2.1) else ((cx_res t n N p).1 :: (cx_toks t n 2000 m (tk.length + 1) (cx_res t n N p).2.2 (cx_res t n N p).2.1).1, (cx_toks t n 2000 m (tk.length + 1) (cx_res t n N p).2.2 (cx_res t n N p).2.1).2)).2 h' := by
          intro l1
          rw [lc_digit, p_xI]
          by_cases l2 : lx_digit (t p)
          · rw [pB_t l2, if_neg (by decide)]
            obtain ⟨g, a1, a2, a3⟩ := kc_number (d + 1) L S1 hlt l1 l2 (by omega)
            rw [a1, p_xV]
            exact go g _ _ _ _ _ ((kc_fr_at (p_fr.refl h) _).trans a2) a3
          · rw [pB_f l2, if_pos rfl]
            obtain ⟨g, a1, a2, a3⟩ := kc_sign (d + 2) L S1 hlt l1 l2 (by omega)
            rw [a1, p_xV]
            exact go g _ _ _ _ _ ((kc_fr_at (p_fr.refl h) _).trans a2) a3
        by_cases l1 : lx_letter (t p)
        · rw [pB_t l1, if_neg (by decide)]
          by_cases l3 : t p = 95
          · rw [if_pos l3]
            refine nal ?_
            unfold lx_alpha; omega
          · have al : lx_alpha (t p) := by unfold lx_letter at l1; unfold lx_alpha; omega
            rw [if_neg l3]
            obtain ⟨g, a1, a2, a3⟩ := kc_word (d + 1) L S1 hlt al (by omega) (by omega) hu
            rw [a1, p_xV]
            exact go g _ _ _ _ _ ((kc_fr_at (p_fr.refl h) _).trans a2) a3
        · rw [pB_f l1, if_pos rfl]
          refine nal ?_
          unfold lx_letter at l1
          unfold lx_alpha; omega
end
