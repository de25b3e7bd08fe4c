/-! CHIPS, 4: the model's tokens -/
theorem wo_169 : wo_row 169 cx_ws := wo_row_of ⟨by decide, by decide⟩ (by decide) ⟨by decide, by decide⟩ (by decide)
/-- the model's token -/
def cx_mtok (t : Nat → Int) (n k : Nat) : Int × Int × Int × Int :=
  if (cx_tok t n k).1 = 2 then (if lx_span t k (cx_tok t n k).2.2 ∈ cx_ws then 5 else 1, (k : Int), (((cx_tok t n k).2.2 - k : Nat) : Int), wo_idx cx_ws (lx_span t k (cx_tok t n k).2.2))
  else if (cx_tok t n k).1 = 3 then (2, (k : Int), (((cx_tok t n k).2.2 - k : Nat) : Int), (cx_tok t n k).2.1)
  else (4, (k : Int), (((cx_tok t n k).2.2 - k : Nat) : Int), t k)
section
variable (d L : Nat) {t : Nat → Int} {n : Nat} {h : am_H} {tk : List (Int × Int × Int × Int)}
theorem km_number (S : lm_S t n tk h) {k : Nat} (hk : k < n) (hl : ¬ lx_alpha (t k)) (hd : lx_digit (t k)) (htk : tk.length < 2002) :
    ∃ h', am_D (d + 3) 17 13 [am_r (am_a 254), am_i k, am_i 2, am_i 99] (zS L, h) = pI L (if (cx_tok t n k).1 = 5 then -1 else ((cx_tok t n k).2.2 : Int)) h' ∧ p_fr lm_F lm_P h h' ∧ ((cx_tok t n k).1 = 5 → h' = h) ∧ ((cx_tok t n k).1 ≠ 5 → lm_S t n (tk ++ [cx_mtok t n k]) h') := by
  obtain ⟨r1, r2, r3, r4⟩ := lx_digs_rg (t := t) (n := n) n k (by omega) (by omega)
  have H := S.1
  have hn := H.2.1
  have hmin := lx_digs_min (t := t) (n := n) 3 n k (by omega)
  have e1 := lm_digs (d + 1) L H k 2 (by omega) 99 3 k 0 (by omega) (by omega) (by omega) (by omega) (by decide)
  rw [D_17_13]
  have e1' : am_E (am_D (d + 2)) m_17_13 (.inl 1) [some (am_r (am_a 254)), some (am_i (k : Int)), some (am_i 2), some (am_i 99), some (am_i (k : Int)), some (am_i 0)] [] (zS L, h) = am_E (am_D (d + 2)) m_17_13 (.inl 2) [some (am_r (am_a 254)), some (am_i (k : Int)), some (am_i 2), some (am_i 99), some (am_i ((lx_digs t n 3 k : Nat) : Int)), some (am_i (lx_num t (lx_digs t n 3 k - k) k 0))] [] (zS L, h) := e1
  have tr := (cx_tok_rg (t := t) hk).2.2.2.2
  rw [e1', q_17_13_2, p_w (by omega) (by omega)]
  by_cases c5 : lx_digs t n n k - k ≤ 2
  · have e6 : lx_digs t n 3 k = lx_digs t n n k := by omega
    rw [e6, if_neg (by omega), lm_at (d + 1) L H, p_xI, lm_part, p_xI]
    simp only [pB_0]
    by_cases c : ¬ lx_part (lx_at t n (lx_digs t n n k))
    · have et : cx_tok t n k = (3, lx_num t (lx_digs t n n k - k) k 0, lx_digs t n n k) := by unfold cx_tok; rw [if_neg hl, if_pos hd, if_pos ⟨c5, c⟩]
      rw [et] at tr
      have tr := tr rfl
      dsimp only at tr
      rw [if_pos c, if_neg (by omega), et, lm_add (d + 1) L S.2.1 htk (by omega), p_xV]
      refine ⟨_, rfl, lm_fr_add (p_fr.refl h) _ _ _ _ _, fun z => (by cases z), fun _ => ?_⟩
      have em : cx_mtok t n k = (2, (k : Int), ((lx_digs t n n k - k : Nat) : Int), lx_num t (lx_digs t n n k - k) k 0) := by unfold cx_mtok; rw [et]; rfl
      rw [em]
      exact S.add _ _ _ _
    · have et : cx_tok t n k = (5, 0, lx_digs t n n k) := by unfold cx_tok; rw [if_neg hl, if_pos hd, if_neg (fun z => c z.2)]
      rw [if_neg c, et]
      exact ⟨h, rfl, p_fr.refl h, fun _ => rfl, fun z => absurd rfl z⟩
  · have et : cx_tok t n k = (5, 0, lx_digs t n n k) := by unfold cx_tok; rw [if_neg hl, if_pos hd, if_neg (fun z => c5 z.1)]
    rw [if_pos (by omega), et]
    exact ⟨h, rfl, p_fr.refl h, fun _ => rfl, fun z => absurd rfl z⟩
theorem km_chip (S : lm_S t n tk h) {k : Nat} (hk : k < n) (htk : tk.length < 2002) :
    ∃ h', am_D (d + 4) 17 15 [am_r (am_a 254), am_i k] (zS L, h) = pI L (if (cx_tok t n k).1 = 5 then -1 else ((cx_tok t n k).2.2 : Int)) h' ∧ p_fr lm_F lm_P h h' ∧ ((cx_tok t n k).1 = 5 → h' = h) ∧ ((cx_tok t n k).1 ≠ 5 → lm_S t n (tk ++ [cx_mtok t n k]) h') := by
  have H := S.1
  have hn := H.2.1
  have hr := (H.2.2 k hk).2
  rw [D_17_15, p_idx (by omega) (by omega), Int.toNat_natCast, (H.2.2 k hk).1, lm_alpha, p_xI]
  by_cases c1 : lx_alpha (t k)
  · have hl := (cx_al_part c1).2
    obtain ⟨h', a1, a2, a3, a4⟩ := lm_word d L S wo_169 hk hl htk 1 (Or.inr (by unfold lx_alpha at c1; omega))
    rw [pB_t c1, if_neg (by decide), a1, p_xI]
    by_cases c2 : 16 < lx_word t n n k - k
    · have e1 : lx_tok t n k = (6, 0, lx_word t n n k) := by unfold lx_tok; rw [if_pos hl, if_pos c2]
      have e2 : cx_tok t n k = (5, 0, lx_word t n n k) := by unfold cx_tok; rw [if_pos c1, if_pos c2]
      rw [e1] at a1 a3 ⊢
      rw [e2]
      exact ⟨h', rfl, a2, fun _ => a3 rfl, fun z => absurd rfl z⟩
    · have e1 : lx_tok t n k = (2, 0, lx_word t n n k) := by unfold lx_tok; rw [if_pos hl, if_neg c2]
      have e2 : cx_tok t n k = (2, 0, lx_word t n n k) := by unfold cx_tok; rw [if_pos c1, if_neg c2]
      have e3 : lx_mtok t n cx_ws k = cx_mtok t n k := by unfold lx_mtok cx_mtok; rw [e1, e2]; rfl
      rw [e1] at a4
      rw [e1, e2]
      exact ⟨h', rfl, a2, fun z => (by cases z), fun _ => by rw [← e3]; exact a4 (show (2 : Int) ≠ 6 by decide)⟩
  rw [pB_f c1, if_pos rfl, lm_digit, p_xI]
  by_cases c4 : lx_digit (t k)
  · obtain ⟨h', a1, a2, a3, a4⟩ := km_number d L S hk c1 c4 htk
    rw [pB_t c4, if_neg (by decide), a1, p_xI]
    exact ⟨h', rfl, a2, a3, a4⟩
  rw [pB_f c4, if_pos rfl]
  have ew : am_w ((k : Int) + 1) = ((k + 1 : Nat) : Int) := by rw [p_w (by omega) (by omega)]; omega
  have r := lm_at (d + 2) L H (k + 1)
  have ew2 : am_w ((k : Int) + 2) = ((k + 2 : Nat) : Int) := by rw [p_w (by omega) (by omega)]; omega
  rw [ew, ew2]
  simp only [lm_add (d + 2) L S.2.1 htk (show k ≤ k + 1 ∧ k + 1 ≤ 10000 by omega), p_xV]
  rw [r, p_xI]
  by_cases c5 : t k = 46
  · rw [if_neg (show ¬ t k = 40 by omega), if_neg (show ¬ t k = 41 by omega), if_neg (show ¬ t k = 44 by omega), if_pos c5]
    by_cases c6 : lx_at t n (k + 1) = 46
    · have et : cx_tok t n k = (4, 256, k + 2) := by unfold cx_tok; rw [if_neg c1, if_neg c4, if_pos ⟨c5, c6⟩]
      have em : cx_mtok t n k = (4, (k : Int), ((k + 2 - k : Nat) : Int), t k) := by unfold cx_mtok; rw [et]; rfl
      rw [if_pos c6, lm_add (d + 2) L S.2.1 htk (by omega), p_xV, et, em]
      exact ⟨_, rfl, lm_fr_add (p_fr.refl h) _ _ _ _ _, fun z => absurd z (show ¬ (4 : Int) = 5 by decide), fun _ => S.add _ _ _ _⟩
    · have et : cx_tok t n k = (5, t k, k + 1) := by unfold cx_tok; rw [if_neg c1, if_neg c4, if_neg (fun z => c6 z.2), if_neg (by unfold cx_sg; omega)]
      rw [if_neg c6, et]
      exact ⟨h, rfl, p_fr.refl h, fun _ => rfl, fun z => absurd rfl z⟩
  · by_cases c6 : cx_sg (t k)
    · have et : cx_tok t n k = (4, t k, k + 1) := by unfold cx_tok; rw [if_neg c1, if_neg c4, if_neg (fun z => c5 z.1), if_pos c6]
      have em : cx_mtok t n k = (4, (k : Int), ((k + 1 - k : Nat) : Int), t k) := by unfold cx_mtok; rw [et]; rfl
      have fin : ∃ h', pI L ((k + 1 : Nat) : Int) (lm_addh h tk.length 4 (k : Int) ((k + 1 - k : Nat) : Int) (t k)) = pI L (if (cx_tok t n k).1 = 5 then -1 else ((cx_tok t n k).2.2 : Int)) h' ∧ p_fr lm_F lm_P h h' ∧ ((cx_tok t n k).1 = 5 → h' = h) ∧ ((cx_tok t n k).1 ≠ 5 → lm_S t n (tk ++ [cx_mtok t n k]) h') := by
        rw [et, em]
        exact ⟨_, rfl, lm_fr_add (p_fr.refl h) _ _ _ _ _, fun z => absurd z (show ¬ (4 : Int) = 5 by decide), fun _ => S.add _ _ _ _⟩
      have key : ∀ (v : Int) (P Q R : Option am_O), cx_sg v → (if v = 40 then P else if v = 41 then P else if v = 44 then P else if v = 46 then R else if v = 58 then P else if v = 59 then P else if v = 61 then P else if v = 91 then P else if v = 93 then P else if v = 123 then P else if v = 125 then P else Q) = P := by
        intro v P Q R hv
        rcases hv with rfl | rfl | rfl | rfl | rfl | rfl | rfl | rfl | rfl | rfl <;> simp
      rw [key (t k) _ _ _ c6]
      exact fin
    · have et : cx_tok t n k = (5, t k, k + 1) := by unfold cx_tok; rw [if_neg c1, if_neg c4, if_neg (fun z => c5 z.1), if_neg c6]
      unfold cx_sg at c6
      rw [if_neg (show ¬ t k = 40 by omega), if_neg (show ¬ t k = 41 by omega), if_neg (show ¬ t k = 44 by omega), if_neg c5, if_neg (show ¬ t k = 58 by omega), if_neg (show ¬ t k = 59 by omega), if_neg (show ¬ t k = 61 by omega), if_neg (show ¬ t k = 91 by omega), if_neg (show ¬ t k = 93 by omega), if_neg (show ¬ t k = 123 by omega), if_neg (show ¬ t k = 125 by omega), et]
      exact ⟨h, rfl, p_fr.refl h, fun _ => rfl, fun z => absurd rfl z⟩
end
/-- all tokens of the model -/
def cx_mods (t : Nat → Int) (n : Nat) (most : Nat) : Nat → Nat → Nat → List (Int × Int × Int × Int)
  | 0, _, _ => []
  | m + 1, c, k =>
    if (lx_skip t n (n + 1) k).1 = false then [(6, ((lx_skip t n (n + 1) k).2 : Nat), 0, 0)]
    else if n ≤ (lx_skip t n (n + 1) k).2 then [(0, (n : Int), 0, 0)]
    else if (cx_tok t n (lx_skip t n (n + 1) k).2).1 = 5 then [(6, ((lx_skip t n (n + 1) k).2 : Nat), 0, 0)]
    else if most < c + 1 then [(7, (cx_mtok t n (lx_skip t n (n + 1) k).2).2)]
    else cx_mtok t n (lx_skip t n (n + 1) k).2 :: cx_mods t n most m (c + 1) (cx_tok t n (lx_skip t n (n + 1) k).2).2.2
section
variable (d L : Nat) {t : Nat → Int} {n : Nat}
theorem km_read (most : Nat) (hmost : most ≤ 2000) : ∀ (m : Nat) (h : am_H) (k : Nat) (tk : List (Int × Int × Int × Int)) (u5 : Option am_V), lm_S t n tk h → k ≤ n → n < k + m → tk.length ≤ most →
    ∃ h', am_E (am_D (d + 5)) m_17_11 (.inl 1) [some (am_r (am_a 254)), some (am_i most), some (am_i 1), some (am_i (lm_sk (lx_skip t n (n + 1) k))), some (am_i 1), u5] [] (zS L, h) = pV L h' ∧ p_fr lm_F lm_P h h' ∧ lm_S t n (tk ++ cx_mods t n most m tk.length k) h' := by
  intro m
  induction m with
  | zero => intro h k tk u5 S hk hm; omega
  | succ m ih =>
    intro h k tk u5 S hk hm htk
    have H := S.1
    have hn := H.2.1
    obtain ⟨s1, s2, s3, s4⟩ := lx_skip_rg t n (n + 1) k hk (by omega)
    rw [q_17_11_1, if_neg (by decide), H.1]
    unfold cx_mods
    have stop : ∀ (g : am_H) (q : Int × Int × Int × Int) (x3 : Int) (v5 : Option am_V), p_fr lm_F lm_P h g → lm_S t n (tk ++ [q]) g → ∃ h', am_E (am_D (d + 5)) m_17_11 (.inl 1) [some (am_r (am_a 254)), some (am_i most), some (am_i 1), some (am_i x3), some (am_i 0), v5] [] (zS L, g) = pV L h' ∧ p_fr lm_F lm_P h h' ∧ lm_S t n (tk ++ [q]) h' := by
      intro g q x3 v5 fr Sg
      rw [q_17_11_1, if_pos rfl]
      exact ⟨g, rfl, fr, Sg⟩
    by_cases c1 : (lx_skip t n (n + 1) k).1 = false
    · have e0 : lm_sk (lx_skip t n (n + 1) k) = -2 - ((lx_skip t n (n + 1) k).2 : Int) := by unfold lm_sk; rw [if_neg (by rw [c1]; decide)]
      rw [e0, if_pos (by omega), p_w (by omega) (by omega), show (-2 : Int) - (-2 - ((lx_skip t n (n + 1) k).2 : Int)) = ((lx_skip t n (n + 1) k).2 : Int) by omega, lm_add (d + 4) L S.2.1 (by omega) ⟨Nat.le_refl _, by omega⟩, p_xV, if_pos c1, Nat.sub_self]
      exact stop _ _ _ _ (lm_fr_add (p_fr.refl h) _ _ _ _ _) (S.add _ _ _ _)
    · have c1' : (lx_skip t n (n + 1) k).1 = true := by simpa using c1
      have e0 : lm_sk (lx_skip t n (n + 1) k) = ((lx_skip t n (n + 1) k).2 : Int) := by unfold lm_sk; rw [if_pos c1']
      rw [e0, if_neg (by omega), if_neg c1]
      by_cases c2 : n ≤ (lx_skip t n (n + 1) k).2
      · rw [if_neg (by omega), lm_add (d + 4) L S.2.1 (by omega) ⟨Nat.le_refl _, by omega⟩, p_xV, if_pos c2, Nat.sub_self]
        exact stop _ _ _ _ (lm_fr_add (p_fr.refl h) _ _ _ _ _) (S.add _ _ _ _)
      · rw [if_pos (by omega), if_neg (show ¬ (1 : Int) = 0 by decide), if_neg c2]
        have hlt : (lx_skip t n (n + 1) k).2 < n := by omega
        generalize (lx_skip t n (n + 1) k).2 = p at *
        obtain ⟨g, a1, a2, a3, a4⟩ := km_chip (d + 1) L S hlt (by omega)
        rw [a1, p_xI, q_17_11_5]
        by_cases c3 : (cx_tok t n p).1 = 5
        · have eg := a3 c3
          subst eg
          rw [if_pos c3, if_pos (by decide), lm_add (d + 4) L S.2.1 (by omega) ⟨Nat.le_refl _, by omega⟩, p_xV, if_pos c3, Nat.sub_self]
          exact stop _ _ _ _ (lm_fr_add (p_fr.refl g) _ _ _ _ _) (S.add _ _ _ _)
        · have Sg := a4 c3
          obtain ⟨b1, b2, -⟩ := cx_tok_rg (t := t) hlt
          have hl2 : (tk ++ [cx_mtok t n p]).length = tk.length + 1 := by rw [List.length_append]; rfl
          have h9 : g 254 9 = tk.length + 1 := by rw [Sg.2.1, hl2]; omega
          rw [if_neg c3, if_neg (by omega), if_neg c3, h9]
          by_cases c4 : most < tk.length + 1
          · have em : most = tk.length := by omega
            rw [if_pos (by omega), p_idx (by omega) (by omega), Int.toNat_natCast, if_pos c4]
            refine stop _ _ _ _ (a2.upc _ _ _ rfl) ⟨Sg.1.next (p_up_c _ _ _ _ _ (by decide)) (p_up_n _ _ _ _ _ _ (Or.inl (by decide))), ?_, fun i q hi => ?_⟩
            · rw [p_up_n _ _ _ _ _ _ (Or.inl (by decide)), h9, List.length_append]; simp
            · by_cases hi2 : i < tk.length
              · rw [List.getElem?_append_left hi2] at hi
                have := Sg.2.2 i q (by rw [List.getElem?_append_left hi2]; exact hi)
                have hne : i ≠ most := by omega
                simp only [p_up, hne, and_false, if_false, show ¬ (258 = 257) by decide, show ¬ (259 = 257) by decide, show ¬ (260 = 257) by decide, false_and]
                exact this
              · have hl := (List.getElem?_eq_some_iff.mp hi).1
                rw [List.length_append, List.length_singleton] at hl
                have e : i = tk.length := by omega
                subst e
                rw [List.getElem?_append_right (by omega), Nat.sub_self] at hi
                cases hi
                have := Sg.2.2 tk.length (cx_mtok t n p) (by rw [List.getElem?_append_right (by omega), Nat.sub_self]; rfl)
                simp only [p_up, em, and_self, if_true, show ¬ (258 = 257) by decide, show ¬ (259 = 257) by decide, show ¬ (260 = 257) by decide, false_and, if_false]
                exact ⟨trivial, this.2⟩
          · rw [if_neg (by omega), lm_D_skip (d + 3) L Sg.1 _ b2, p_xI, if_neg c4]
            obtain ⟨h', e1, e2, e3⟩ := ih g (cx_tok t n p).2.2 (tk ++ [cx_mtok t n p]) (some (am_i ((cx_tok t n p).2.2 : Int))) Sg b2 (by omega) (by rw [hl2]; omega)
            rw [hl2, List.append_assoc] at e3
            exact ⟨h', e1, a2.trans e2, e3⟩
end
