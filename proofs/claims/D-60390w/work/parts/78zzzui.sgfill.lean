/-! SIGNS, 9: places of symbols; the component's reading whole -/
def sfill : Int → List (List Int × Int) → List (List Int × Int)
  | _, [] => []
  | v, q :: l => if q.2 = -1 then (q.1, v) :: sfill (v + 1) l else q :: sfill v l
theorem sfill_len : ∀ (l : List (List Int × Int)) (v : Int), (sfill v l).length = l.length
  | [], _ => rfl
  | q :: l, v => by
    unfold sfill
    split <;> rw [List.length_cons, List.length_cons, sfill_len l]
theorem sfill_names : ∀ (l : List (List Int × Int)) (v : Int), (sfill v l).map (·.1) = l.map (·.1)
  | [], _ => rfl
  | q :: l, v => by
    unfold sfill
    split <;> rw [List.map_cons, List.map_cons, sfill_names l]
section
variable {d L : Nat} {t : Nat → Int} {n : Nat} {h : am_H}
theorem cSx.set27 {U R : List (List Int × Int)} {q : List Int × Int} {v : Int} {h : am_H} (S : cSx (U ++ q :: R) h) : cSx ((U ++ [(q.1, v)]) ++ R) (am_up h 27 U.length v) := by
  obtain ⟨s1, s2, s3⟩ := S
  refine ⟨?_, ?_, fun i x hx => ?_⟩
  · rw [p_up_c _ _ _ _ _ (by decide), s1]; simp
  · simp only [List.length_append, List.length_cons, List.length_nil] at s2 ⊢; omega
  · rw [p_up_c _ _ _ _ 26 (by decide), p_up_c _ _ _ _ 25 (by decide)]
    rw [List.append_assoc, List.singleton_append] at hx
    by_cases z : i < U.length
    · rw [List.getElem?_append_left z] at hx
      rw [p_up_n _ _ _ _ _ _ (Or.inr (by omega))]
      exact s3 i x (by rw [List.getElem?_append_left z]; exact hx)
    · rw [List.getElem?_append_right (by omega)] at hx
      by_cases y : i = U.length
      · subst y
        rw [Nat.sub_self] at hx
        cases hx
        obtain ⟨v1, v2, v3, v4⟩ := s3 U.length q (by rw [List.getElem?_append_right (Nat.le_refl _), Nat.sub_self]; rfl)
        exact ⟨v1, v2, by rw [p_up_s], v4⟩
      · rw [p_up_n _ _ _ _ _ _ (Or.inr y)]
        refine s3 i x ?_
        rw [List.getElem?_append_right (by omega)]
        obtain ⟨j, hj⟩ : ∃ j, i - U.length = j + 1 := ⟨i - U.length - 1, by omega⟩
        rw [hj] at hx ⊢
        exact hx
theorem sc_fill {u1 u2 : Option am_V} : ∀ (R U : List (List Int × Int)) (v : Int) {h : am_H}, cSx (U ++ R) h → 0 ≤ v → v ≤ 100 + U.length → ∃ v' h', am_E (am_D d) m_11_6 (.inl 2) [some (am_r (am_a 23)), u1, u2, some (am_i v), some (am_i (U.length : Int))] [] (zS L, h) = am_E (am_D d) m_11_6 (.inl 2) [some (am_r (am_a 23)), u1, u2, some (am_i v'), some (am_i ((U ++ R).length : Int))] [] (zS L, h') ∧ cSx (U ++ sfill v R) h' ∧ p_fr [27] [] h h'
  | [], U, v, h, S, v0, v1 => ⟨v, h, by rw [List.append_nil], S, p_fr.refl h⟩
  | q :: R, U, v, h, S, v0, v1 => by
    have hl := S.2.1
    simp only [List.length_append, List.length_cons] at hl
    have hi : (U ++ q :: R)[U.length]? = some q := by rw [List.getElem?_append_right (Nat.le_refl _), Nat.sub_self]; rfl
    obtain ⟨y1, y2, y3, y4⟩ := S.2.2 U.length q hi
    have e13 := S.1
    simp only [List.length_append, List.length_cons] at e13
    unfold sfill
    by_cases c : q.2 = -1
    · rw [if_pos c]
      have S' : cSx ((U ++ [(q.1, v)]) ++ R) (am_up h 27 U.length v) := S.set27
      obtain ⟨v', h', r1, r2, r3⟩ := sc_fill (u1 := u1) (u2 := u2) R (U ++ [(q.1, v)]) (v + 1) S' (by omega) (by rw [List.length_append, List.length_singleton]; omega)
      refine ⟨v', h', ?_, by rw [List.append_assoc] at r2; exact r2, ((p_fr.refl h).upc _ _ _ rfl).trans r3⟩
      rw [q_11_6_2, e13, if_pos (by omega), p_idx (by omega) (by omega), Int.toNat_natCast, y3, if_pos c, p_idx (by omega) (by omega), Int.toNat_natCast, p_w (x := v + 1) (by omega) (by omega), p_w (x := (U.length : Int) + 1) (by omega) (by omega)]
      rw [List.length_append, List.length_singleton] at r1
      rw [show (U ++ q :: R).length = (U ++ [(q.1, v)] ++ R).length by simp]
      exact r1
    · rw [if_neg c]
      have S' : cSx ((U ++ [q]) ++ R) h := by rw [List.append_assoc]; exact S
      obtain ⟨v', h', r1, r2, r3⟩ := sc_fill (u1 := u1) (u2 := u2) R (U ++ [q]) v S' v0 (by rw [List.length_append, List.length_singleton]; omega)
      refine ⟨v', h', ?_, by rw [List.append_assoc] at r2; exact r2, r3⟩
      rw [q_11_6_2, e13, if_pos (by omega), p_idx (by omega) (by omega), Int.toNat_natCast, y3, if_neg c, p_w (x := (U.length : Int) + 1) (by omega) (by omega)]
      rw [List.length_append, List.length_singleton] at r1
      rw [show (U ++ q :: R).length = (U ++ [q] ++ R).length by simp]
      exact r1
def srF : List (Nat × Nat) := [(23, 11), (23, 12), (23, 13), (23, 14), (23, 15), (23, 16)]
/-- reading instructions: the component -/
theorem sc_read (hn : n ≤ 4000) (T : ∀ k, k < n → (-128 ≤ h 3 k ∧ h 3 k ≤ 127) ∧ h 3 k % 256 = t k) (G : SGC h) : ∃ r h', am_D (d + 7) 11 6 [am_r (am_a 23), am_i (n : Int)] (zS L, h) = pI L r h' ∧ p_fr [24, 25, 26, 27] srF h h' ∧ match sgo t n (n + 1) 0 false ([], []) with
      | .inl q => r = q.1 ∧ 0 < r ∧ h' 23 12 = 0 ∧ h' 23 13 = 0 ∧ h' 23 14 = (q.2 : Int)
      | .inr s => r = 0 ∧ h' 23 12 = (s.1.length : Int) ∧ s.1.length ≤ 1500 ∧ h' 23 13 = (s.2.length : Int) ∧ h' 23 14 = -1 ∧ ∀ i w, s.1[i]? = some w → h' 24 i = fin (sfill 16 s.2) w := by
  obtain ⟨h1, hh1⟩ : ∃ h1, h1 = am_up (am_up (am_up (am_up h 23 11 (n : Int)) 23 12 0) 23 13 0) 23 14 (-1) := ⟨_, rfl⟩
  have f1 : p_fr [24, 25, 26, 27] srF h h1 := by rw [hh1]; exact ((((p_fr.refl h).upf _ _ _ rfl).upf _ _ _ rfl).upf _ _ _ rfl).upf _ _ _ rfl
  have a11 : h1 23 11 = (n : Int) := by rw [hh1, p_up_n _ _ _ _ _ _ (Or.inr (by decide)), p_up_n _ _ _ _ _ _ (Or.inr (by decide)), p_up_n _ _ _ _ _ _ (Or.inr (by decide)), p_up_s]
  have a12 : h1 23 12 = 0 := by rw [hh1, p_up_n _ _ _ _ _ _ (Or.inr (by decide)), p_up_n _ _ _ _ _ _ (Or.inr (by decide)), p_up_s]
  have a13 : h1 23 13 = 0 := by rw [hh1, p_up_n _ _ _ _ _ _ (Or.inr (by decide)), p_up_s]
  have a14 : h1 23 14 = -1 := by rw [hh1, p_up_s]
  have H1 : sg_T t n h1 := ⟨a11, hn, fun k hk => by rw [f1.cell 3 rfl rfl]; exact T k hk⟩
  have G1 : SGC h1 := G.fr (f1.cell 29 rfl rfl) (f1.cell 31 rfl rfl)
  have P1 : cP ([], []) h1 := ⟨a12, by decide, a13, by decide, fun i q hq => by cases hq⟩
  rw [D_11_6, ← hh1, D_11_7]
  obtain ⟨r, h2, r2, f2, o2⟩ := sc_go1 (d := d) (L := L) (n + 1) 0 false ([], []) none none (h := h1) (by omega) (Nat.zero_le _) H1 G1 P1
  have r2 : am_E (am_D (d + 5)) m_11_7 (.inl 1) [some (am_r (am_a 23)), some (am_i 0), some (am_i 0), some (am_i 0), none, none] [] (zS L, h1) = pI L r h2 := r2
  rw [r2, p_xI]
  cases ho : sgo t n (n + 1) 0 false ([], []) with
  | inl q =>
    rw [ho] at o2
    dsimp only at o2 ⊢
    obtain ⟨o3, o4, o5⟩ := o2
    rw [if_neg (by omega)]
    refine ⟨r, _, rfl, ?_, o3, o4, ?_, ?_, ?_⟩
    · exact ((((f1.trans (f2.mono rfl rfl)).upf _ _ _ rfl).upf _ _ _ rfl).upf _ _ _ rfl)
    · rw [p_up_n _ _ _ _ _ _ (Or.inr (by decide)), p_up_n _ _ _ _ _ _ (Or.inr (by decide)), p_up_s]
    · rw [p_up_n _ _ _ _ _ _ (Or.inr (by decide)), p_up_s]
    · rw [p_up_s]; exact o5
  | inr s =>
    rw [ho] at o2
    dsimp only at o2 ⊢
    obtain ⟨rfl, o3, o4, o5⟩ := o2
    rw [if_pos rfl]
    obtain ⟨h3, hh3⟩ : ∃ h3, h3 = am_up h2 23 12 0 := ⟨_, rfl⟩
    rw [← hh3]
    have S3 : cSx ([] ++ s.2) h3 := by rw [hh3]; exact o5.up12 (by decide)
    obtain ⟨v', h4, r4, S4, f4⟩ := sc_fill (d := d + 6) (L := L) (u1 := some (am_i (n : Int))) (u2 := some (am_i 0)) s.2 [] 16 S3 (by decide) (by decide)
    have r4 : am_E (am_D (d + 6)) m_11_6 (.inl 2) [some (am_r (am_a 23)), some (am_i (n : Int)), some (am_i 0), some (am_i 16), some (am_i 0)] [] (zS L, h3) = _ := r4
    rw [List.nil_append] at r4 S4
    have l4 := S4.1
    rw [sfill_len] at l4
    have f3 : p_fr [] [(23, 12)] h2 h3 := by rw [hh3]; exact (p_fr.refl h2).upf _ _ _ rfl
    have F4 : p_fr [24, 25, 26, 27] srF h h4 := ((f1.trans (f2.mono rfl rfl)).trans (f3.mono rfl rfl)).trans (f4.mono rfl rfl)
    have e12 : h4 23 12 = 0 := by rw [f4 23 12 rfl rfl, hh3, p_up_s]
    have H4 : sg_T t n h4 := H1.next (by rw [f4.cell 3 rfl rfl, f3.cell 3 rfl rfl, f2.cell 3 rfl rfl]) (by rw [f4 23 11 rfl rfl, f3 23 11 rfl rfl, f2 23 11 rfl rfl])
    have G4 : SGC h4 := G.fr (F4.cell 29 rfl rfl) (F4.cell 31 rfl rfl)
    obtain ⟨h5, r5, f5, q1, q2, q3, -⟩ := sc_go2 (d := d) (L := L) (F := sfill 16 s.2) (n + 1) 0 false ([], []) none none (h := h4) (by omega) (Nat.zero_le _) ho ⟨[], by rw [sfill_names, List.append_nil]⟩ (by decide) H4 G4 S4 e12 (fun i w hw => by cases hw)
    have r5 : am_E (am_D (d + 5)) m_11_7 (.inl 1) [some (am_r (am_a 23)), some (am_i 1), some (am_i 0), some (am_i 0), none, none] [] (zS L, h4) = pI L 0 h5 := r5
    rw [r4, q_11_6_2, l4, if_neg (show ¬ (s.2.length : Int) < (s.2.length : Int) by omega), D_11_7, r5, p_xI]
    refine ⟨0, h5, rfl, F4.trans (f5.mono rfl rfl), rfl, q1, q2, ?_, ?_, q3⟩
    · rw [f5 23 13 rfl rfl]; exact l4
    · rw [f5 23 14 rfl rfl, f4 23 14 rfl rfl, f3 23 14 rfl rfl, f2 23 14 rfl rfl]; exact a14
end
