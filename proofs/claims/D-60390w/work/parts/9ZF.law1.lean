/-! LAW, 3: the heap ahead of the loop -/
def koW3z : List koO := koW3 ++ [(0, 1, 0, 0)]
theorem ko_lM : ((List.range 254).all (koN koWM)) = true := by decide +kernel
theorem ko_lN : ((List.range' 0 3 ++ List.range' 4 218 ++ List.range' 223 22).all (koN koWN)) = true := by decide +kernel
theorem ko_lG : ((List.range' 0 12 ++ List.range' 17 237).all (koN koWG)) = true := by decide +kernel
set_option maxRecDepth 100000 in
theorem ko_l1 : koF koW3z 1 = some [(3, -1)] := by decide +kernel
set_option maxRecDepth 100000 in
theorem sy_84 : tz sT2 8 4 = 152 := by decide +kernel
section
variable {e L : Nat} {h : am_H}
theorem law1 : ∃ hR g' hI, am_E (am_D (e + 219)) m_18_0 (.inl 0) [some (am_r (am_a 0)), none, none, none] [] (koZ L [], h) = am_E (am_D (e + 219)) m_18_0 (.inl 1) [some (am_r (am_a 0)), some (am_r (am_a 1)), some (am_r (am_a 254)), some (am_i 0)] [] (zS L, hI) ∧
    (∀ c l, c = 2 ∨ 17 ≤ c ∧ c ≤ 211 → koF koW3z c = some l → ∀ k, hI c k = alk l k) ∧
    (∀ c l, 254 ≤ c → koF koWM c = some l → ∀ k, hI c k = alk l k) ∧
    (hI 1 4 = 1572 ∧ hI 1 5 = 9623 ∧ hI 1 6 = 113 ∧ hI 1 7 = 152 ∧ hI 1 3 = -1 ∧ ∀ k, k ≠ 3 → k ≠ 4 → k ≠ 5 → k ≠ 6 → k ≠ 7 → hI 1 k = 0) ∧
    TRS hI ∧ hI 12 3 = 9623 ∧ pna_R hI syN2 ∧ (hI 241 = yK ∧ hI 242 = yV ∧ hI 243 = yP) ∧
    (p_fr [] pc_ps (tgx g' sT2) hR ∧ (∀ c, (8 ≤ c ∧ c ≤ 11) ∨ (212 ≤ c ∧ c ≤ 238) → c ≠ 222 → hI c = hR c) ∧ hI 222 = koH koWN hR 222) ∧ ∀ c, c = 0 → hI c = h c := by
  obtain ⟨hB, hR, g', hW, hC, r, eC, f1, ⟨f2, f3, f4, f5⟩, f6, f7, f8⟩ := law0 (e := e) (L := L) (h := h)
  have lM : ∀ c, c < 254 → koH koWM hC c = hC c := fun c hc => koN_ok (List.all_eq_true.1 ko_lM c (List.mem_range.2 hc))
  have lC : ∀ c, c ≠ 1 → hC c = hW c := fun c hc => by rw [eC, p_up_c _ _ _ _ _ hc, p_up_c _ _ _ _ _ hc, p_up_c _ _ _ _ _ hc, p_up_c _ _ _ _ _ hc]
  have lG : ∀ c (g : am_H), c < 12 ∨ 17 ≤ c ∧ c < 254 → koH koWG g c = g c := fun c g hc => koN_ok (List.all_eq_true.1 ko_lG c (by rw [List.mem_append, List.mem_range'_1, List.mem_range'_1]; omega))
  have lN : ∀ c (g : am_H), c < 3 ∨ 4 ≤ c ∧ c < 222 ∨ 223 ≤ c ∧ c < 245 → koH koWN g c = g c := fun c g hc => koN_ok (List.all_eq_true.1 ko_lN c (by rw [List.mem_append, List.mem_append, List.mem_range'_1, List.mem_range'_1, List.mem_range'_1]; omega))
  have lR : ∀ c, ¬ (4 ≤ c ∧ c < 12) → ¬ (212 ≤ c ∧ c < 244) → hR c = hB c := fun c h1 h2 => funext fun k => f5 c k (by
    cases e : (List.range' 4 8 ++ List.range' 212 32).contains c with
    | false => rfl
    | true =>
      have := List.contains_iff_mem.1 e
      rw [List.mem_append, List.mem_range'_1, List.mem_range'_1] at this
      omega) rfl
  have l3 : koH koW3 (am_zr h 1) = koH koW3z h := by unfold koW3z; rw [koH_app]; rfl
  have lB : ∀ c, c ≠ 3 → hB c = koH koW3z h c := fun c hc => by rw [← l3]; exact funext fun k => f1 c k (by simp; omega) rfl
  have w1 : ∀ k, hW 1 k = koH koW3z h 1 k := fun k => by rw [f8 1 (by decide) (by decide) (by decide) (by decide) (by decide), lG 1 _ (by omega), lN 1 _ (by omega), lR 1 (by omega) (by omega), lB 1 (by decide)]
  have w8 : hW 8 = tz sT2 8 := by
    rw [f8 8 (by decide) (by decide) (by decide) (by decide) (by decide), lG 8 _ (by omega), lN 8 _ (by omega)]
    exact funext fun k => (f2 8 k rfl (by unfold pc_ps; simp)).trans rfl
  have w4 : hW 4 3 = 113 := by
    rw [f8 4 (by decide) (by decide) (by decide) (by decide) (by decide), lG 4 _ (by omega), lN 4 _ (by omega), f3.1, sy_n2.1]; rfl
  have c1 : ∀ k, koH koWM hC 1 k = hC 1 k := fun k => by rw [lM 1 (by decide)]
  have low : ∀ c, c ≠ 1 → c < 254 → koH koWM hC c = hW c := fun c h1 h2 => by rw [lM c h2, lC c h1]
  refine ⟨hR, g', koH koWM hC, r, fun c l hc hl k => ?_, fun c l _ hl k => koF_ok hl k, ⟨?_, ?_, ?_, ?_, ?_, fun k h1 h2 h3 h4 h5 => ?_⟩, ?_, ?_, ?_, ⟨?_, ?_, ?_⟩, ⟨f2, fun c hc h2 => ?_, ?_⟩, fun c hc => ?_⟩
  · rw [low c (by omega) (by omega), f8 c (by omega) (by omega) (by omega) (by omega) (by omega), lG c _ (by omega), lN c _ (by omega), lR c (by omega) (by omega), lB c (by omega)]
    exact koF_ok hl k
  · rw [c1, eC, p_up_n _ _ _ _ _ _ (Or.inr (by decide)), p_up_n _ _ _ _ _ _ (Or.inr (by decide)), p_up_n _ _ _ _ _ _ (Or.inr (by decide)), p_up_s, w8]; exact sy_eg.2.1
  · rw [c1, eC, p_up_n _ _ _ _ _ _ (Or.inr (by decide)), p_up_s]; exact f7
  · rw [c1, eC, p_up_s]; exact w4
  · rw [c1, eC, p_up_n _ _ _ _ _ _ (Or.inr (by decide)), p_up_n _ _ _ _ _ _ (Or.inr (by decide)), p_up_s, w8]; exact sy_84
  · rw [c1, eC, p_up_n _ _ _ _ _ _ (Or.inr (by decide)), p_up_n _ _ _ _ _ _ (Or.inr (by decide)), p_up_n _ _ _ _ _ _ (Or.inr (by decide)), p_up_n _ _ _ _ _ _ (Or.inr (by decide)), w1, koF_ok ko_l1]; rfl
  · rw [c1, eC, p_up_n _ _ _ _ _ _ (Or.inr h4), p_up_n _ _ _ _ _ _ (Or.inr h3), p_up_n _ _ _ _ _ _ (Or.inr h5), p_up_n _ _ _ _ _ _ (Or.inr h2), w1, koF_ok ko_l1]
    show (if k = 3 then (-1 : Int) else 0) = 0
    rw [if_neg h1]
  · exact TRS_eq (h := hW) (fun c hc => low c (by omega) (by omega)) f6
  · rw [low 12 (by decide) (by decide)]; exact f7
  · have q : ∀ c, c = 4 ∨ c = 5 ∨ c = 6 ∨ c = 7 → koH koWM hC c = hR c := fun c hc => by rw [low c (by omega) (by omega), f8 c (by omega) (by omega) (by omega) (by omega) (by omega), lG c _ (by omega), lN c _ (by omega)]
    exact f3.next (by rw [q 4 (by omega)]) (by rw [q 4 (by omega)]) (q 5 (by omega)) (q 6 (by omega)) (q 7 (by omega))
  · rw [low 241 (by decide) (by decide), f8 241 (by decide) (by decide) (by decide) (by decide) (by decide), lG 241 _ (by omega), lN 241 _ (by omega)]; exact f4.1
  · rw [low 242 (by decide) (by decide), f8 242 (by decide) (by decide) (by decide) (by decide) (by decide), lG 242 _ (by omega), lN 242 _ (by omega)]; exact f4.2.1
  · rw [low 243 (by decide) (by decide), f8 243 (by decide) (by decide) (by decide) (by decide) (by decide), lG 243 _ (by omega), lN 243 _ (by omega)]; exact f4.2.2
  · rw [low c (by omega) (by omega), f8 c (by omega) (by omega) (by omega) (by omega) (by omega), lG c _ (by omega), lN c _ (by omega)]
  · rw [low 222 (by decide) (by decide), f8 222 (by decide) (by decide) (by decide) (by decide) (by decide), lG 222 _ (by omega)]
  · subst hc
    rw [low 0 (by decide) (by decide), f8 0 (by decide) (by decide) (by decide) (by decide) (by decide), lG 0 _ (by omega), lN 0 _ (by omega), lR 0 (by omega) (by omega), lB 0 (by decide)]
    exact koN_ok (by decide +kernel)
end
