/-! PURE LAYER, 92: how the model's load() ends, up to the commands -/
section
variable {h0 h : am_H} {K P nm sc ss : Nat → Int} {Z : Nat} (d L : Nat) {mn mM : Int}
theorem m_main_G (m s : Nat) (r : Int) {h' : am_H} (e : mc_G h h') : m_mainf nm mn mM h' m s r = m_mainf nm mn mM h m s r := by
  induction m generalizing s r with
  | zero => rfl
  | succ m ih =>
    unfold m_mainf
    rw [ih, e.1 264 (by decide) (by decide) (by decide) (by decide), e.1 267 (by decide) (by decide) (by decide) (by decide), e.1 265 (by decide) (by decide) (by decide) (by decide), e.1 261 (by decide) (by decide) (by decide) (by decide), e.1 263 (by decide) (by decide) (by decide) (by decide)]
/-- how the checks end -/
theorem ml_end (M : mc_M h0 K nm Z mn mM) (s0 : mc_same h0 h) (T : mc_T K Z h) (hc : ∀ s : Nat, (s : Int) < h 254 17 → 0 ≤ h 263 s ∧ h 263 s < h 254 14) (h69 : h 254 69 = 0) (hl : ∀ q ∈ ml_n K P nm sc ss h, 0 < q.1) (u1 : Option am_V) :
    ∃ h1, (∀ a, a ≠ 254 → h1 a = ml_x K nm sc ss h a) ∧ (∀ j, j ≠ 69 → j ≠ 70 → j ≠ 72 → h1 254 j = h 254 j) ∧ h1 254 72 = m_mainf nm mn mM h (h 254 17).toNat 0 (-1) ∧ (h1 254 69, h1 254 70) = nfold (ml_n K P nm sc ss h) (0, h 254 70) ∧
      am_E (am_D (d + 5)) m_17_68 (.inl 3) [some (am_r (am_a 254)), u1, some (am_i (h 254 39))] [] (zS L, mnotes (ml_n K P nm sc ss h) (ml_x K nm sc ss h)) =
        if 0 < h1 254 69 then pI L (h1 254 69) (am_up h1 254 4 (h1 254 70))
        else if h1 254 72 = -1 then pI L 7 (am_up (am_up (am_up h1 254 69 7) 254 70 (h 254 3)) 254 4 (h 254 3))
        else am_E (am_D (d + 5)) m_17_68 (.inl 7) [some (am_r (am_a 254)), u1, some (am_i 0)] [] (zS L, am_up (am_up (am_up (am_up h1 254 4 (h1 254 70)) 254 4 (-1)) 254 71 1) 254 74 (h1 258 0)) := by
  have G := ml_G (h := h) (K := K) (P := P) (nm := nm) (sc := sc) (ss := ss)
  have TG := G.T T
  obtain ⟨h1, r1, r2, r3, r4⟩ := mc_main (mn := mn) (mM := mM) (d + 3) L M (G.same s0) TG (by
    intro s hs
    rw [G.2 17 (by decide) (by decide)] at hs
    rw [G.1 263 (by decide) (by decide) (by decide) (by decide), G.2 14 (by decide) (by decide)]
    exact hc s hs) (mnotes (ml_n K P nm sc ss h) (ml_x K nm sc ss h) 254 17).toNat 0 (am_up (mnotes (ml_n K P nm sc ss h) (ml_x K nm sc ss h)) 254 72 (-1)) none (fun a ha => p_up_c _ _ _ _ _ ha) (fun k hk => p_up_n _ _ _ _ _ _ (Or.inr hk)) (by have := TG.2.2.1.1; omega)
  have gx : mc_G h (ml_x K nm sc ss h) := mc_G.kxs _ _ _ (mc_G.ia _ _ _ ((mc_E.refl h).own _ _ _).G)
  have xf : ∀ j, j = 69 ∨ j = 70 → ml_x K nm sc ss h 254 j = h 254 j := by
    intro j hj
    have o : ∀ (m s : Nat) (x : am_H), m_own h m s x 254 j = x 254 j := by
      intro m
      induction m with
      | zero => intro s x; rfl
      | succ m ih => intro s x; unfold m_own; rw [ih, p_up_c _ _ _ _ _ (by decide)]
    have i : ∀ (m s : Nat) (x : am_H), m_ia nm h m s x 254 j = x 254 j := by
      intro m
      induction m with
      | zero => intro s x; rfl
      | succ m ih =>
        intro s x
        unfold m_ia
        rw [ih]
        split
        · rw [p_up_c _ _ _ _ _ (by decide)]
        · rfl
    have k1 : ∀ (k : Nat) (x : am_H), m_kx K nm sc ss h k x 254 j = x 254 j := by
      intro k x
      unfold m_kx
      by_cases c1 : h 282 k = -1
      · by_cases c2 : m_kc K nm sc h k = -1
        · rw [if_pos c1, if_pos c2, p_up_c _ _ _ _ _ (by decide)]
        · rw [if_pos c1, if_neg c2, p_up_c _ _ _ _ _ (by decide), p_up_c _ _ _ _ _ (by decide), p_up_c _ _ _ _ _ (by decide)]
      · by_cases c2 : m_kc K nm sc h k = -1
        · rw [if_neg c1, if_pos c2, p_up_c _ _ _ _ _ (by decide), p_up_c _ _ _ _ _ (by decide), p_up_c _ _ _ _ _ (by decide)]
        · rw [if_neg c1, if_neg c2, p_up_c _ _ _ _ _ (by decide), p_up_c _ _ _ _ _ (by decide), p_up_c _ _ _ _ _ (by decide), p_up_c _ _ _ _ _ (by decide), p_up_c _ _ _ _ _ (by decide)]
    have ks : ∀ (m s : Nat) (x : am_H), m_kxs K nm sc ss h m s x 254 j = x 254 j := by
      intro m
      induction m with
      | zero => intro s x; rfl
      | succ m ih => intro s x; unfold m_kxs; rw [ih, k1]
    unfold ml_x
    rw [ks, i, o]
  refine ⟨h1, fun a ha => by rw [r3 a ha, mnotes_c a ha], fun j h1 h2 h3 => by rw [r4 j h3]; exact G.2 j h1 h2, ?_, ?_, ?_⟩
  · rw [r2, p_up_s, m_main_G _ _ _ G, G.2 17 (by decide) (by decide)]
  · rw [r4 69 (by decide), r4 70 (by decide), mnotes_f, xf 69 (Or.inl rfl), xf 70 (Or.inr rfl), h69]
  · have f := nfold_0 (ml_n K P nm sc ss h) (h 254 70) hl
    have f69 : (h1 254 69, h1 254 70) = nfold (ml_n K P nm sc ss h) (0, h 254 70) := by rw [r4 69 (by decide), r4 70 (by decide), mnotes_f, xf 69 (Or.inl rfl), xf 70 (Or.inr rfl), h69]
    have e3 : h1 254 3 = h 254 3 := by rw [r4 3 (by decide)]; exact G.2 3 (by decide) (by decide)
    have pos : 0 ≤ h1 254 69 := by
      have : (nfold (ml_n K P nm sc ss h) (0, h 254 70)).1 = h1 254 69 := by rw [← f69]
      rcases f with ⟨-, z⟩ | ⟨z, -⟩
      · rw [z] at this; omega
      · have := hl _ z; omega
    have e66 : am_D (d + 5) 17 66 [am_r (am_a 254)] (zS L, mnotes (ml_n K P nm sc ss h) (ml_x K nm sc ss h)) = pV L h1 := by
      rw [D_17_66]
      exact r1
    rw [q_17_68_3, if_neg (by rw [G.2 39 (by decide) (by decide)]; omega), e66, p_xV]
    by_cases c1 : h1 254 69 = 0
    · rw [if_pos c1, if_neg (c := 0 < h1 254 69) (by omega)]
      by_cases c2 : h1 254 72 = -1
      · rw [if_pos c2, if_pos c2, q_17_68_5, p_up_n _ _ _ _ _ _ (Or.inr (by decide)), p_up_s, if_pos (by decide), p_up_s, e3]
      · rw [if_neg c2, if_neg c2, q_17_68_5, if_neg (by omega), p_bit1, p_idx (by decide) (by decide)]
        rfl
    · rw [if_neg c1, if_pos (c := 0 < h1 254 69) (by omega), q_17_68_5, if_pos (by omega)]
end
