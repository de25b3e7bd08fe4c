/-! SIGNS, 5: symbols -/
/-- the first place of a name -/
def sfnd (w : List Int) : List (List Int × Int) → Nat → Option Nat
  | [], _ => none
  | q :: l, i => if q.1 = w then some i else sfnd w l (i + 1)
theorem sfnd_c (w : List Int) (q : List Int × Int) (l : List (List Int × Int)) (i : Nat) : sfnd w (q :: l) i = if q.1 = w then some i else sfnd w l (i + 1) := rfl
theorem sfnd_rg : ∀ {l : List (List Int × Int)} {w : List Int} {i j : Nat}, sfnd w l i = some j → i ≤ j ∧ j < i + l.length ∧ ∃ q, l[j - i]? = some q ∧ q.1 = w
  | [], _, _, _, h => by cases h
  | q :: l, w, i, j, h => by
    rw [sfnd_c] at h
    by_cases c : q.1 = w
    · rw [if_pos c] at h
      cases h
      exact ⟨Nat.le_refl _, by rw [List.length_cons]; omega, q, by rw [Nat.sub_self]; rfl, c⟩
    · rw [if_neg c] at h
      obtain ⟨h1, h2, q', h3, h4⟩ := sfnd_rg h
      refine ⟨by omega, by rw [List.length_cons]; omega, q', ?_, h4⟩
      rw [show j - i = (j - (i + 1)) + 1 by omega]
      exact h3
/-- a symbol's number: found, or new; none without room -/
def ssym (w : List Int) (T : List (List Int × Int)) : Option (Nat × List (List Int × Int)) :=
  match sfnd w T 0 with
  | some i => some (i, T)
  | none => if T.length = 100 then none else some (T.length, T ++ [(w, -1)])
/-- the component's symbols -/
def cSx (T : List (List Int × Int)) (h : am_H) : Prop := h 23 13 = (T.length : Int) ∧ T.length ≤ 100 ∧ ∀ (i : Nat) (q : List Int × Int), T[i]? = some q → h 26 i = (q.1.length : Int) ∧ q.1.length ≤ 16 ∧ h 27 i = q.2 ∧ ∀ (j : Nat) (x : Int), q.1[j]? = some x → (-128 ≤ h 25 (16 * i + j) ∧ h 25 (16 * i + j) ≤ 127) ∧ h 25 (16 * i + j) % 256 = x
/-- the model's symbols -/
def mS (t : Nat → Int) (T : List (List Int × Int)) (h : am_H) : Prop := h 254 112 = (T.length : Int) ∧ T.length ≤ 100 ∧ ∀ (i : Nat) (q : List Int × Int), T[i]? = some q → h 324 i = (q.1.length : Int) ∧ q.1.length ≤ 16 ∧ h 325 i = q.2 ∧ (0 ≤ h 323 i ∧ h 323 i + q.1.length ≤ 4000) ∧ ∀ (j : Nat) (x : Int), q.1[j]? = some x → h 256 ((h 323 i).toNat + j) = x
section
variable {d L : Nat} {t : Nat → Int} {n : Nat} {h : am_H} {T : List (List Int × Int)}
theorem span_at {a e j : Nat} (hj : j < e - a) : (lx_span t a e)[j]? = some (t (a + j)) := by
  unfold lx_span
  rw [List.getElem?_map, List.getElem?_range hj]; rfl
/-- one entry is compared -/
theorem sc_like (H : sg_T t n h) (S : cSx T h) {a e s : Nat} {q : List Int × Int} (he : e ≤ n) (ha : a ≤ e) (hq : T[s]? = some q) (hl : q.1.length = e - a) : ∀ (m k : Nat), k + m = e → a ≤ k → (∀ j, a + j < k → q.1[j]? = some (t (a + j))) → ∃ x4 x5, am_E (am_D d) m_11_17 (.inl 4) [some (am_r (am_a 23)), some (am_i (a : Int)), some (am_i (e : Int)), some (am_i (s : Int)), some (am_i 1), some (am_i (k : Int))] [] (zS L, h) = if q.1 = lx_span t a e then pI L (s : Int) h else am_E (am_D d) m_11_17 (.inl 1) [some (am_r (am_a 23)), some (am_i (a : Int)), some (am_i (e : Int)), some (am_i ((s + 1 : Nat) : Int)), x4, x5] [] (zS L, h)
  | 0, k, hk, hak, hj => by
    have he' : q.1 = lx_span t a e := by
      apply List.ext_getElem?
      intro j
      by_cases z : j < e - a
      · rw [hj j (by omega), span_at z]
      · rw [List.getElem?_eq_none (by omega), List.getElem?_eq_none (by rw [lx_span_len]; omega)]
    exact ⟨none, none, by rw [q_11_17_4, if_neg (by omega), if_neg (by decide), if_pos he']⟩
  | m + 1, k, hk, hak, hj => by
    have hn := H.2.1
    have hs : s < 100 := by have := (List.getElem?_eq_some_iff.1 hq).1; have := S.2.1; omega
    obtain ⟨s1, s2, s3, s4⟩ := S.2.2 s q hq
    have kk : k - a < q.1.length := by omega
    obtain ⟨r1, r2⟩ := s4 (k - a) _ (List.getElem?_eq_getElem kk)
    obtain ⟨v1, v2⟩ := H.2.2 k (by omega)
    have hi : (16 * (s : Int) + (k : Int) - (a : Int)).toNat = 16 * s + (k - a) := by omega
    have eqv : h 25 (16 * s + (k - a)) = h 3 k ↔ q.1[k - a] = t k := by
      constructor
      · intro z; rw [← r2, z]; exact v2
      · intro z; rw [← r2, ← v2] at z; omega
    by_cases c : q.1[k - a] = t k
    · obtain ⟨x4, x5, r⟩ := sc_like H S he ha hq hl m (k + 1) (by omega) (by omega) (fun j hj' => by
        by_cases z : a + j = k
        · rw [show j = k - a by omega, List.getElem?_eq_getElem kk, c, show a + (k - a) = k by omega]
        · exact hj j (by omega))
      refine ⟨x4, x5, ?_⟩
      rw [q_11_17_4, if_pos (by omega), if_neg (by decide), p_w (x := 16 * (s : Int)) (by omega) (by omega), p_w (x := 16 * (s : Int) + (k : Int)) (by omega) (by omega), p_w (x := 16 * (s : Int) + (k : Int) - (a : Int)) (by omega) (by omega), p_idx (by omega) (by omega), p_idx (by omega) (by omega), hi, Int.toNat_natCast, if_pos (eqv.2 c), p_w (x := (k : Int) + 1) (by omega) (by omega)]
      exact r
    · have ne : ¬ q.1 = lx_span t a e := fun z => c (by
        have : q.1[k - a]? = some (t (a + (k - a))) := by rw [z]; exact span_at (by omega)
        rw [List.getElem?_eq_getElem kk, show a + (k - a) = k by omega] at this
        exact Option.some.inj this)
      refine ⟨some (am_i 0), some (am_i ((k : Int) + 1)), ?_⟩
      rw [q_11_17_4, if_pos (by omega), if_neg (by decide), p_w (x := 16 * (s : Int)) (by omega) (by omega), p_w (x := 16 * (s : Int) + (k : Int)) (by omega) (by omega), p_w (x := 16 * (s : Int) + (k : Int) - (a : Int)) (by omega) (by omega), p_idx (by omega) (by omega), p_idx (by omega) (by omega), hi, Int.toNat_natCast, if_neg (fun z => c (eqv.1 z)), p_w (x := (k : Int) + 1) (by omega) (by omega), if_neg ne, q_11_17_4, p_w (x := (s : Int) + 1) (by omega) (by omega)]
      by_cases z : (k : Int) + 1 < (e : Int)
      · rw [if_pos z, if_pos rfl, if_pos rfl]; rfl
      · rw [if_neg z, if_pos rfl]; rfl
theorem sc_syms (H : sg_T t n h) (S : cSx T h) {a e : Nat} (he : e ≤ n) (ha : a ≤ e) : ∀ (m k : Nat) (u4 u5 : Option am_V), k + m = T.length → ∃ x4 x5, am_E (am_D d) m_11_17 (.inl 1) [some (am_r (am_a 23)), some (am_i (a : Int)), some (am_i (e : Int)), some (am_i (k : Int)), u4, u5] [] (zS L, h) = match sfnd (lx_span t a e) (T.drop k) k with
      | some i => pI L (i : Int) h
      | none => am_E (am_D d) m_11_17 (.inl 1) [some (am_r (am_a 23)), some (am_i (a : Int)), some (am_i (e : Int)), some (am_i (T.length : Int)), x4, x5] [] (zS L, h)
  | 0, k, u4, u5, hk => by
    have : k = T.length := by omega
    subst this
    refine ⟨u4, u5, ?_⟩
    rw [List.drop_eq_nil_of_le (Nat.le_refl _)]; rfl
  | m + 1, k, u4, u5, hk => by
    have hn := H.2.1
    have hkl : k < T.length := by omega
    have hl := S.2.1
    have hd : T.drop k = T[k] :: T.drop (k + 1) := List.drop_eq_getElem_cons hkl
    have hq := List.getElem?_eq_getElem hkl
    obtain ⟨s1, s2, s3, s4⟩ := S.2.2 k _ hq
    rw [hd, sfnd_c]
    by_cases c : T[k].1 = lx_span t a e
    · have hl' : T[k].1.length = e - a := by rw [c, lx_span_len]
      obtain ⟨x4, x5, r⟩ := sc_like (d := d) (L := L) H S he ha hq hl' (e - a) a (by omega) (Nat.le_refl _) (fun j hj => by omega)
      refine ⟨u4, u5, ?_⟩
      rw [q_11_17_1, S.1, if_pos (by omega), p_idx (by omega) (by omega), Int.toNat_natCast, s1, p_w (x := (e : Int) - (a : Int)) (by omega) (by omega), if_pos (by omega), r, if_pos c, if_pos c]
    · rw [if_neg c]
      by_cases z : T[k].1.length = e - a
      · obtain ⟨x4, x5, r⟩ := sc_like (d := d) (L := L) H S he ha hq z (e - a) a (by omega) (Nat.le_refl _) (fun j hj => by omega)
        obtain ⟨y4, y5, r2⟩ := sc_syms H S he ha m (k + 1) x4 x5 (by omega)
        refine ⟨y4, y5, ?_⟩
        rw [q_11_17_1, S.1, if_pos (by omega), p_idx (by omega) (by omega), Int.toNat_natCast, s1, p_w (x := (e : Int) - (a : Int)) (by omega) (by omega), if_pos (by omega), r, if_neg c]
        exact r2
      · obtain ⟨y4, y5, r2⟩ := sc_syms H S he ha m (k + 1) (some (am_i 0)) (some (am_i (a : Int))) (by omega)
        refine ⟨y4, y5, ?_⟩
        rw [q_11_17_1, S.1, if_pos (by omega), p_idx (by omega) (by omega), Int.toNat_natCast, s1, p_w (x := (e : Int) - (a : Int)) (by omega) (by omega), if_neg (by omega), q_11_17_4, p_w (x := (k : Int) + 1) (by omega) (by omega)]
        by_cases y : (a : Int) < (e : Int)
        · rw [if_pos y, if_pos rfl, if_pos rfl]; exact r2
        · rw [if_neg y, if_pos rfl]; exact r2
/-- letters of a new symbol -/
theorem sc_lets (H : sg_T t n h) {a e T0 : Nat} (he : e ≤ n) (hT : T0 < 100) (h13 : h 23 13 = (T0 : Int)) (h16 : e - a ≤ 16) {u4 u5 : Option am_V} : ∀ (m k : Nat) {g : am_H}, k + m = e → a ≤ k → (∀ c, c ≠ 25 → g c = h c) → (∀ j, (j < 16 * T0 ∨ 16 * T0 + 16 ≤ j) → g 25 j = h 25 j) → (∀ j, a + j < k → g 25 (16 * T0 + j) = h 3 (a + j)) → ∃ g', am_E (am_D d) m_11_17 (.inl 11) [some (am_r (am_a 23)), some (am_i (a : Int)), some (am_i (e : Int)), some (am_i (k : Int)), u4, u5] [] (zS L, g) = pI L (T0 : Int) (am_up (am_up (am_up g' 26 T0 ((e : Int) - (a : Int))) 27 T0 (-1)) 23 13 ((T0 : Int) + 1)) ∧ (∀ c, c ≠ 25 → g' c = h c) ∧ (∀ j, (j < 16 * T0 ∨ 16 * T0 + 16 ≤ j) → g' 25 j = h 25 j) ∧ (∀ j, a + j < e → g' 25 (16 * T0 + j) = h 3 (a + j))
  | 0, k, g, hk, hak, g1, g2, g3 => by
    have hn := H.2.1
    have e13 : g 23 13 = (T0 : Int) := by rw [g1 23 (by decide)]; exact h13
    refine ⟨g, ?_, g1, g2, fun j hj => g3 j (by omega)⟩
    rw [q_11_17_11, if_neg (by omega), e13, p_idx (by omega) (by omega), Int.toNat_natCast, p_w (x := (T0 : Int) + 1) (by omega) (by omega), p_w (x := (T0 : Int) + 1 - 1) (by omega) (by omega), p_w (x := (e : Int) - (a : Int)) (by omega) (by omega), show (T0 : Int) + 1 - 1 = (T0 : Int) by omega, p_idx (by omega) (by omega), Int.toNat_natCast]
  | m + 1, k, g, hk, hak, g1, g2, g3 => by
    have hn := H.2.1
    have e13 : g 23 13 = (T0 : Int) := by rw [g1 23 (by decide)]; exact h13
    have hi : (16 * (T0 : Int) + (k : Int) - (a : Int)).toNat = 16 * T0 + (k - a) := by omega
    obtain ⟨v1, v2⟩ := H.2.2 k (by omega)
    rw [q_11_17_11, if_pos (by omega), p_idx (by omega) (by omega), e13, p_w (x := 16 * (T0 : Int)) (by omega) (by omega), p_w (x := 16 * (T0 : Int) + (k : Int)) (by omega) (by omega), p_w (x := 16 * (T0 : Int) + (k : Int) - (a : Int)) (by omega) (by omega), p_idx (by omega) (by omega), hi, Int.toNat_natCast, g1 3 (by decide), p_s8 v1.1 v1.2, p_w (x := (k : Int) + 1) (by omega) (by omega)]
    refine sc_lets H he hT h13 h16 m (k + 1) (by omega) (by omega) (fun c hc => by rw [p_up_c _ _ _ _ _ hc]; exact g1 c hc) (fun j hj => ?_) (fun j hj => ?_)
    · rw [p_up_n _ _ _ _ _ _ (Or.inr (by omega))]; exact g2 j hj
    · by_cases z : a + j = k
      · rw [show j = k - a by omega, p_up_s, show a + (k - a) = k by omega]
      · rw [p_up_n _ _ _ _ _ _ (Or.inr (by omega))]; exact g3 j (by omega)
theorem sc_symbol (H : sg_T t n h) (S : cSx T h) {a e : Nat} (he : e ≤ n) (ha : a ≤ e) (h16 : e - a ≤ 16) : (ssym (lx_span t a e) T = none ∧ am_D (d + 1) 11 17 [am_r (am_a 23), am_i (a : Int), am_i (e : Int)] (zS L, h) = pI L (-1) h) ∨ ∃ i T' h', ssym (lx_span t a e) T = some (i, T') ∧ am_D (d + 1) 11 17 [am_r (am_a 23), am_i (a : Int), am_i (e : Int)] (zS L, h) = pI L (i : Int) h' ∧ i < T'.length ∧ cSx T' h' ∧ p_fr [25, 26, 27] [(23, 13)] h h' ∧ (sfnd (lx_span t a e) T 0 ≠ none → h' = h) := by
  have hn := H.2.1
  rw [D_11_17]
  obtain ⟨x4, x5, r⟩ := sc_syms (d := d) (L := L) H S he ha T.length 0 none none (by omega)
  have r : am_E (am_D d) m_11_17 (.inl 1) [some (am_r (am_a 23)), some (am_i (a : Int)), some (am_i (e : Int)), some (am_i 0), none, none] [] (zS L, h) = _ := r
  rw [r, List.drop_zero]
  unfold ssym
  cases c : sfnd (lx_span t a e) T 0 with
  | some i =>
    right
    have := sfnd_rg c
    exact ⟨i, T, h, rfl, rfl, by omega, S, p_fr.refl h, fun _ => rfl⟩
  | none =>
    dsimp only
    obtain ⟨S1, S2, S3⟩ := S
    rw [q_11_17_1, S1, if_neg (show ¬ (T.length : Int) < (T.length : Int) by omega)]
    by_cases z : T.length = 100
    · left
      rw [if_pos z, if_pos (show (T.length : Int) = 100 by omega)]
      exact ⟨rfl, rfl⟩
    · right
      rw [if_neg z, if_neg (show ¬ (T.length : Int) = 100 by omega)]
      obtain ⟨g', r2, g1, g2, g3⟩ := sc_lets (d := d) (L := L) (u4 := x4) (u5 := x5) H he (show T.length < 100 by omega) S1 h16 (e - a) a (g := h) (by omega) (Nat.le_refl _) (fun _ _ => rfl) (fun _ _ => rfl) (fun j hj => by omega)
      obtain ⟨G, hG⟩ : ∃ G, G = am_up (am_up (am_up g' 26 T.length ((e : Int) - (a : Int))) 27 T.length (-1)) 23 13 ((T.length : Int) + 1) := ⟨_, rfl⟩
      have G25 : G 25 = g' 25 := by rw [hG, p_up_c _ _ _ _ _ (by decide), p_up_c _ _ _ _ _ (by decide), p_up_c _ _ _ _ _ (by decide)]
      have G26s : G 26 T.length = (e : Int) - (a : Int) := by rw [hG, p_up_c _ _ _ _ _ (by decide), p_up_c _ _ _ _ _ (by decide), p_up_s]
      have G27s : G 27 T.length = -1 := by rw [hG, p_up_c _ _ _ _ _ (by decide), p_up_s]
      have G26n : ∀ i, i ≠ T.length → G 26 i = h 26 i := fun i hi => by rw [hG, p_up_c _ _ _ _ _ (by decide), p_up_c _ _ _ _ _ (by decide), p_up_n _ _ _ _ _ _ (Or.inr hi), g1 26 (by decide)]
      have G27n : ∀ i, i ≠ T.length → G 27 i = h 27 i := fun i hi => by rw [hG, p_up_c _ _ _ _ _ (by decide), p_up_n _ _ _ _ _ _ (Or.inr hi), p_up_c _ _ _ _ _ (by decide), g1 27 (by decide)]
      have G13 : G 23 13 = (T.length : Int) + 1 := by rw [hG, p_up_s]
      rw [← hG] at r2
      refine ⟨T.length, _, G, rfl, r2, by rw [List.length_append, List.length_singleton]; omega, ⟨?_, ?_, fun i q hq => ?_⟩, ?_, fun y => absurd rfl y⟩
      · rw [G13, List.length_append, List.length_singleton]; omega
      · rw [List.length_append, List.length_singleton]; omega
      · rw [G25]
        by_cases y : i < T.length
        · rw [List.getElem?_append_left y] at hq
          obtain ⟨s1, s2, s3, s4⟩ := S3 i q hq
          rw [G26n i (by omega), G27n i (by omega)]
          refine ⟨s1, s2, s3, fun j x hx => ?_⟩
          have := (List.getElem?_eq_some_iff.1 hx).1
          rw [g2 _ (by omega)]
          exact s4 j x hx
        · have : i = T.length := by
            have := (List.getElem?_eq_some_iff.1 hq).1
            rw [List.length_append, List.length_singleton] at this; omega
          subst this
          rw [List.getElem?_append_right (Nat.le_refl _), Nat.sub_self] at hq
          cases hq
          refine ⟨?_, by rw [lx_span_len]; exact h16, G27s, fun j x hx => ?_⟩
          · rw [G26s, lx_span_len]; omega
          · obtain ⟨j1, rfl⟩ := lx_span_at hx
            rw [g3 j (by omega)]
            exact H.2.2 (a + j) (by omega)
      · have f0 : p_fr [25, 26, 27] [(23, 13)] h g' := fun c k hc _ => by rw [g1 c (by rintro rfl; revert hc; decide)]
        rw [hG]
        exact ((f0.upc _ _ _ rfl).upc _ _ _ rfl).upf _ _ _ rfl
end
