/-! PURE LAYER, 87: all calls; checkMain -/
def nt_ks (K P nm sc ss : Nat → Int) (h : am_H) : Nat → Nat → List (Int × Int)
  | 0, _ => []
  | m + 1, k => nt_k K P nm sc ss h k ++ nt_ks K P nm sc ss h m (k + 1)
def m_kxs (K nm sc ss : Nat → Int) (h : am_H) : Nat → Nat → am_H → am_H
  | 0, _, x => x
  | m + 1, k, x => m_kxs K nm sc ss h m (k + 1) (m_kx K nm sc ss h k x)
theorem m_kx_notes (K nm sc ss : Nat → Int) (h : am_H) (l : List (Int × Int)) (k : Nat) (x : am_H) : m_kx K nm sc ss h k (mnotes l x) = mnotes l (m_kx K nm sc ss h k x) := by
  unfold m_kx
  dsimp only
  by_cases c1 : h 282 k = -1
  · rw [if_pos c1, if_pos c1]
    by_cases c2 : m_kc K nm sc h k = -1
    · rw [if_pos c2, if_pos c2, mnotes_upc (by decide)]
    · rw [if_neg c2, if_neg c2, mnotes_upc (by decide), mnotes_upc (by decide), mnotes_upc (by decide)]
  · rw [if_neg c1, if_neg c1]
    by_cases c2 : m_kc K nm sc h k = -1
    · rw [if_pos c2, if_pos c2, mnotes_upc (by decide), mnotes_upc (by decide), mnotes_upc (by decide)]
    · rw [if_neg c2, if_neg c2, mnotes_upc (by decide), mnotes_upc (by decide), mnotes_upc (by decide), mnotes_upc (by decide), mnotes_upc (by decide)]
theorem m_kxs_notes (K nm sc ss : Nat → Int) (h : am_H) (l : List (Int × Int)) : ∀ (m k : Nat) (x : am_H), m_kxs K nm sc ss h m k (mnotes l x) = mnotes l (m_kxs K nm sc ss h m k x)
  | 0, k, x => rfl
  | m + 1, k, x => by unfold m_kxs; rw [m_kx_notes, m_kxs_notes K nm sc ss h l m]
theorem mc_G.kx {K nm sc ss : Nat → Int} {h h' : am_H} (e : mc_G h h') (k : Nat) : mc_G h (m_kx K nm sc ss h k h') := by
  unfold m_kx
  dsimp only
  by_cases c1 : h 282 k = -1
  · rw [if_pos c1]
    have e1 : mc_G h (am_up h' 285 k 2) := e.up _ _ (Or.inr (Or.inl (by decide)))
    by_cases c2 : m_kc K nm sc h k = -1
    · rw [if_pos c2]; exact e1
    · rw [if_neg c2]; exact (e1.up _ _ (Or.inr (Or.inl (by decide)))).up _ _ (Or.inr (Or.inl (by decide)))
  · rw [if_neg c1]
    have e1 : mc_G h (am_up (am_up (am_up h' 285 k 2) 285 k (m_ko nm h k)) 286 k (m_var nm h (h 289 k) (h 282 k).toNat)) := ((e.up _ _ (Or.inr (Or.inl (by decide)))).up _ _ (Or.inr (Or.inl (by decide)))).up _ _ (Or.inr (Or.inl (by decide)))
    by_cases c2 : m_kc K nm sc h k = -1
    · rw [if_pos c2]; exact e1
    · rw [if_neg c2]; exact (e1.up _ _ (Or.inr (Or.inl (by decide)))).up _ _ (Or.inr (Or.inl (by decide)))
/-- the main sub: mn, mM the numbers of main and Main -/
def m_ism (nm : Nat → Int) (mn mM : Int) (h : am_H) (s : Nat) : Prop := h 264 s = 2 ∧ h 267 s = 0 ∧ nm (h 265 s).toNat = mn ∧ nm (h 261 (h 263 s).toNat).toNat = mM
def m_mainf (nm : Nat → Int) (mn mM : Int) (h : am_H) : Nat → Nat → Int → Int
  | 0, _, r => r
  | m + 1, s, r => m_mainf nm mn mM h m (s + 1) (if (h 264 s = 2 ∧ h 267 s = 0 ∧ nm (h 265 s).toNat = mn ∧ nm (h 261 (h 263 s).toNat).toNat = mM) ∧ r = -1 then s else r)
section
variable {h0 h : am_H} {K P nm sc ss : Nat → Int} {Z : Nat} (d L : Nat) {mn mM : Int}
theorem mc_calls (A : mc_A h0 K nm sc ss Z) (s0 : mc_same h0 h) (T : mc_T K Z h) (kk : mc_K K P Z h) (Cc : mc_C K Z h) (u1 : Option am_V) : ∀ (m k : Nat) (h' : am_H), mc_G h h' → (k : Int) + m = h 254 39 → am_E (am_D (d + 4)) m_17_68 (.inl 3) [some (am_r (am_a 254)), u1, some (am_i (k : Int))] [] (zS L, h') = am_E (am_D (d + 4)) m_17_68 (.inl 3) [some (am_r (am_a 254)), u1, some (am_i (h 254 39))] [] (zS L, mnotes (nt_ks K P nm sc ss h m k) (m_kxs K nm sc ss h m k h'))
  | 0, k, h', e, hk => by rw [show (k : Int) = h 254 39 by omega]; rfl
  | m + 1, k, h', e, hk => by
    have c2 := Cc.1.2.1
    rw [q_17_68_3, if_pos (by rw [e.2 39 (by decide) (by decide)]; omega), mc_call (P := P) d L A s0 T kk Cc (by omega) e, p_xV, p_w (by omega) (by omega), show (k : Int) + 1 = ((k + 1 : Nat) : Int) by omega, mc_calls A s0 T kk Cc u1 m (k + 1) _ ((e.kx k).notes _) (by omega), m_kxs_notes]
    show _ = am_E (am_D (d + 4)) m_17_68 (.inl 3) _ [] (zS L, mnotes (nt_k K P nm sc ss h k ++ nt_ks K P nm sc ss h m (k + 1)) (m_kxs K nm sc ss h m (k + 1) (m_kx K nm sc ss h k h')))
    rw [mnotes_app]
/-- main and Main are told by numbers -/
def mc_M (h0 : am_H) (K nm : Nat → Int) (Z : Nat) (mn mM : Int) : Prop := ∀ (d L : Nat) (h : am_H) (t : Nat), mc_same h0 h → t ≤ Z → K t = 2 → am_D (d + 1) 17 67 [am_r (am_a 254), am_i (t : Int), am_i 109, am_i 97, am_i 105, am_i 110] (zS L, h) = pI L (pB (nm t = mn)) h ∧ am_D (d + 1) 17 67 [am_r (am_a 254), am_i (t : Int), am_i 77, am_i 97, am_i 105, am_i 110] (zS L, h) = pI L (pB (nm t = mM)) h
/-- checkMain() -/
theorem mc_main (M : mc_M h0 K nm Z mn mM) (s0 : mc_same h0 h) (T : mc_T K Z h) (hc : ∀ s : Nat, (s : Int) < h 254 17 → 0 ≤ h 263 s ∧ h 263 s < h 254 14) : ∀ (m s : Nat) (h' : am_H) (u2 : Option am_V), (∀ a, (a ≠ 254) → h' a = h a) → (∀ k, k ≠ 72 → h' 254 k = h 254 k) → (s : Int) + m = h 254 17 → ∃ h2, am_E (am_D (d + 1)) m_17_66 (.inl 1) [some (am_r (am_a 254)), some (am_i (s : Int)), u2] [] (zS L, h') = pV L h2 ∧ h2 254 72 = m_mainf nm mn mM h m s (h' 254 72) ∧ (∀ a, (a ≠ 254) → h2 a = h a) ∧ (∀ k, k ≠ 72 → h2 254 k = h 254 k)
  | 0, s, h', u2, e1, e2, hs => by
    rw [q_17_66_1, if_neg (by rw [e2 17 (by decide)]; omega)]
    exact ⟨h', rfl, rfl, e1, e2⟩
  | m + 1, s, h', u2, e1, e2, hs => by
    obtain ⟨t1, t2, t3⟩ := T.2.2.1
    obtain ⟨t, f1, f2, f3⟩ := t3 s (by omega)
    obtain ⟨c1, c2⟩ := hc s (by omega)
    obtain ⟨t4, t5, t6⟩ := T.2.1
    obtain ⟨u, g1, g2, g3⟩ := t6 (h 263 s).toNat (by omega)
    have sm : mc_same h0 h' := fun a ha => by rw [e1 a (by omega)]; exact s0 a ha
    have ft : (h 265 s).toNat = t := by rw [f1, Int.toNat_natCast]
    have gu : (h 261 (h 263 s).toNat).toNat = u := by rw [g1, Int.toNat_natCast]
    -- behind the tests
    have fin : ∀ (b : Bool) (x2 : Option am_V), (b = true ↔ m_ism nm mn mM h s) → ∃ h2, am_E (am_D (d + 1)) m_17_66 (.inl 3) [some (am_r (am_a 254)), some (am_i (s : Int)), x2] [am_i (pB (b = true))] (zS L, h') = pV L h2 ∧ h2 254 72 = m_mainf nm mn mM h (m + 1) s (h' 254 72) ∧ (∀ a, (a ≠ 254) → h2 a = h a) ∧ (∀ k, k ≠ 72 → h2 254 k = h 254 k) := by
      intro b x2 hb
      unfold m_ism at hb
      rw [q_17_66_3, p_w (by omega) (by omega), show (s : Int) + 1 = ((s + 1 : Nat) : Int) by omega]
      unfold m_mainf
      cases b with
      | false =>
        rw [if_pos (by rw [pB_f (by simp)]), if_neg (fun z => absurd (hb.mpr z.1) (by simp))]
        exact mc_main M s0 T hc m (s + 1) h' _ e1 e2 (by omega)
      | true =>
        have hb := hb.mp rfl
        rw [if_neg (by rw [pB_t rfl]; decide)]
        by_cases c72 : h' 254 72 = -1
        · rw [if_pos c72, if_pos ⟨hb, c72⟩]
          obtain ⟨h2, r1, r2, r3, r4⟩ := mc_main M s0 T hc m (s + 1) (am_up h' 254 72 (s : Int)) (some (am_i (pB (true = true)))) (fun a ha => by rw [p_up_c _ _ _ _ _ ha]; exact e1 a ha) (fun k hk => by rw [p_up_n _ _ _ _ _ _ (Or.inr hk)]; exact e2 k hk) (by omega)
          rw [p_up_s] at r2
          exact ⟨h2, r1, r2, r3, r4⟩
        · rw [if_neg c72, if_neg (fun z => c72 z.2)]
          exact mc_main M s0 T hc m (s + 1) h' _ e1 e2 (by omega)
    have F0 := fun (x2 : Option am_V) (hn : ¬ m_ism nm mn mM h s) => fin false x2 ⟨fun z => (by cases z), fun z => absurd z hn⟩
    simp only [pB_f (p := false = true) (by simp)] at F0
    rw [q_17_66_1, if_pos (by rw [e2 17 (by decide)]; omega), p_idx (by omega) (by omega), Int.toNat_natCast, e1 264 (by decide)]
    by_cases a1 : h 264 s = 2
    · rw [if_pos a1, p_idx (by omega) (by omega), Int.toNat_natCast, e1 267 (by decide)]
      by_cases a2 : h 267 s = 0
      · rw [if_pos a2, p_idx (by omega) (by omega), Int.toNat_natCast, e1 265 (by decide), f1, (M d L h' t sm f2 f3).1, p_xI]
        by_cases a3 : nm t = mn
        · rw [if_neg (by rw [pB_t a3]; decide), p_idx (by omega) (by omega), Int.toNat_natCast, e1 263 (by decide), p_idx c1 (by omega), e1 261 (by decide), g1, (M d L h' u sm g2 g3).2, p_xI]
          by_cases a4 : nm u = mM
          · rw [if_neg (by rw [pB_t a4]; decide)]
            have t7 := fin true u2 ⟨fun _ => ⟨a1, a2, by rw [ft]; exact a3, by rw [gu]; exact a4⟩, fun _ => rfl⟩
            rw [pB_t (p := true = true) rfl] at t7
            exact t7
          · rw [if_pos (by rw [pB_f a4])]
            exact F0 u2 (fun z => a4 (by have := z.2.2.2; rw [gu] at this; exact this))
        · rw [if_pos (by rw [pB_f a3])]
          exact F0 u2 (fun z => a3 (by have := z.2.2.1; rw [ft] at this; exact this))
      · rw [if_neg a2]
        exact F0 u2 (fun z => a2 z.2.1)
    · rw [if_neg a1]
      exact F0 u2 (fun z => a1 z.1)
end
