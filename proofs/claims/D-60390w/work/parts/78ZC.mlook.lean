/-! PURE LAYER, 82: how the model looks names up. nm: the number of a token's name; sc, ss: of the system's classes and subs -/
def mc_same (h0 h : am_H) : Prop := ∀ a, (a = 256 ∨ a = 257 ∨ a = 258 ∨ a = 259 ∨ a = 297 ∨ a = 298 ∨ a = 299 ∨ a = 300 ∨ a = 301) → h a = h0 a
theorem mc_same.up {h0 h : am_H} (s : mc_same h0 h) {a k : Nat} {v : Int} (ha : ¬ (256 ≤ a ∧ a ≤ 259) ∧ ¬ (297 ≤ a ∧ a ≤ 301)) : mc_same h0 (am_up h a k v) := fun b hb => by
  rw [p_up_c _ _ _ _ _ (by omega)]; exact s b hb
/-- names are told apart by their numbers -/
def mc_A (h0 : am_H) (K nm sc ss : Nat → Int) (Z : Nat) : Prop :=
  (∀ (d L : Nat) (h : am_H) (t u : Nat), mc_same h0 h → t ≤ Z → u ≤ Z → K t = 2 → K u = 2 → am_D (d + 1) 17 16 [am_r (am_a 254), am_i (t : Int), am_i (u : Int)] (zS L, h) = pI L (pB (nm t = nm u)) h) ∧
  (∀ (d L : Nat) (h : am_H) (t c : Nat), mc_same h0 h → t ≤ Z → K t = 2 → c < 8 → am_D (d + 1) 17 53 [am_r (am_a 254), am_i (t : Int), am_i (h 298 c)] (zS L, h) = pI L (pB (sc c = nm t)) h) ∧
  (∀ (d L : Nat) (h : am_H) (t s : Nat), mc_same h0 h → t ≤ Z → K t = 2 → s < 60 → (s : Int) < h0 297 8 → am_D (d + 1) 17 53 [am_r (am_a 254), am_i (t : Int), am_i (h 299 s)] (zS L, h) = pI L (pB (ss s = nm t)) h) ∧
  (∀ c, c < 8 → 0 ≤ h0 297 c ∧ h0 297 c ≤ h0 297 (c + 1) ∧ h0 297 (c + 1) ≤ h0 297 8) ∧ h0 297 8 ≤ 60
/-- tables of the text: tokens in range, of names -/
def mc_T (K : Nat → Int) (Z : Nat) (h : am_H) : Prop := Z ≤ 1000 ∧
  (0 ≤ h 254 14 ∧ h 254 14 ≤ 12 ∧ ∀ k : Nat, (k : Int) < h 254 14 → ∃ t : Nat, h 261 k = t ∧ t ≤ Z ∧ K t = 2) ∧
  (0 ≤ h 254 17 ∧ h 254 17 ≤ 60 ∧ ∀ s : Nat, (s : Int) < h 254 17 → ∃ t : Nat, h 265 s = t ∧ t ≤ Z ∧ K t = 2) ∧
  (0 ≤ h 254 25 ∧ h 254 25 ≤ 1090 ∧ ∀ v : Nat, (v : Int) < h 254 25 → ∃ t : Nat, h 273 v = t ∧ t ≤ Z ∧ K t = 2)
def m_sc (nm sc : Nat → Int) (t : Nat) : Int := p_find sc (nm t) 8 0
def m_cof (nm sc : Nat → Int) (h : am_H) (t : Nat) : Int := if m_sc nm sc t = -1 then (if p_find (fun k => nm (h 261 k).toNat) (nm t) (h 254 14).toNat 0 = -1 then -1 else 8 + p_find (fun k => nm (h 261 k).toNat) (nm t) (h 254 14).toNat 0) else m_sc nm sc t
def m_sof (nm ss : Nat → Int) (h : am_H) (c : Int) (t : Nat) : Int := if c < 8 then p_find ss (nm t) (h 297 (c.toNat + 1) - h 297 c.toNat).toNat (h 297 c.toNat).toNat else p_find2 (h 263) (fun s => nm (h 265 s).toNat) (c - 8) (nm t) (h 254 17).toNat 0
def m_varf (nm : Nat → Int) (h : am_H) (sub : Int) (t : Nat) : Nat → Int → Int → Int → Int
  | 0, o, f, x => if o = -1 then (if f = -1 then x else f) else o
  | v + 1, o, f, x => if nm (h 273 v).toNat = nm t then m_varf nm h sub t v (if h 271 v = sub then v else o) (if h 271 v = -1 ∧ h 270 v = h 263 sub.toNat ∧ h 272 v = 1 then v else f) (if h 271 v = -1 ∧ h 270 v = h 263 sub.toNat ∧ h 272 v = 0 then v else x) else m_varf nm h sub t v o f x
def m_var (nm : Nat → Int) (h : am_H) (sub : Int) (t : Nat) : Int := m_varf nm h sub t (h 254 25).toNat (-1) (-1) (-1)
section
variable {h0 h : am_H} {K nm sc ss : Nat → Int} {Z : Nat} (d L : Nat)
theorem mc_sysc (A : mc_A h0 K nm sc ss Z) (s : mc_same h0 h) {t : Nat} (ht : t ≤ Z) (hk : K t = 2) : am_D (d + 2) 17 54 [am_r (am_a 254), am_i (t : Int)] (zS L, h) = pI L (m_sc nm sc t) h := by
  have go : ∀ m c : Nat, c + m = 8 → am_E (am_D (d + 1)) m_17_54 (.inl 1) [some (am_r (am_a 254)), some (am_i (t : Int)), some (am_i (c : Int))] [] (zS L, h) = pI L (p_find sc (nm t) m c) h := by
    intro m
    induction m with
    | zero =>
      intro c hc
      rw [q_17_54_1, if_neg (by omega)]
      rfl
    | succ m ih =>
      intro c hc
      rw [q_17_54_1, if_pos (by omega), p_idx (by omega) (by omega), Int.toNat_natCast, A.2.1 d L h t c s ht hk (by omega), p_xI]
      unfold p_find
      by_cases e : sc c = nm t
      · rw [if_pos e, if_neg (by rw [pB_t e]; decide)]
      · rw [if_neg e, if_pos (by rw [pB_f e]), p_w (by omega) (by omega)]
        exact ih (c + 1) (by omega)
  rw [D_17_54]
  exact go 8 0 rfl
theorem mc_classOf (A : mc_A h0 K nm sc ss Z) (s : mc_same h0 h) (T : mc_T K Z h) {t : Nat} (ht : t ≤ Z) (hk : K t = 2) : am_D (d + 3) 17 55 [am_r (am_a 254), am_i (t : Int)] (zS L, h) = pI L (m_cof nm sc h t) h := by
  obtain ⟨T0, ⟨T1, T2, T3⟩, -, -⟩ := T
  have go : ∀ m k : Nat, (k : Int) + m = h 254 14 → am_E (am_D (d + 2)) m_17_55 (.inl 1) [some (am_r (am_a 254)), some (am_i (t : Int)), some (am_i (-1)), some (am_i (k : Int))] [] (zS L, h) = pI L (if p_find (fun k => nm (h 261 k).toNat) (nm t) m k = -1 then -1 else 8 + p_find (fun k => nm (h 261 k).toNat) (nm t) m k) h := by
    intro m
    induction m with
    | zero =>
      intro k hk'
      rw [q_17_55_1, if_neg (by omega)]
      rfl
    | succ m ih =>
      intro k hk'
      obtain ⟨u, e1, e2, e3⟩ := T3 k (by omega)
      rw [q_17_55_1, if_pos (by omega), if_pos rfl, p_idx (by omega) (by omega), Int.toNat_natCast, e1, A.1 (d + 1) L h u t s e2 ht e3 hk, p_xI]
      unfold p_find
      have eu : nm (h 261 k).toNat = nm u := by rw [e1, Int.toNat_natCast]
      rw [eu]
      by_cases e : nm u = nm t
      · rw [if_pos e, if_neg (c := (k : Int) = -1) (by omega), if_neg (by rw [pB_t e]; decide), p_w (by omega) (by omega), p_w (by omega) (by omega), q_17_55_1]
        by_cases c : (k : Int) + 1 < h 254 14
        · rw [if_pos c, if_neg (by omega)]
        · rw [if_neg c]
      · rw [if_neg e, if_pos (by rw [pB_f e]), p_w (by omega) (by omega)]
        exact ih (k + 1) (by omega)
  rw [D_17_55, mc_sysc d L A s ht hk, p_xI]
  unfold m_cof
  by_cases c : m_sc nm sc t = -1
  · rw [if_pos c, c]
    have t2 := go (h 254 14).toNat 0 (by omega)
    exact t2
  · rw [if_neg c, q_17_55_1]
    by_cases c2 : (0 : Int) < h 254 14
    · rw [if_pos c2, if_neg c]
    · rw [if_neg c2]
theorem mc_subOf (A : mc_A h0 K nm sc ss Z) (s : mc_same h0 h) (T : mc_T K Z h) {t : Nat} (ht : t ≤ Z) (hk : K t = 2) {c : Int} (hc : 0 ≤ c ∧ c ≤ 100) : am_D (d + 2) 17 56 [am_r (am_a 254), am_i c, am_i (t : Int)] (zS L, h) = pI L (m_sof nm ss h c t) h := by
  obtain ⟨T0, -, ⟨T1, T2, T3⟩, -⟩ := T
  obtain ⟨A1, -, A3, A4, A5⟩ := A
  rw [D_17_56]
  unfold m_sof
  by_cases c8 : c < 8
  · have e297 := s 297 (by simp)
    obtain ⟨a1, a2, a3⟩ := A4 c.toNat (by omega)
    have go : ∀ m k : Nat, (k : Int) + m = h 297 (c.toNat + 1) → am_E (am_D (d + 1)) m_17_56 (.inl 1) [some (am_r (am_a 254)), some (am_i c), some (am_i (t : Int)), some (am_i (k : Int))] [] (zS L, h) = pI L (p_find ss (nm t) m k) h := by
      intro m
      induction m with
      | zero =>
        intro k hk'
        rw [q_17_56_1, p_w (by omega) (by omega), p_idx (by omega) (by omega), show (c + 1).toNat = c.toNat + 1 by omega, if_neg (by omega)]
        rfl
      | succ m ih =>
        intro k hk'
        have hs : (k : Int) < h0 297 8 := by rw [e297] at hk'; omega
        rw [q_17_56_1, p_w (by omega) (by omega), p_idx (by omega) (by omega), show (c + 1).toNat = c.toNat + 1 by omega, if_pos (by omega), p_idx (by omega) (by omega), Int.toNat_natCast, A3 d L h t k s ht hk (by omega) hs, p_xI]
        unfold p_find
        by_cases e : ss k = nm t
        · rw [if_pos e, if_neg (by rw [pB_t e]; decide)]
        · rw [if_neg e, if_pos (by rw [pB_f e]), p_w (by omega) (by omega)]
          exact ih (k + 1) (by omega)
    rw [if_pos c8, if_pos c8, p_idx (by omega) (by omega)]
    have h1 : h 297 c.toNat = h0 297 c.toNat := by rw [e297]
    have h2 : h 297 (c.toNat + 1) = h0 297 (c.toNat + 1) := by rw [e297]
    have t2 := go (h 297 (c.toNat + 1) - h 297 c.toNat).toNat (h 297 c.toNat).toNat (by omega)
    rw [show (((h 297 c.toNat).toNat : Nat) : Int) = h 297 c.toNat by omega] at t2
    exact t2
  · have go : ∀ m k : Nat, (k : Int) + m = h 254 17 → am_E (am_D (d + 1)) m_17_56 (.inl 5) [some (am_r (am_a 254)), some (am_i c), some (am_i (t : Int)), some (am_i (k : Int))] [] (zS L, h) = pI L (p_find2 (h 263) (fun s => nm (h 265 s).toNat) (c - 8) (nm t) m k) h := by
      intro m
      induction m with
      | zero =>
        intro k hk'
        rw [q_17_56_5, if_neg (by omega)]
        rfl
      | succ m ih =>
        intro k hk'
        obtain ⟨u, e1, e2, e3⟩ := T3 k (by omega)
        have eu : nm (h 265 k).toNat = nm u := by rw [e1, Int.toNat_natCast]
        rw [q_17_56_5, if_pos (by omega), p_idx (by omega) (by omega), Int.toNat_natCast, p_w (x := c - 8) (by omega) (by omega), p_idx (by omega) (by omega), Int.toNat_natCast, e1, A1 d L h u t s e2 ht e3 hk, p_xI, p_w (x := (k : Int) + 1) (by omega) (by omega)]
        unfold p_find2
        rw [eu]
        by_cases e : h 263 k = c - 8
        · by_cases e' : nm u = nm t
          · rw [if_pos e, if_neg (by rw [pB_t e']; decide), if_pos ⟨e, e'⟩]
          · rw [if_pos e, if_pos (by rw [pB_f e']), if_neg (fun z => e' z.2)]
            exact ih (k + 1) (by omega)
        · rw [if_neg e, if_neg (fun z => e z.1)]
          exact ih (k + 1) (by omega)
    rw [if_neg c8, if_neg c8]
    exact go (h 254 17).toNat 0 (by omega)
theorem mc_var (A : mc_A h0 K nm sc ss Z) (s : mc_same h0 h) (T : mc_T K Z h) {t sub : Nat} (ht : t ≤ Z) (hk : K t = 2) (hs : sub < 61) : am_D (d + 2) 17 57 [am_r (am_a 254), am_i (sub : Int), am_i (t : Int)] (zS L, h) = pI L (m_var nm h sub t) h := by
  obtain ⟨T0, -, -, ⟨T1, T2, T3⟩⟩ := T
  have go : ∀ (v : Nat) (o f x : Int), (v : Int) ≤ h 254 25 → am_E (am_D (d + 1)) m_17_57 (.inl 1) [some (am_r (am_a 254)), some (am_i (sub : Int)), some (am_i (t : Int)), some (am_i o), some (am_i f), some (am_i x), some (am_i ((v : Int) - 1))] [] (zS L, h) = pI L (m_varf nm h sub t v o f x) h := by
    intro v
    induction v with
    | zero =>
      intro o f x hv
      rw [q_17_57_1, if_pos (by omega)]
      unfold m_varf
      by_cases c1 : o = -1
      · rw [if_pos c1, if_pos c1]
        by_cases c2 : f = -1
        · rw [if_pos c2, if_pos c2]
        · rw [if_neg c2, if_neg c2]
      · rw [if_neg c1, if_neg c1]
    | succ v ih =>
      intro o f x hv
      obtain ⟨u, e1, e2, e3⟩ := T3 v (by omega)
      have eu : nm (h 273 v).toNat = nm u := by rw [e1, Int.toNat_natCast]
      have ev : ((v + 1 : Nat) : Int) - 1 = v := by omega
      have ew : am_w ((v : Int) + (-1)) = (v : Int) - 1 := by rw [p_w (by omega) (by omega)]; omega
      rw [ev, q_17_57_1, if_neg (by omega), p_idx (by omega) (by omega), Int.toNat_natCast, e1, A.1 d L h u t s e2 ht e3 hk, p_xI]
      unfold m_varf
      rw [eu]
      by_cases e : nm u = nm t
      · rw [if_pos e, if_neg (by rw [pB_t e]; decide), p_idx (by omega) (by omega), Int.toNat_natCast]
        have e3' : ∀ o' : Int, am_E (am_D (d + 1)) m_17_57 (.inl 3) [some (am_r (am_a 254)), some (am_i (sub : Int)), some (am_i (t : Int)), some (am_i o'), some (am_i f), some (am_i x), some (am_i (v : Int))] [] (zS L, h) = pI L (m_varf nm h sub t v o' (if h 271 v = -1 ∧ h 270 v = h 263 (sub : Int).toNat ∧ h 272 v = 1 then v else f) (if h 271 v = -1 ∧ h 270 v = h 263 (sub : Int).toNat ∧ h 272 v = 0 then v else x)) h := by
          intro o'
          have e4' : ∀ f' : Int, am_E (am_D (d + 1)) m_17_57 (.inl 4) [some (am_r (am_a 254)), some (am_i (sub : Int)), some (am_i (t : Int)), some (am_i o'), some (am_i f'), some (am_i x), some (am_i (v : Int))] [] (zS L, h) = pI L (m_varf nm h sub t v o' f' (if h 271 v = -1 ∧ h 270 v = h 263 (sub : Int).toNat ∧ h 272 v = 0 then v else x)) h := by
            intro f'
            rw [q_17_57_4, p_idx (by omega) (by omega), p_idx (by omega) (by omega), p_idx (by omega) (by omega), p_idx (by omega) (by omega), Int.toNat_natCast, Int.toNat_natCast, ew]
            by_cases c1 : h 271 v = -1
            · rw [if_pos c1]
              by_cases c2 : h 270 v = h 263 sub
              · rw [if_pos c2]
                by_cases c3 : h 272 v = 0
                · rw [if_pos c3, if_pos ⟨c1, c2, c3⟩]; exact ih _ _ _ (by omega)
                · rw [if_neg c3, if_neg (fun z => c3 z.2.2)]; exact ih _ _ _ (by omega)
              · rw [if_neg c2, if_neg (fun z => c2 z.2.1)]; exact ih _ _ _ (by omega)
            · rw [if_neg c1, if_neg (fun z => c1 z.1)]; exact ih _ _ _ (by omega)
          rw [q_17_57_3, p_idx (by omega) (by omega), p_idx (by omega) (by omega), p_idx (by omega) (by omega), p_idx (by omega) (by omega), Int.toNat_natCast, Int.toNat_natCast]
          rw [Int.toNat_natCast] at e4'
          by_cases c1 : h 271 v = -1
          · rw [if_pos c1]
            by_cases c2 : h 270 v = h 263 sub
            · rw [if_pos c2]
              by_cases c3 : h 272 v = 1
              · rw [if_pos c3, if_pos ⟨c1, c2, c3⟩]; exact e4' _
              · rw [if_neg c3, if_neg (fun z => c3 z.2.2)]; exact e4' _
            · rw [if_neg c2, if_neg (fun z => c2 z.2.1)]; exact e4' _
          · rw [if_neg c1, if_neg (fun z => c1 z.1)]; exact e4' _
        by_cases c : h 271 v = (sub : Int)
        · rw [if_pos c, if_pos c]; exact e3' _
        · rw [if_neg c, if_neg c]; exact e3' _
      · rw [if_neg e, if_pos (by rw [pB_f e]), ew]
        exact ih _ _ _ (by omega)
  rw [D_17_57, p_w (by omega) (by omega)]
  have t2 := go (h 254 25).toNat (-1) (-1) (-1) (by omega)
  rw [show (((h 254 25).toNat : Nat) : Int) - 1 = h 254 25 - 1 by omega] at t2
  exact t2
end
