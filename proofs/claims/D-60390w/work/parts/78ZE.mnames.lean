/-! PURE LAYER, 84: checkNames: subs and variables -/
/-- the first sub of a class, going down from k; whether a name stands there twice -/
def m_fst (h : am_H) (s : Nat) : Nat → Int → Int
  | 0, f => f
  | k + 1, f => m_fst h s k (if h 263 k = h 263 s then k else f)
def m_tws (nm : Nat → Int) (h : am_H) (s : Nat) : Nat → Bool → Bool
  | 0, b => b
  | k + 1, b => m_tws nm h s k (b || decide (h 263 k = h 263 s ∧ nm (h 265 k).toNat = nm (h 265 s).toNat))
def m_twv (nm : Nat → Int) (h : am_H) (v : Nat) : Nat → Nat → Bool → Bool
  | 0, _, b => b
  | m + 1, k, b => m_twv nm h v m (k + 1) (b || decide (h 271 k = h 271 v ∧ h 270 k = h 270 v ∧ nm (h 273 k).toNat = nm (h 273 v).toNat))
def nt_s (K P nm sc : Nat → Int) (h : am_H) (s : Nat) : List (Int × Int) := (if m_tws nm h s s false = true then [(3, P (h 265 s).toNat)] else []) ++ nt_ty K P nm sc h (h 266 s)
def nt_v (K P nm sc : Nat → Int) (h : am_H) (v : Nat) : List (Int × Int) := (if m_twv nm h v v 0 false = true then [(3, P (h 273 v).toNat)] else []) ++ nt_ty K P nm sc h (h 274 v)
def nt_ss (K P nm sc : Nat → Int) (h : am_H) : Nat → Nat → List (Int × Int)
  | 0, _ => []
  | m + 1, s => nt_s K P nm sc h s ++ nt_ss K P nm sc h m (s + 1)
def nt_vs (K P nm sc : Nat → Int) (h : am_H) : Nat → Nat → List (Int × Int)
  | 0, _ => []
  | m + 1, v => nt_v K P nm sc h v ++ nt_vs K P nm sc h m (v + 1)
/-- subOwn is filled -/
def m_own (h : am_H) : Nat → Nat → am_H → am_H
  | 0, _, x => x
  | m + 1, s, x => m_own h m (s + 1) (am_up x 302 s ((s : Int) - m_fst h s s s))
theorem mnote_up (n p : Int) (h : am_H) (k : Nat) (v : Int) : mnote n p (am_up h 302 k v) = am_up (mnote n p h) 302 k v := by
  unfold mnote
  rw [p_up_c _ _ _ _ 254 (by decide)]
  split
  · rfl
  · funext a j
    by_cases ha : a = 302
    · subst ha
      rw [p_up_c _ _ _ _ _ (by decide), p_up_c _ _ _ _ _ (by decide)]
      by_cases hj : j = k
      · subst hj; rw [p_up_s, p_up_s]
      · rw [p_up_n _ _ _ _ _ _ (Or.inr hj), p_up_n _ _ _ _ _ _ (Or.inr hj), p_up_c _ _ _ _ _ (by decide), p_up_c _ _ _ _ _ (by decide)]
    · rw [p_up_c (am_up (am_up h 254 69 n) 254 70 p) _ _ _ _ ha]
      by_cases hb : a = 254
      · subst hb
        by_cases h70 : j = 70
        · subst h70; rw [p_up_s, p_up_s]
        · rw [p_up_n _ _ _ _ _ _ (Or.inr h70), p_up_n _ _ _ _ _ _ (Or.inr h70)]
          by_cases h69 : j = 69
          · subst h69; rw [p_up_s, p_up_s]
          · rw [p_up_n _ _ _ _ _ _ (Or.inr h69), p_up_n _ _ _ _ _ _ (Or.inr h69), p_up_c _ _ _ _ _ (by decide)]
      · rw [p_up_c _ _ _ _ _ hb, p_up_c _ _ _ _ _ hb, p_up_c _ _ _ _ _ hb, p_up_c _ _ _ _ _ hb, p_up_c _ _ _ _ _ ha]
theorem mnotes_up (k : Nat) (v : Int) : ∀ (l : List (Int × Int)) (h : am_H), mnotes l (am_up h 302 k v) = am_up (mnotes l h) 302 k v
  | [], h => rfl
  | q :: l, h => by
    show mnotes l (mnote q.1 q.2 (am_up h 302 k v)) = am_up (mnotes l (mnote q.1 q.2 h)) 302 k v
    rw [mnote_up, mnotes_up k v l]
theorem m_own_notes (h : am_H) (l : List (Int × Int)) : ∀ (m s : Nat) (x : am_H), m_own h m s (mnotes l x) = mnotes l (m_own h m s x)
  | 0, s, x => rfl
  | m + 1, s, x => by
    unfold m_own
    rw [← mnotes_up, m_own_notes h l m]
/-- what looks alike for all that is looked up -/
def mc_E (h h' : am_H) : Prop := (∀ a, a ≠ 254 → a ≠ 302 → h' a = h a) ∧ (∀ k, k ≠ 69 → k ≠ 70 → h' 254 k = h 254 k)
theorem mc_E.refl (h : am_H) : mc_E h h := ⟨fun _ _ _ => rfl, fun _ _ _ => rfl⟩
theorem mc_E.notes {h h' : am_H} (e : mc_E h h') (l : List (Int × Int)) : mc_E h (mnotes l h') := ⟨fun a h1 h2 => by rw [mnotes_c a h1]; exact e.1 a h1 h2, fun k h1 h2 => by rw [mnotes_n 254 k (by omega)]; exact e.2 k h1 h2⟩
theorem mc_E.up {h h' : am_H} (e : mc_E h h') (k : Nat) (v : Int) : mc_E h (am_up h' 302 k v) := ⟨fun a h1 h2 => by rw [p_up_c _ _ _ _ _ h2]; exact e.1 a h1 h2, fun j h1 h2 => by rw [p_up_c _ _ _ _ _ (by decide)]; exact e.2 j h1 h2⟩
theorem mc_E.cof {nm sc : Nat → Int} {h h' : am_H} (e : mc_E h h') (t : Nat) : m_cof nm sc h' t = m_cof nm sc h t := by
  unfold m_cof; rw [e.2 14 (by decide) (by decide), e.1 261 (by decide) (by decide)]
theorem mc_E.ty {K P nm sc : Nat → Int} {h h' : am_H} (e : mc_E h h') (t : Int) : nt_ty K P nm sc h' t = nt_ty K P nm sc h t := by
  unfold nt_ty; rw [e.cof]
theorem mc_E.same {h0 h h' : am_H} (e : mc_E h h') (s : mc_same h0 h) : mc_same h0 h' := fun a ha => by rw [e.1 a (by omega) (by omega)]; exact s a ha
theorem mc_E.T {K : Nat → Int} {Z : Nat} {h h' : am_H} (e : mc_E h h') (T : mc_T K Z h) : mc_T K Z h' := by
  unfold mc_T at *
  rw [e.2 14 (by decide) (by decide), e.2 17 (by decide) (by decide), e.2 25 (by decide) (by decide), e.1 261 (by decide) (by decide), e.1 265 (by decide) (by decide), e.1 273 (by decide) (by decide)]
  exact T
theorem mc_E.K {K P : Nat → Int} {Z : Nat} {h h' : am_H} (e : mc_E h h') (k : mc_K K P Z h) : mc_K K P Z h' := fun t ht => by rw [e.1 257 (by decide) (by decide), e.1 258 (by decide) (by decide)]; exact k t ht
section
variable {h0 h : am_H} {K P nm sc ss : Nat → Int} {Z : Nat} (d L : Nat)
/-- types of subs and variables -/
def mc_Y (Z : Nat) (h : am_H) : Prop := (∀ s : Nat, (s : Int) < h 254 17 → h 266 s = -1 ∨ ∃ u : Nat, h 266 s = u ∧ u ≤ Z) ∧ (∀ v : Nat, (v : Int) < h 254 25 → h 274 v = -1 ∨ ∃ u : Nat, h 274 v = u ∧ u ≤ Z)
theorem mc_names2 (A : mc_A h0 K nm sc ss Z) (s0 : mc_same h0 h) (T : mc_T K Z h) (k : mc_K K P Z h) (Y : mc_Y Z h) : ∀ (m s : Nat) (h' : am_H) (u2 u3 u4 : Option am_V), mc_E h h' → (s : Int) + m = h 254 17 → ∃ u2' u3' u4' h2, am_E (am_D (d + 4)) m_17_60 (.inl 11) [some (am_r (am_a 254)), some (am_i (s : Int)), u2, u3, u4] [] (zS L, h') = am_E (am_D (d + 4)) m_17_60 (.inl 21) [some (am_r (am_a 254)), some (am_i 0), u2', u3', u4'] [] (zS L, h2) ∧ mc_E h h2 ∧ h2 = mnotes (nt_ss K P nm sc h m s) (m_own h m s h')
  | 0, s, h', u2, u3, u4, e, hs => by
    rw [q_17_60_11, if_neg (by rw [e.2 17 (by decide) (by decide)]; omega)]
    exact ⟨u2, u3, u4, h', rfl, e, rfl⟩
  | m + 1, s, h', u2, u3, u4, e, hs => by
    have hZ := T.1
    obtain ⟨t1, t2, t3⟩ := T.2.2.1
    obtain ⟨t, e1, e2, e3⟩ := t3 s (by omega)
    have et : (h 265 s).toNat = t := by rw [e1, Int.toNat_natCast]
    have e17 := e.2 17 (by decide) (by decide)
    have h263 := e.1 263 (by decide) (by decide)
    have h265 := e.1 265 (by decide) (by decide)
    have h266 := e.1 266 (by decide) (by decide)
    have s' := e.same s0
    have inn : ∀ (n : Nat) (b : Bool) (f : Int), n ≤ s → am_E (am_D (d + 4)) m_17_60 (.inl 12) [some (am_r (am_a 254)), some (am_i (s : Int)), some (am_i (pB (b = true))), some (am_i f), some (am_i ((n : Int) - 1))] [] (zS L, h') = am_E (am_D (d + 4)) m_17_60 (.inl 12) [some (am_r (am_a 254)), some (am_i (s : Int)), some (am_i (pB (m_tws nm h s n b = true))), some (am_i (m_fst h s n f)), some (am_i (-1))] [] (zS L, h') := by
      intro n
      induction n with
      | zero => intro b f hn; rfl
      | succ n ih =>
        intro b f hn
        obtain ⟨u, f1, f2, f3⟩ := t3 n (by omega)
        have eu : nm (h 265 n).toNat = nm u := by rw [f1, Int.toNat_natCast]
        have ew : am_w ((n : Int) + (-1)) = (n : Int) - 1 := by rw [p_w (by omega) (by omega)]; omega
        rw [show ((n + 1 : Nat) : Int) - 1 = n by omega, q_17_60_12, if_neg (by omega), p_idx (by omega) (by omega), p_idx (by omega) (by omega), Int.toNat_natCast, Int.toNat_natCast, h263, ew]
        unfold m_tws m_fst
        rw [eu, et]
        by_cases c : h 263 n = h 263 s
        · rw [if_pos c, if_pos c]
          cases b with
          | false =>
            rw [if_pos (by rw [pB_f (by simp)]), p_idx (by omega) (by omega), p_idx (by omega) (by omega), Int.toNat_natCast, Int.toNat_natCast, h265, f1, e1, A.1 (d + 3) L h' u t s' f2 e2 f3 e3, p_xI]
            by_cases e' : nm u = nm t
            · rw [if_neg (by rw [pB_t e']; decide)]
              have t4 := ih true n (by omega)
              rw [pB_t rfl] at t4
              rw [show (false || decide (h 263 n = h 263 s ∧ nm u = nm t)) = true by simp [c, e']]
              exact t4
            · rw [if_pos (by rw [pB_f e'])]
              have t4 := ih false n (by omega)
              rw [pB_f (by simp)] at t4
              rw [show (false || decide (h 263 n = h 263 s ∧ nm u = nm t)) = false by simp [e']]
              exact t4
          | true =>
            rw [if_neg (by rw [pB_t rfl]; decide)]
            have t4 := ih true n (by omega)
            rw [pB_t rfl] at t4
            exact t4
        · rw [if_neg c, if_neg c, show (b || decide (h 263 n = h 263 s ∧ nm u = nm t)) = b by simp [c]]
          exact ih b f (by omega)
    have t4 := inn s false s (Nat.le_refl _)
    rw [pB_f (by simp)] at t4
    have fr : ∀ (n : Nat) (f : Int), n ≤ s → 0 ≤ f ∧ f ≤ s → 0 ≤ m_fst h s n f ∧ m_fst h s n f ≤ s := by
      intro n
      induction n with
      | zero => intro f _ hf; exact hf
      | succ n ih =>
        intro f hn hf
        unfold m_fst
        refine ih _ (by omega) ?_
        split <;> omega
    have ff := fr s s (Nat.le_refl _) (by omega)
    have eX : mc_E h (am_up h' 302 s ((s : Int) - m_fst h s s s)) := e.up _ _
    rw [q_17_60_11, if_pos (by rw [e17]; omega), p_w (x := (s : Int) - 1) (by omega) (by omega), t4, q_17_60_12, if_pos (by decide), p_idx (by omega) (by omega), Int.toNat_natCast, p_w (x := (s : Int) - m_fst h s s s) (by omega) (by omega), p_w (x := (s : Int) + 1) (by omega) (by omega)]
    unfold nt_ss nt_s m_own
    rw [et]
    by_cases c : m_tws nm h s s false = true
    · rw [if_neg (by rw [pB_t c]; decide), if_pos c, p_idx (by omega) (by omega), Int.toNat_natCast, h265, e1, mc_note (d + 3) L 3 (by omega), p_xV, p_idx (by omega) (by omega), Int.toNat_natCast]
      have k1 := (eX.K k) t e2
      rw [k1.2.1]
      have eN : mc_E h (mnotes [(3, P t)] (am_up h' 302 s ((s : Int) - m_fst h s s s))) := eX.notes _
      have e6 : mnote 3 (P t) (am_up h' 302 s ((s : Int) - m_fst h s s s)) 266 s = h 266 s := by
        show mnotes [(3, P t)] _ 266 s = _
        rw [eN.1 266 (by decide) (by decide)]
      have em : mnote 3 (P t) (am_up h' 302 s ((s : Int) - m_fst h s s s)) = mnotes [(3, P t)] (am_up h' 302 s ((s : Int) - m_fst h s s s)) := rfl
      rw [e6, em, mc_type (P := P) d L A (eN.same s0) (eN.T T) (eN.K k) (Y.1 s (by omega)), p_xV, eN.ty]
      obtain ⟨v2, v3, v4, h2, r1, r2, r3⟩ := mc_names2 A s0 T k Y m (s + 1) (mnotes (nt_ty K P nm sc h (h 266 s)) (mnotes [(3, P t)] (am_up h' 302 s ((s : Int) - m_fst h s s s)))) (some (am_i (pB (m_tws nm h s s false = true)))) (some (am_i (m_fst h s s s))) (some (am_i (-1))) (eN.notes _) (by omega)
      refine ⟨v2, v3, v4, h2, r1, r2, ?_⟩
      rw [r3, m_own_notes, m_own_notes, mnotes_app, mnotes_app]
    · rw [if_pos (by rw [pB_f c]), if_neg c, p_idx (by omega) (by omega), Int.toNat_natCast, h266, mc_type (P := P) d L A (eX.same s0) (eX.T T) (eX.K k) (Y.1 s (by omega)), p_xV, eX.ty]
      obtain ⟨v2, v3, v4, h2, r1, r2, r3⟩ := mc_names2 A s0 T k Y m (s + 1) (mnotes (nt_ty K P nm sc h (h 266 s)) (am_up h' 302 s ((s : Int) - m_fst h s s s))) (some (am_i (pB (m_tws nm h s s false = true)))) (some (am_i (m_fst h s s s))) (some (am_i (-1))) (eX.notes _) (by omega)
      refine ⟨v2, v3, v4, h2, r1, r2, ?_⟩
      rw [r3, m_own_notes, List.nil_append, mnotes_app]
theorem mc_names3 (A : mc_A h0 K nm sc ss Z) (s0 : mc_same h0 h) (T : mc_T K Z h) (k : mc_K K P Z h) (Y : mc_Y Z h) : ∀ (m v : Nat) (h' : am_H) (u2 u3 u4 : Option am_V), mc_E h h' → (v : Int) + m = h 254 25 → am_E (am_D (d + 4)) m_17_60 (.inl 21) [some (am_r (am_a 254)), some (am_i (v : Int)), u2, u3, u4] [] (zS L, h') = pV L (mnotes (nt_vs K P nm sc h m v) h')
  | 0, v, h', u2, u3, u4, e, hv => by
    rw [q_17_60_21, if_neg (by rw [e.2 25 (by decide) (by decide)]; omega)]
    rfl
  | m + 1, v, h', u2, u3, u4, e, hv => by
    have hZ := T.1
    obtain ⟨t1, t2, t3⟩ := T.2.2.2
    obtain ⟨t, e1, e2, e3⟩ := t3 v (by omega)
    have et : (h 273 v).toNat = t := by rw [e1, Int.toNat_natCast]
    have e25 := e.2 25 (by decide) (by decide)
    have h271 := e.1 271 (by decide) (by decide)
    have h270 := e.1 270 (by decide) (by decide)
    have h273 := e.1 273 (by decide) (by decide)
    have h274 := e.1 274 (by decide) (by decide)
    have s' := e.same s0
    have inn : ∀ (n j : Nat) (b : Bool) (u4 : Option am_V), j + n = v → ∃ u4', am_E (am_D (d + 4)) m_17_60 (.inl 22) [some (am_r (am_a 254)), some (am_i (v : Int)), some (am_i (pB (b = true))), some (am_i (j : Int)), u4] [] (zS L, h') = am_E (am_D (d + 4)) m_17_60 (.inl 22) [some (am_r (am_a 254)), some (am_i (v : Int)), some (am_i (pB (m_twv nm h v n j b = true))), some (am_i (v : Int)), u4'] [] (zS L, h') := by
      intro n
      induction n with
      | zero =>
        intro j b u4 hj
        have : j = v := by omega
        subst this
        exact ⟨u4, rfl⟩
      | succ n ih =>
        intro j b u4 hj
        obtain ⟨u, f1, f2, f3⟩ := t3 j (by omega)
        have eu : nm (h 273 j).toNat = nm u := by rw [f1, Int.toNat_natCast]
        have ej : ((j + 1 : Nat) : Int) = (j : Int) + 1 := by omega
        have fin : ∀ s0 : Bool, (s0 = true ↔ h 271 j = h 271 v ∧ h 270 j = h 270 v) → ∃ u4', am_E (am_D (d + 4)) m_17_60 (.inl 24) [some (am_r (am_a 254)), some (am_i (v : Int)), some (am_i (pB (b = true))), some (am_i (j : Int)), u4] [am_i (pB (s0 = true))] (zS L, h') = am_E (am_D (d + 4)) m_17_60 (.inl 22) [some (am_r (am_a 254)), some (am_i (v : Int)), some (am_i (pB (m_twv nm h v (n + 1) j b = true))), some (am_i (v : Int)), u4'] [] (zS L, h') := by
          intro s0 hs0
          rw [q_17_60_24, p_w (x := (j : Int) + 1) (by omega) (by omega), ← ej]
          unfold m_twv
          rw [eu, et]
          cases b with
          | true =>
            rw [if_neg (by rw [pB_t rfl]; decide)]
            have t5 := ih (j + 1) true (some (am_i (pB (s0 = true)))) (by omega)
            rw [pB_t rfl] at t5
            exact t5
          | false =>
            rw [if_pos (by rw [pB_f (by simp)])]
            cases s0 with
            | false =>
              rw [if_pos (by rw [pB_f (by simp)])]
              have hn : ¬ (h 271 j = h 271 v ∧ h 270 j = h 270 v ∧ nm u = nm t) := fun z => absurd (hs0.mpr ⟨z.1, z.2.1⟩) (by simp)
              rw [show (false || decide (h 271 j = h 271 v ∧ h 270 j = h 270 v ∧ nm u = nm t)) = false by simp only [Bool.false_or, decide_eq_false_iff_not]; exact hn]
              have t5 := ih (j + 1) false (some (am_i (pB (false = true)))) (by omega)
              rw [pB_f (p := false = true) (by simp)] at t5 ⊢
              exact t5
            | true =>
              have hh := hs0.mp rfl
              rw [if_neg (by rw [pB_t rfl]; decide), p_idx (by omega) (by omega), p_idx (by omega) (by omega), Int.toNat_natCast, Int.toNat_natCast, h273, f1, e1, A.1 (d + 3) L h' u t s' f2 e2 f3 e3, p_xI]
              by_cases e' : nm u = nm t
              · rw [if_neg (by rw [pB_t e']; decide), show (false || decide (h 271 j = h 271 v ∧ h 270 j = h 270 v ∧ nm u = nm t)) = true by simp [hh.1, hh.2, e']]
                have t5 := ih (j + 1) true (some (am_i (pB (true = true)))) (by omega)
                rw [pB_t (p := true = true) rfl] at t5 ⊢
                exact t5
              · rw [if_pos (by rw [pB_f e']), show (false || decide (h 271 j = h 271 v ∧ h 270 j = h 270 v ∧ nm u = nm t)) = false by simp [e']]
                have t5 := ih (j + 1) false (some (am_i (pB (true = true)))) (by omega)
                rw [pB_f (p := false = true) (by simp)] at t5
                exact t5
        rw [q_17_60_22, if_pos (by omega), p_idx (by omega) (by omega), p_idx (by omega) (by omega), p_idx (by omega) (by omega), p_idx (by omega) (by omega), Int.toNat_natCast, Int.toNat_natCast, h271, h270]
        by_cases c1 : h 271 j = h 271 v
        · by_cases c2 : h 270 j = h 270 v
          · rw [if_pos c1, if_pos c2]
            have t5 := fin true ⟨fun _ => ⟨c1, c2⟩, fun _ => rfl⟩
            rw [pB_t (p := true = true) rfl] at t5
            exact t5
          · rw [if_pos c1, if_neg c2]
            have t5 := fin false ⟨fun z => (by cases z), fun z => absurd z.2 c2⟩
            rw [pB_f (p := false = true) (by simp)] at t5
            exact t5
        · rw [if_neg c1]
          have t5 := fin false ⟨fun z => (by cases z), fun z => absurd z.1 c1⟩
          rw [pB_f (p := false = true) (by simp)] at t5
          exact t5
    obtain ⟨u4', t4⟩ := inn v 0 false u4 (by omega)
    rw [pB_f (p := false = true) (by simp)] at t4
    rw [q_17_60_21, if_pos (by rw [e25]; omega)]
    have t4' : am_E (am_D (d + 4)) m_17_60 (.inl 22) [some (am_r (am_a 254)), some (am_i (v : Int)), some (am_i 0), some (am_i 0), u4] [] (zS L, h') = _ := t4
    rw [t4', q_17_60_22, if_neg (by omega), p_w (x := (v : Int) + 1) (by omega) (by omega)]
    unfold nt_vs nt_v
    rw [et, mnotes_app, mnotes_app]
    by_cases c : m_twv nm h v v 0 false = true
    · rw [if_neg (by rw [pB_t c]; decide), if_pos c, p_idx (by omega) (by omega), Int.toNat_natCast, h273, e1, mc_note (d + 3) L 3 (by omega), p_xV, p_idx (by omega) (by omega), Int.toNat_natCast]
      have k1 := (e.K k) t e2
      have eN : mc_E h (mnotes [(3, P t)] h') := e.notes _
      have em : mnote 3 (P t) h' = mnotes [(3, P t)] h' := rfl
      rw [k1.2.1, em, show mnotes [(3, P t)] h' 274 v = h 274 v by rw [eN.1 274 (by decide) (by decide)], mc_type (P := P) d L A (eN.same s0) (eN.T T) (eN.K k) (Y.2 v (by omega)), p_xV, eN.ty]
      exact mc_names3 A s0 T k Y m (v + 1) _ _ _ _ (eN.notes _) (by omega)
    · rw [if_pos (by rw [pB_f c]), if_neg c, p_idx (by omega) (by omega), Int.toNat_natCast, h274, mc_type (P := P) d L A s' (e.T T) (e.K k) (Y.2 v (by omega)), p_xV, e.ty]
      exact mc_names3 A s0 T k Y m (v + 1) _ _ _ _ (e.notes _) (by omega)
end
