/-! PURE LAYER, 85: checkNames whole; checkItems -/
/-- what stays as it is while items and calls are checked -/
def mc_G (h h' : am_H) : Prop := (∀ a, a ≠ 254 → a ≠ 278 → ¬ (285 ≤ a ∧ a ≤ 288) → a ≠ 302 → h' a = h a) ∧ (∀ k, k ≠ 69 → k ≠ 70 → h' 254 k = h 254 k)
theorem mc_G.refl (h : am_H) : mc_G h h := ⟨fun _ _ _ _ _ => rfl, fun _ _ _ => rfl⟩
theorem mc_E.G {h h' : am_H} (e : mc_E h h') : mc_G h h' := ⟨fun a h1 _ _ h4 => e.1 a h1 h4, e.2⟩
theorem mc_G.notes {h h' : am_H} (e : mc_G h h') (l : List (Int × Int)) : mc_G h (mnotes l h') := ⟨fun a h1 h2 h3 h4 => by rw [mnotes_c a h1]; exact e.1 a h1 h2 h3 h4, fun k h1 h2 => by rw [mnotes_n 254 k (by omega)]; exact e.2 k h1 h2⟩
theorem mc_G.up {h h' : am_H} (e : mc_G h h') {b : Nat} (k : Nat) (v : Int) (hb : b = 278 ∨ (285 ≤ b ∧ b ≤ 288) ∨ b = 302) : mc_G h (am_up h' b k v) := ⟨fun a h1 h2 h3 h4 => by rw [p_up_c _ _ _ _ _ (by omega)]; exact e.1 a h1 h2 h3 h4, fun j h1 h2 => by rw [p_up_c _ _ _ _ _ (by omega)]; exact e.2 j h1 h2⟩
theorem mc_G.cof {nm sc : Nat → Int} {h h' : am_H} (e : mc_G h h') (t : Nat) : m_cof nm sc h' t = m_cof nm sc h t := by
  unfold m_cof; rw [e.2 14 (by decide) (by decide), e.1 261 (by decide) (by decide) (by decide) (by decide)]
theorem mc_G.sof {nm ss : Nat → Int} {h h' : am_H} (e : mc_G h h') (c : Int) (t : Nat) : m_sof nm ss h' c t = m_sof nm ss h c t := by
  unfold m_sof; rw [e.2 17 (by decide) (by decide), e.1 297 (by decide) (by decide) (by decide) (by decide), e.1 263 (by decide) (by decide) (by decide) (by decide), e.1 265 (by decide) (by decide) (by decide) (by decide)]
theorem mc_G.var {nm : Nat → Int} {h h' : am_H} (e : mc_G h h') (sub : Int) (t : Nat) : m_var nm h' sub t = m_var nm h sub t := by
  have e1 : ∀ v o f x, m_varf nm h' sub t v o f x = m_varf nm h sub t v o f x := by
    intro v
    induction v with
    | zero => intro o f x; rfl
    | succ v ih =>
      intro o f x
      unfold m_varf
      rw [e.1 273 (by decide) (by decide) (by decide) (by decide), e.1 271 (by decide) (by decide) (by decide) (by decide), e.1 270 (by decide) (by decide) (by decide) (by decide), e.1 263 (by decide) (by decide) (by decide) (by decide), e.1 272 (by decide) (by decide) (by decide) (by decide), ih, ih]
  unfold m_var
  rw [e.2 25 (by decide) (by decide), e1]
theorem mc_G.same {h0 h h' : am_H} (e : mc_G h h') (s : mc_same h0 h) : mc_same h0 h' := fun a ha => by rw [e.1 a (by omega) (by omega) (by omega) (by omega)]; exact s a ha
theorem mc_G.T {K : Nat → Int} {Z : Nat} {h h' : am_H} (e : mc_G h h') (T : mc_T K Z h) : mc_T K Z h' := by
  unfold mc_T at *
  rw [e.2 14 (by decide) (by decide), e.2 17 (by decide) (by decide), e.2 25 (by decide) (by decide), e.1 261 (by decide) (by decide) (by decide) (by decide), e.1 265 (by decide) (by decide) (by decide) (by decide), e.1 273 (by decide) (by decide) (by decide) (by decide)]
  exact T
theorem mc_G.K {K P : Nat → Int} {Z : Nat} {h h' : am_H} (e : mc_G h h') (k : mc_K K P Z h) : mc_K K P Z h' := fun t ht => by rw [e.1 257 (by decide) (by decide) (by decide) (by decide), e.1 258 (by decide) (by decide) (by decide) (by decide)]; exact k t ht
theorem mc_G.trans {a b c : am_H} (e : mc_G a b) (f : mc_G b c) : mc_G a c := ⟨fun x h1 h2 h3 h4 => (f.1 x h1 h2 h3 h4).trans (e.1 x h1 h2 h3 h4), fun k h1 h2 => (f.2 k h1 h2).trans (e.2 k h1 h2)⟩
/-- notes of a variable that is used -/
def nt_cv (P : Nat → Int) (h : am_H) (sub v : Int) (t : Nat) : List (Int × Int) := if v ≠ -1 ∧ h 271 v.toNat = -1 ∧ h 272 v.toNat = 1 ∧ h 264 sub.toNat = 2 then [(6, P t)] else []
def nt_i (P nm : Nat → Int) (h : am_H) (k : Nat) : List (Int × Int) := if h 277 k = 3 then (if h 264 (h 281 k).toNat = 2 then [(6, P (h 280 k).toNat)] else []) else if h 277 k = 4 ∨ h 277 k = 13 then (if m_var nm h (h 281 k) (h 280 k).toNat = -1 then [(4, P (h 280 k).toNat)] else []) ++ nt_cv P h (h 281 k) (m_var nm h (h 281 k) (h 280 k).toNat) (h 280 k).toNat else []
def nt_is (P nm : Nat → Int) (h : am_H) : Nat → Nat → List (Int × Int)
  | 0, _ => []
  | m + 1, k => nt_i P nm h k ++ nt_is P nm h m (k + 1)
/-- the variables of items -/
def m_ia (nm : Nat → Int) (h : am_H) : Nat → Nat → am_H → am_H
  | 0, _, x => x
  | m + 1, k, x => m_ia nm h m (k + 1) (if h 277 k = 4 ∨ h 277 k = 13 then am_up x 278 k (m_var nm h (h 281 k) (h 280 k).toNat) else x)
theorem mnotes_upc {b : Nat} (hb : b ≠ 254) (k : Nat) (v : Int) : ∀ (l : List (Int × Int)) (h : am_H), mnotes l (am_up h b k v) = am_up (mnotes l h) b k v
  | [], h => rfl
  | q :: l, h => by
    show mnotes l (mnote q.1 q.2 (am_up h b k v)) = am_up (mnotes l (mnote q.1 q.2 h)) b k v
    have e : mnote q.1 q.2 (am_up h b k v) = am_up (mnote q.1 q.2 h) b k v := by
      unfold mnote
      rw [p_up_c _ _ _ _ 254 (Ne.symm hb)]
      split
      · rfl
      · rw [p_up_comm _ b k v 254 69 _ (Or.inl (Ne.symm hb)), p_up_comm _ b k v 254 70 _ (Or.inl (Ne.symm hb))]
    rw [e, mnotes_upc hb k v l]
theorem m_ia_notes (nm : Nat → Int) (h : am_H) (l : List (Int × Int)) : ∀ (m k : Nat) (x : am_H), m_ia nm h m k (mnotes l x) = mnotes l (m_ia nm h m k x)
  | 0, k, x => rfl
  | m + 1, k, x => by
    unfold m_ia
    split
    · rw [← mnotes_upc (by decide), m_ia_notes nm h l m]
    · rw [m_ia_notes nm h l m]
section
variable {h0 h : am_H} {K P nm sc ss : Nat → Int} {Z : Nat} (d L : Nat)
/-- checkNames() -/
theorem mc_names (A : mc_A h0 K nm sc ss Z) (s0 : mc_same h0 h) (T : mc_T K Z h) (k : mc_K K P Z h) (Y : mc_Y Z h) : am_D (d + 5) 17 60 [am_r (am_a 254)] (zS L, h) = pV L (mnotes (nt_cs P nm sc h (h 254 14).toNat 0 ++ (nt_ss K P nm sc h (h 254 17).toNat 0 ++ nt_vs K P nm sc h (h 254 25).toNat 0)) (m_own h (h 254 17).toNat 0 h)) := by
  obtain ⟨t1, t2, -⟩ := T.2.1
  obtain ⟨t3, t4, -⟩ := T.2.2.1
  obtain ⟨t5, t6, -⟩ := T.2.2.2
  obtain ⟨a2, a3, r1⟩ := mc_names1 (P := P) d L A none none none (h 254 14).toNat 0 h none none s0 T k (by omega)
  obtain ⟨b2, b3, b4, h2, r2, r3, r4⟩ := mc_names2 (P := P) d L A s0 T k Y (h 254 17).toNat 0 (mnotes (nt_cs P nm sc h (h 254 14).toNat 0) h) a2 a3 none ((mc_E.refl h).notes _) (by omega)
  have r5 := mc_names3 (P := P) d L A s0 T k Y (h 254 25).toNat 0 h2 b2 b3 b4 r3 (by omega)
  rw [D_17_60]
  refine r1.trans (r2.trans (r5.trans ?_))
  rw [r4, m_own_notes, mnotes_app, mnotes_app]
theorem mc_cv (k : mc_K K P Z h) (hZ : Z ≤ 1000) {sub : Nat} {v : Int} {t : Nat} (hs : sub < 61) (hv : -1 ≤ v ∧ v < 1100) (ht : t ≤ Z) : am_D (d + 2) 17 61 [am_r (am_a 254), am_i (sub : Int), am_i v, am_i (t : Int)] (zS L, h) = pV L (mnotes (nt_cv P h sub v t) h) := by
  rw [D_17_61]
  unfold nt_cv
  rw [Int.toNat_natCast]
  by_cases c1 : v = -1
  · rw [if_pos c1, if_neg (fun z => z.1 c1)]; rfl
  · rw [if_neg c1, p_idx (by omega) (by omega)]
    by_cases c2 : h 271 v.toNat = -1
    · rw [if_pos c2, p_idx (by omega) (by omega)]
      by_cases c3 : h 272 v.toNat = 1
      · rw [if_pos c3, p_idx (by omega) (by omega), Int.toNat_natCast]
        by_cases c4 : h 264 sub = 2
        · rw [if_pos c4, if_pos ⟨c1, c2, c3, c4⟩, mc_note d L 6 (by omega), p_xV, (k t ht).2.1]; rfl
        · rw [if_neg c4, if_neg (fun z => c4 z.2.2.2)]; rfl
      · rw [if_neg c3, if_neg (fun z => c3 z.2.2.1)]; rfl
    · rw [if_neg c2, if_neg (fun z => c2 z.2.1)]; rfl
theorem m_var_rg (nm : Nat → Int) (h : am_H) (sub : Int) (t : Nat) (hv : 0 ≤ h 254 25) : -1 ≤ m_var nm h sub t ∧ m_var nm h sub t < (h 254 25).toNat ∨ m_var nm h sub t = -1 := by
  have go : ∀ (v : Nat) (o f x B : Int), (v : Int) ≤ B → 0 ≤ B → (-1 ≤ o ∧ o < B ∨ o = -1) → (-1 ≤ f ∧ f < B ∨ f = -1) → (-1 ≤ x ∧ x < B ∨ x = -1) → (-1 ≤ m_varf nm h sub t v o f x ∧ m_varf nm h sub t v o f x < B ∨ m_varf nm h sub t v o f x = -1) := by
    intro v
    induction v with
    | zero => intro o f x B h1 h2 h3 h4 h5; unfold m_varf; split <;> (try split) <;> assumption
    | succ v ih =>
      intro o f x B h1 h2 h3 h4 h5
      unfold m_varf
      split
      · refine ih _ _ _ B (by omega) h2 ?_ ?_ ?_ <;> split <;> first | assumption | omega
      · exact ih _ _ _ B (by omega) h2 h3 h4 h5
  exact go _ _ _ _ _ (Int.le_refl _) (by omega) (Or.inr rfl) (Or.inr rfl) (Or.inr rfl)
/-- items: subs and tokens in range -/
def mc_I (K : Nat → Int) (Z : Nat) (h : am_H) : Prop := 0 ≤ h 254 33 ∧ h 254 33 ≤ 4900 ∧ ∀ k : Nat, (k : Int) < h 254 33 → (∃ s : Nat, h 281 k = s ∧ s < 61) ∧ ((h 277 k = 3 ∨ h 277 k = 4 ∨ h 277 k = 13) → ∃ t : Nat, h 280 k = t ∧ t ≤ Z ∧ (h 277 k ≠ 3 → K t = 2))
/-- checkItems() -/
theorem mc_items (A : mc_A h0 K nm sc ss Z) (s0 : mc_same h0 h) (T : mc_T K Z h) (k : mc_K K P Z h) (I : mc_I K Z h) : ∀ (m j : Nat) (h' : am_H) (u2 u3 : Option am_V), mc_G h h' → (j : Int) + m = h 254 33 → am_E (am_D (d + 3)) m_17_62 (.inl 1) [some (am_r (am_a 254)), some (am_i (j : Int)), u2, u3] [] (zS L, h') = pV L (mnotes (nt_is P nm h m j) (m_ia nm h m j h'))
  | 0, j, h', u2, u3, e, hj => by
    rw [q_17_62_1, if_neg (by rw [e.2 33 (by decide) (by decide)]; omega)]
    rfl
  | m + 1, j, h', u2, u3, e, hj => by
    have hZ := T.1
    obtain ⟨I1, I2, I3⟩ := I
    obtain ⟨⟨s, es, hs⟩, I4⟩ := I3 j (by omega)
    have g277 := e.1 277 (by decide) (by decide) (by decide) (by decide)
    have g280 := e.1 280 (by decide) (by decide) (by decide) (by decide)
    have g281 := e.1 281 (by decide) (by decide) (by decide) (by decide)
    have g264 := e.1 264 (by decide) (by decide) (by decide) (by decide)
    have ejj : ((j + 1 : Nat) : Int) = (j : Int) + 1 := by omega
    have esn : (h 281 j).toNat = s := by rw [es, Int.toNat_natCast]
    rw [q_17_62_1, if_pos (by rw [e.2 33 (by decide) (by decide)]; omega), p_idx (by omega) (by omega), p_idx (by omega) (by omega), Int.toNat_natCast, g277, g281, es]
    unfold nt_is nt_i m_ia
    rw [esn, mnotes_app]
    by_cases c3 : h 277 j = 3
    · obtain ⟨t, et, ht, -⟩ := I4 (Or.inl c3)
      have etn : (h 280 j).toNat = t := by rw [et, Int.toNat_natCast]
      have n4 : ¬ (h 277 j = 4 ∨ h 277 j = 13) := by omega
      rw [if_pos c3, if_pos c3, if_neg n4, p_idx (by omega) (by omega), Int.toNat_natCast, g264, etn]
      have nxt : ∀ h2, mc_G h h2 → am_E (am_D (d + 3)) m_17_62 (.inl 2) [some (am_r (am_a 254)), some (am_i (j : Int)), some (am_i (s : Int)), u3] [] (zS L, h2) = pV L (mnotes (nt_is P nm h m (j + 1)) (m_ia nm h m (j + 1) h2)) := by
        intro h2 e2
        rw [q_17_62_2, p_idx (by omega) (by omega), Int.toNat_natCast, e2.1 277 (by decide) (by decide) (by decide) (by decide), if_neg (by omega), p_idx (by omega) (by omega), Int.toNat_natCast, if_neg (by omega), p_w (by omega) (by omega), ← ejj]
        exact mc_items A s0 T k ⟨I1, I2, I3⟩ m (j + 1) h2 _ _ e2 (by omega)
      by_cases c4 : h 264 s = 2
      · rw [if_pos c4, if_pos c4, p_idx (by omega) (by omega), Int.toNat_natCast, g280, et, mc_note (d + 2) L 6 (by omega), p_xV, ((e.K k) t ht).2.1]
        have em : mnote 6 (P t) h' = mnotes [(6, P t)] h' := rfl
        rw [em, nxt _ (e.notes _), m_ia_notes]
      · rw [if_neg c4, if_neg c4, nxt _ e]
        rfl
    · rw [if_neg c3, if_neg c3, q_17_62_2, p_idx (by omega) (by omega), Int.toNat_natCast, g277]
      by_cases c4 : h 277 j = 4 ∨ h 277 j = 13
      · obtain ⟨t, et, ht, kt⟩ := I4 (Or.inr c4)
        have kt := kt c3
        have etn : (h 280 j).toNat = t := by rw [et, Int.toNat_natCast]
        have vr := m_var_rg nm h (h 281 j) t T.2.2.2.1
        have v25 := T.2.2.2.2.1
        rw [if_pos c4, if_pos c4, etn]
        have r3 : am_E (am_D (d + 3)) m_17_62 (.inl 3) [some (am_r (am_a 254)), some (am_i (j : Int)), some (am_i (s : Int)), u3] [] (zS L, h') = pV L (mnotes (nt_is P nm h m (j + 1)) (mnotes ((if m_var nm h (h 281 j) t = -1 then [(4, P t)] else []) ++ nt_cv P h (h 281 j) (m_var nm h (h 281 j) t) t) (m_ia nm h m (j + 1) (am_up h' 278 j (m_var nm h (h 281 j) t))))) := by
          have eh := e
          have ev : m_var nm h' (s : Int) t = m_var nm h (h 281 j) t := by rw [e.var, es]
          have ecv : ∀ h2, mc_G h h2 → nt_cv P h2 (s : Int) (m_var nm h (h 281 j) t) t = nt_cv P h (h 281 j) (m_var nm h (h 281 j) t) t := by
            intro h2 e2
            unfold nt_cv
            rw [e2.1 271 (by decide) (by decide) (by decide) (by decide), e2.1 272 (by decide) (by decide) (by decide) (by decide), e2.1 264 (by decide) (by decide) (by decide) (by decide), es]
          have r4 : ∀ h2, mc_G h h2 → am_E (am_D (d + 3)) m_17_62 (.inl 4) [some (am_r (am_a 254)), some (am_i (j : Int)), some (am_i (s : Int)), some (am_i (m_var nm h (h 281 j) t))] [] (zS L, h2) = pV L (mnotes (nt_is P nm h m (j + 1)) (mnotes (nt_cv P h (h 281 j) (m_var nm h (h 281 j) t) t) (m_ia nm h m (j + 1) (am_up h2 278 j (m_var nm h (h 281 j) t))))) := by
            intro h2 e2
            have e3 : mc_G h (am_up (mnotes (nt_cv P h (h 281 j) (m_var nm h (h 281 j) t) t) h2) 278 j (m_var nm h (h 281 j) t)) := (e2.notes _).up _ _ (Or.inl rfl)
            rw [q_17_62_4, p_idx (by omega) (by omega), Int.toNat_natCast, e2.1 280 (by decide) (by decide) (by decide) (by decide), et, mc_cv (P := P) (d + 1) L (e2.K k) hZ hs (by omega) ht, p_xV, p_idx (by omega) (by omega), Int.toNat_natCast, p_w (by omega) (by omega), ← ejj, ecv h2 e2, mc_items A s0 T k ⟨I1, I2, I3⟩ m (j + 1) _ _ _ e3 (by omega), ← mnotes_upc (by decide), m_ia_notes]
          rw [q_17_62_3, p_idx (by omega) (by omega), Int.toNat_natCast, g280, et, mc_var (d + 1) L A (e.same s0) (e.T T) ht kt hs, p_xI, ev, mnotes_app]
          by_cases c5 : m_var nm h (h 281 j) t = -1
          · rw [if_pos c5, if_pos c5, p_idx (by omega) (by omega), Int.toNat_natCast, g280, et, mc_note (d + 2) L 4 (by omega), p_xV, ((e.K k) t ht).2.1]
            have em : mnote 4 (P t) h' = mnotes [(4, P t)] h' := rfl
            rw [em, r4 _ (e.notes _), ← mnotes_upc (by decide), m_ia_notes]
          · rw [if_neg c5, if_neg c5, r4 _ e]
            rfl
        rcases c4 with c4 | c4
        · rw [if_pos c4]; exact r3
        · rw [if_neg (by omega), p_idx (by omega) (by omega), Int.toNat_natCast, if_pos c4]; exact r3
      · rw [if_neg c4, if_neg c4, if_neg (fun z => c4 (Or.inl z)), p_idx (by omega) (by omega), Int.toNat_natCast, if_neg (fun z => c4 (Or.inr z)), p_w (by omega) (by omega), ← ejj]
        exact mc_items A s0 T k ⟨I1, I2, I3⟩ m (j + 1) h' _ _ e (by omega)
end
