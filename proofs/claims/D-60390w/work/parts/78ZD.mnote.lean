/-! PURE LAYER, 83: the model's notes of faults; checkNames -/
def mnote (n p : Int) (h : am_H) : am_H := if 0 < h 254 69 ∧ (h 254 70 < p ∨ h 254 70 = p ∧ h 254 69 ≤ n) then h else am_up (am_up h 254 69 n) 254 70 p
def mnotes (l : List (Int × Int)) (h : am_H) : am_H := l.foldl (fun h q => mnote q.1 q.2 h) h
theorem mnotes_app (l l2 : List (Int × Int)) (h : am_H) : mnotes (l ++ l2) h = mnotes l2 (mnotes l h) := by unfold mnotes; rw [List.foldl_append]
theorem mnote_n (n p : Int) (h : am_H) (a k : Nat) (hk : ¬ (a = 254 ∧ (k = 69 ∨ k = 70))) : mnote n p h a k = h a k := by
  unfold mnote
  split
  · rfl
  · rw [p_up_n _ _ _ _ _ _ (by omega), p_up_n _ _ _ _ _ _ (by omega)]
theorem mnotes_n (a k : Nat) (hk : ¬ (a = 254 ∧ (k = 69 ∨ k = 70))) : ∀ (l : List (Int × Int)) (h : am_H), mnotes l h a k = h a k
  | [], h => rfl
  | q :: l, h => by
    show mnotes l (mnote q.1 q.2 h) a k = h a k
    rw [mnotes_n a k hk l, mnote_n _ _ _ _ _ hk]
theorem mnotes_c (a : Nat) (ha : a ≠ 254) (l : List (Int × Int)) (h : am_H) : mnotes l h a = h a := funext fun k => mnotes_n a k (by omega) l h
theorem mc_same.notes {h0 h : am_H} (s : mc_same h0 h) (l : List (Int × Int)) : mc_same h0 (mnotes l h) := fun b hb => by rw [mnotes_c b (by omega)]; exact s b hb
theorem mc_T.notes {K : Nat → Int} {Z : Nat} {h : am_H} (T : mc_T K Z h) (l : List (Int × Int)) : mc_T K Z (mnotes l h) := by
  unfold mc_T at *
  rw [mnotes_n 254 14 (by omega), mnotes_n 254 17 (by omega), mnotes_n 254 25 (by omega), mnotes_c 261 (by decide), mnotes_c 265 (by decide), mnotes_c 273 (by decide)]
  exact T
theorem m_cof_notes {nm sc : Nat → Int} {h : am_H} (l : List (Int × Int)) (t : Nat) : m_cof nm sc (mnotes l h) t = m_cof nm sc h t := by
  unfold m_cof; rw [mnotes_n 254 14 (by omega), mnotes_c 261 (by decide)]
theorem m_var_notes {nm : Nat → Int} {h : am_H} (l : List (Int × Int)) (sub : Int) (t : Nat) : m_var nm (mnotes l h) sub t = m_var nm h sub t := by
  have e : ∀ v o f x, m_varf nm (mnotes l h) sub t v o f x = m_varf nm h sub t v o f x := by
    intro v
    induction v with
    | zero => intro o f x; rfl
    | succ v ih =>
      intro o f x
      unfold m_varf
      rw [mnotes_c 273 (by decide), mnotes_c 271 (by decide), mnotes_c 270 (by decide), mnotes_c 263 (by decide), mnotes_c 272 (by decide), ih, ih]
  unfold m_var
  rw [mnotes_n 254 25 (by omega), e]
section
variable {h0 h : am_H} {K P nm sc ss : Nat → Int} {Z : Nat} (d L : Nat)
theorem mc_note (n : Int) {t : Nat} (ht : t ≤ 2000) : am_D (d + 1) 17 58 [am_r (am_a 254), am_i n, am_i (t : Int)] (zS L, h) = pV L (mnote n (h 258 t) h) := by
  rw [D_17_58, p_idx (by omega) (by omega), Int.toNat_natCast]
  unfold mnote
  by_cases c1 : 0 < h 254 69
  · rw [if_pos c1]
    by_cases c2 : h 254 70 < h 258 t
    · rw [if_pos c2, if_pos ⟨c1, Or.inl c2⟩]
    · rw [if_neg c2, p_idx (by omega) (by omega), Int.toNat_natCast]
      by_cases c3 : h 254 70 = h 258 t
      · rw [if_pos c3]
        by_cases c4 : n < h 254 69
        · rw [if_pos c4, if_neg (by omega), p_idx (by omega) (by omega), Int.toNat_natCast]
        · rw [if_neg c4, if_pos ⟨c1, Or.inr ⟨c3, by omega⟩⟩]
      · rw [if_neg c3, if_neg (by omega), p_idx (by omega) (by omega), Int.toNat_natCast]
  · rw [if_neg c1, if_neg (fun z => c1 z.1), p_idx (by omega) (by omega), Int.toNat_natCast]
/-- tokens: kinds and places as the model has them -/
def mc_K (K P : Nat → Int) (Z : Nat) (h : am_H) : Prop := ∀ t, t ≤ Z → h 257 t = mp_k (K t) ∧ h 258 t = P t ∧ 0 ≤ K t ∧ K t ≤ 7
theorem mc_K.notes {h : am_H} (k : mc_K K P Z h) (l : List (Int × Int)) : mc_K K P Z (mnotes l h) := fun t ht => by rw [mnotes_c 257 (by decide), mnotes_c 258 (by decide)]; exact k t ht
/-- a type's notes -/
def nt_ty (K P nm sc : Nat → Int) (h : am_H) (t : Int) : List (Int × Int) := if t ≠ -1 ∧ K t.toNat = 2 ∧ m_cof nm sc h t.toNat = -1 then [(4, P t.toNat)] else []
theorem mc_type (A : mc_A h0 K nm sc ss Z) (s : mc_same h0 h) (T : mc_T K Z h) (k : mc_K K P Z h) {t : Int} (ht : t = -1 ∨ ∃ u : Nat, t = u ∧ u ≤ Z) : am_D (d + 4) 17 59 [am_r (am_a 254), am_i t] (zS L, h) = pV L (mnotes (nt_ty K P nm sc h t) h) := by
  have hZ := T.1
  rw [D_17_59]
  unfold nt_ty
  rcases ht with rfl | ⟨u, rfl, hu⟩
  · rw [if_pos rfl, if_neg (fun z => z.1 rfl)]; rfl
  · obtain ⟨k1, k2, k3, k4⟩ := k u hu
    have kq := mp_k_eq ⟨k3, k4⟩
    rw [if_neg (by omega), p_idx (by omega) (by omega), Int.toNat_natCast, k1]
    by_cases c : K u = 2
    · rw [if_pos (kq.2.1.mpr c), mc_classOf d L A s T hu c, p_xI]
      by_cases c2 : m_cof nm sc h u = -1
      · rw [if_pos c2, mc_note (d + 2) L 4 (by omega), p_xV, k2, if_pos ⟨by omega, c, c2⟩]; rfl
      · rw [if_neg c2, if_neg (fun z => c2 z.2.2)]; rfl
    · rw [if_neg (fun z => c (kq.2.1.mp z)), if_neg (fun z => c z.2.1)]; rfl
/-- notes of a class, of a sub, of a variable -/
def nt_c (P nm sc : Nat → Int) (h : am_H) (c : Nat) : List (Int × Int) := if m_sc nm sc (h 261 c).toNat ≠ -1 ∨ p_find (fun k => nm (h 261 k).toNat) (nm (h 261 c).toNat) c 0 ≠ -1 then [(3, P (h 261 c).toNat)] else []
def nt_cs (P nm sc : Nat → Int) (h : am_H) : Nat → Nat → List (Int × Int)
  | 0, _ => []
  | m + 1, c => nt_c P nm sc h c ++ nt_cs P nm sc h m (c + 1)
theorem mc_names1 (A : mc_A h0 K nm sc ss Z) (u2 u3 u4 : Option am_V) : ∀ (m c : Nat) (h : am_H) (u2 u3 : Option am_V), mc_same h0 h → mc_T K Z h → mc_K K P Z h → (c : Int) + m = h 254 14 → ∃ u2' u3', am_E (am_D (d + 4)) m_17_60 (.inl 1) [some (am_r (am_a 254)), some (am_i (c : Int)), u2, u3, u4] [] (zS L, h) = am_E (am_D (d + 4)) m_17_60 (.inl 11) [some (am_r (am_a 254)), some (am_i 0), u2', u3', u4] [] (zS L, mnotes (nt_cs P nm sc h m c) h)
  | 0, c, h, u2, u3, s, T, k, hc => by
    rw [q_17_60_1, if_neg (by omega)]
    exact ⟨u2, u3, rfl⟩
  | m + 1, c, h, u2, u3, s, T, k, hc => by
    have hZ := T.1
    obtain ⟨t1, t2, t3⟩ := T.2.1
    obtain ⟨t, e1, e2, e3⟩ := t3 c (by omega)
    have et : (h 261 c).toNat = t := by rw [e1, Int.toNat_natCast]
    -- the inner loop
    have inn : ∀ (m2 j : Nat) (x2 : Int), j + m2 = c → (x2 = 0 ∨ x2 = 1) → am_E (am_D (d + 4)) m_17_60 (.inl 4) [some (am_r (am_a 254)), some (am_i (c : Int)), some (am_i x2), some (am_i (j : Int)), u4] [] (zS L, h) = am_E (am_D (d + 4)) m_17_60 (.inl 4) [some (am_r (am_a 254)), some (am_i (c : Int)), some (am_i (if x2 = 1 ∨ p_find (fun k => nm (h 261 k).toNat) (nm t) m2 j ≠ -1 then 1 else 0)), some (am_i (c : Int)), u4] [] (zS L, h) := by
      intro m2
      induction m2 with
      | zero =>
        intro j x2 hj hx
        have : j = c := by omega
        subst this
        rcases hx with rfl | rfl
        · rw [if_neg (by rintro (z | z); cases z; exact z rfl)]
        · rw [if_pos (Or.inl rfl)]
      | succ m2 ih =>
        intro j x2 hj hx
        obtain ⟨u, f1, f2, f3⟩ := t3 j (by omega)
        have eu : nm (h 261 j).toNat = nm u := by rw [f1, Int.toNat_natCast]
        rw [q_17_60_4, if_pos (by omega), p_w (x := (j : Int) + 1) (by omega) (by omega)]
        rcases hx with rfl | rfl
        · rw [if_pos rfl, p_idx (by omega) (by omega), p_idx (by omega) (by omega), Int.toNat_natCast, Int.toNat_natCast, f1, e1, A.1 (d + 3) L h u t s f2 e2 f3 e3, p_xI]
          unfold p_find
          rw [eu]
          by_cases e : nm u = nm t
          · rw [if_neg (by rw [pB_t e]; decide), if_pos e]
            have t2 := ih (j + 1) 1 (by omega) (Or.inr rfl)
            rw [if_pos (Or.inl rfl)] at t2
            rw [if_pos (Or.inr (by omega))]
            exact t2
          · rw [if_pos (by rw [pB_f e]), if_neg e]
            exact ih (j + 1) 0 (by omega) (Or.inl rfl)
        · rw [if_neg (by decide)]
          have t2 := ih (j + 1) 1 (by omega) (Or.inr rfl)
          rw [if_pos (Or.inl rfl)] at t2
          rw [if_pos (Or.inl rfl)]
          exact t2
    have key : ∀ x2 : Int, (x2 = 0 ∨ x2 = 1) → (x2 = 1 ↔ m_sc nm sc t ≠ -1) → ∃ u2' u3', am_E (am_D (d + 4)) m_17_60 (.inl 4) [some (am_r (am_a 254)), some (am_i (c : Int)), some (am_i x2), some (am_i 0), u4] [] (zS L, h) = am_E (am_D (d + 4)) m_17_60 (.inl 11) [some (am_r (am_a 254)), some (am_i 0), u2', u3', u4] [] (zS L, mnotes (nt_cs P nm sc h (m + 1) c) h) := by
      intro x2 hx hx2
      have t4 := inn c 0 x2 (by omega) hx
      rw [show (((0 : Nat)) : Int) = 0 from rfl] at t4
      rw [t4, q_17_60_4, if_neg (by omega), p_w (x := (c : Int) + 1) (by omega) (by omega)]
      unfold nt_cs nt_c
      rw [et, mnotes_app]
      by_cases cc : x2 = 1 ∨ p_find (fun k => nm (h 261 k).toNat) (nm t) c 0 ≠ -1
      · have cc' : m_sc nm sc t ≠ -1 ∨ p_find (fun k => nm (h 261 k).toNat) (nm t) c 0 ≠ -1 := by rw [← hx2]; exact cc
        rw [if_pos cc, if_neg (by decide), if_pos cc', p_idx (by omega) (by omega), Int.toNat_natCast, e1, mc_note (d + 3) L 3 (by omega), p_xV, (k t e2).2.1]
        have en : nt_cs P nm sc (mnotes [(3, P t)] h) m (c + 1) = nt_cs P nm sc h m (c + 1) := by
          have : ∀ m c, nt_cs P nm sc (mnotes [(3, P t)] h) m c = nt_cs P nm sc h m c := by
            intro m
            induction m with
            | zero => intro c; rfl
            | succ m ih => intro c; unfold nt_cs nt_c; rw [ih, mnotes_c 261 (by decide)]
          exact this _ _
        have r := mc_names1 A u2 u3 u4 m (c + 1) (mnotes [(3, P t)] h) (some (am_i 1)) (some (am_i (c : Int))) (s.notes _) (T.notes _) (k.notes _) (by rw [mnotes_n 254 14 (by omega)]; omega)
        rw [en] at r
        exact r
      · have cc' : ¬ (m_sc nm sc t ≠ -1 ∨ p_find (fun k => nm (h 261 k).toNat) (nm t) c 0 ≠ -1) := by rw [← hx2]; exact cc
        rw [if_neg cc, if_pos rfl, if_neg cc']
        exact mc_names1 A u2 u3 u4 m (c + 1) h _ _ s T k (by omega)
    rw [q_17_60_1, if_pos (by omega), p_idx (by omega) (by omega), Int.toNat_natCast, e1, mc_sysc (d + 2) L A s e2 e3, p_xI]
    by_cases cs : m_sc nm sc t = -1
    · rw [if_pos cs]
      exact key 0 (Or.inl rfl) ⟨fun z => (by cases z), fun z => absurd cs z⟩
    · rw [if_neg cs]
      exact key 1 (Or.inr rfl) ⟨fun _ => cs, fun _ => rfl⟩
end
