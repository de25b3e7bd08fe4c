/-! PURE LAYER, 98: both sides look names up alike -/
theorem p_find_none (f : Nat → Int) (x : Int) : ∀ (m k : Nat), (∀ j, k ≤ j → j < k + m → f j ≠ x) → p_find f x m k = -1
  | 0, _, _ => rfl
  | m + 1, k, h => by
    unfold p_find
    rw [if_neg (h k (Nat.le_refl _) (by omega))]
    exact p_find_none f x m (k + 1) (fun j h1 h2 => h j (by omega) (by omega))
theorem p_find_some (f : Nat → Int) (x : Int) (j : Nat) : ∀ (m k : Nat), k ≤ j → j < k + m → f j = x → (∀ i, k ≤ i → i < j → f i ≠ x) → p_find f x m k = j
  | 0, _, h1, h2, _, _ => by omega
  | m + 1, k, h1, h2, h3, h4 => by
    unfold p_find
    by_cases c : k = j
    · subst c; rw [if_pos h3]
    · rw [if_neg (h4 k (Nat.le_refl _) (by omega))]
      exact p_find_some f x j m (k + 1) (by omega) (by omega) h3 (fun i h5 h6 => h4 i (by omega) h6)
theorem p_find2_none (f g : Nat → Int) (x y : Int) : ∀ (m k : Nat), (∀ j, k ≤ j → j < k + m → ¬ (f j = x ∧ g j = y)) → p_find2 f g x y m k = -1
  | 0, _, _ => rfl
  | m + 1, k, h => by
    unfold p_find2
    rw [if_neg (h k (Nat.le_refl _) (by omega))]
    exact p_find2_none f g x y m (k + 1) (fun j h1 h2 => h j (by omega) (by omega))
theorem p_find2_some (f g : Nat → Int) (x y : Int) (j : Nat) : ∀ (m k : Nat), k ≤ j → j < k + m → f j = x ∧ g j = y → (∀ i, k ≤ i → i < j → ¬ (f i = x ∧ g i = y)) → p_find2 f g x y m k = j
  | 0, _, h1, h2, _, _ => by omega
  | m + 1, k, h1, h2, h3, h4 => by
    unfold p_find2
    by_cases c : k = j
    · subst c; rw [if_pos h3]
    · rw [if_neg (h4 k (Nat.le_refl _) (by omega))]
      exact p_find2_some f g x y j m (k + 1) (by omega) (by omega) h3 (fun i h5 h6 => h4 i (by omega) h6)
/-- what a search finds -/
theorem p_find_cases (f : Nat → Int) (x : Int) (m k : Nat) : (p_find f x m k = -1 ∧ ∀ j, k ≤ j → j < k + m → f j ≠ x) ∨ (∃ j : Nat, p_find f x m k = j ∧ k ≤ j ∧ j < k + m ∧ f j = x ∧ ∀ i, k ≤ i → i < j → f i ≠ x) := by
  induction m generalizing k with
  | zero => exact Or.inl ⟨rfl, fun j h1 h2 => by omega⟩
  | succ m ih =>
    by_cases c : f k = x
    · exact Or.inr ⟨k, by unfold p_find; rw [if_pos c], Nat.le_refl _, by omega, c, fun i h1 h2 => by omega⟩
    · unfold p_find
      rw [if_neg c]
      rcases ih (k + 1) with ⟨h1, h2⟩ | ⟨j, h1, h2, h3, h4, h5⟩
      · refine Or.inl ⟨h1, fun j h3 h4 => ?_⟩
        by_cases e : j = k
        · rw [e]; exact c
        · exact h2 j (by omega) (by omega)
      · refine Or.inr ⟨j, h1, by omega, by omega, h4, fun i h6 h7 => ?_⟩
        by_cases e : i = k
        · rw [e]; exact c
        · exact h5 i (by omega) h7
theorem p_find2_cases (f g : Nat → Int) (x y : Int) (m k : Nat) : (p_find2 f g x y m k = -1 ∧ ∀ j, k ≤ j → j < k + m → ¬ (f j = x ∧ g j = y)) ∨ (∃ j : Nat, p_find2 f g x y m k = j ∧ k ≤ j ∧ j < k + m ∧ (f j = x ∧ g j = y) ∧ ∀ i, k ≤ i → i < j → ¬ (f i = x ∧ g i = y)) := by
  induction m generalizing k with
  | zero => exact Or.inl ⟨rfl, fun j h1 h2 => by omega⟩
  | succ m ih =>
    by_cases c : f k = x ∧ g k = y
    · exact Or.inr ⟨k, by unfold p_find2; rw [if_pos c], Nat.le_refl _, by omega, c, fun i h1 h2 => by omega⟩
    · unfold p_find2
      rw [if_neg c]
      rcases ih (k + 1) with ⟨h1, h2⟩ | ⟨j, h1, h2, h3, h4, h5⟩
      · refine Or.inl ⟨h1, fun j h3 h4 => ?_⟩
        by_cases e : j = k
        · rw [e]; exact c
        · exact h2 j (by omega) (by omega)
      · refine Or.inr ⟨j, h1, by omega, by omega, h4, fun i h6 h7 => ?_⟩
        by_cases e : i = k
        · rw [e]; exact c
        · exact h5 i (by omega) h7
/-- tables of a text, as both sides have them in the end -/
def FT (b20 b21 : Nat) (V : Nat → Int) (h c : am_H) (n0 n3 : Nat) : Prop :=
  (h 254 14 = (n0 : Int) ∧ h 254 17 = (n3 : Int) ∧ c 213 3 = (b20 : Int) + n0 ∧ c 217 5 = (b21 : Int) + n3 ∧ c 212 20 = (b20 : Int) ∧ c 212 21 = (b21 : Int)) ∧
  (∀ k, k < n0 → c 214 (b20 + k) = V (h 261 k).toNat ∧ c 215 (b20 + k) = 1 ∧ c 216 (b20 + k) = h 262 k) ∧
  (∀ k, k < n3 → (0 ≤ h 263 k ∧ h 263 k < (n0 : Int)) ∧ rTs b20 b21 V h c k ∧ c 221 (b21 + k) = h 267 k)
/-- the system's classes and subs: those of the model, and hidden ones -/
def SY (b20 b21 : Nat) (sc ss : Nat → Int) (cc cs : Nat → Nat) (h c : am_H) : Prop :=
  (∀ q, q < 8 → cc q < b20 ∧ c 214 (cc q) = sc q ∧ ¬ ce_hid c (sc q)) ∧
  (∀ i, i < b20 → ¬ ce_hid c (c 214 i) → ∃ q, q < 8 ∧ i = cc q) ∧
  (∀ i j, i < b20 → j < b20 → c 214 i = c 214 j → i = j) ∧
  (∀ q s : Nat, q < 8 → h 297 q ≤ s → (s : Int) < h 297 (q + 1) → cs s < b21 ∧ c 218 (cs s) = (cc q : Int) ∧ c 219 (cs s) = ss s ∧ ¬ ce_hid c (ss s) ∧ (c 220 (cs s) = 3 ↔ h 300 s = 1) ∧ c 221 (cs s) = h 301 s ∧ c 222 (cs s) = 100 * (q : Int) + ((s : Int) - h 297 q)) ∧
  (∀ j, j < b21 → 0 ≤ c 218 j ∧ c 218 j < (b20 : Int)) ∧
  (∀ j q, j < b21 → q < 8 → c 218 j = (cc q : Int) → ¬ ce_hid c (c 219 j) → ∃ s : Nat, h 297 q ≤ s ∧ (s : Int) < h 297 (q + 1) ∧ j = cs s) ∧
  (∀ i j, i < b21 → j < b21 → c 218 i = c 218 j → c 219 i = c 219 j → i = j) ∧
  (∀ q, q < 8 → 0 ≤ h 297 q ∧ h 297 q ≤ h 297 (q + 1)) ∧
  (∀ s : Nat, h 300 s = 0 ∨ h 300 s = 1)
/-- classes and subs of the model as the component numbers them -/
def cm (b20 : Nat) (cc : Nat → Nat) (q : Int) : Int := if q = -1 then -1 else if q < 8 then (cc q.toNat : Int) else (b20 : Int) + (q - 8)
def sm (b21 : Nat) (cs : Nat → Nat) (q s : Int) : Int := if s = -1 then -1 else if q < 8 then (cs s.toNat : Int) else (b21 : Int) + s
section
variable {V sc ss : Nat → Int} {cc cs : Nat → Nat} {b20 b21 n0 n3 : Nat} {h c : am_H}
/-- names of classes -/
theorem n_cof (F : FT b20 b21 V h c n0 n3) (S : SY b20 b21 sc ss cc cs h c) (t : Nat) : ce_cof false c (V t) = cm b20 cc (m_cof V sc h t) := by
  obtain ⟨⟨f1, f2, f3, f4, f5, f6⟩, f7, f8⟩ := F
  obtain ⟨s1, s2, s3, -⟩ := S
  have own : ce_own c (V t) = (if p_find (fun k => V (h 261 k).toNat) (V t) (h 254 14).toNat 0 = -1 then -1 else (b20 : Int) + p_find (fun k => V (h 261 k).toNat) (V t) (h 254 14).toNat 0) := by
    unfold ce_own
    rw [f1, Int.toNat_natCast, f3, f5, Int.toNat_natCast, show ((b20 : Int) + n0 - b20).toNat = n0 by omega]
    rcases p_find_cases (fun k => V (h 261 k).toNat) (V t) n0 0 with ⟨a1, a2⟩ | ⟨j, a1, a2, a3, a4, a5⟩
    · rw [a1, if_pos rfl]
      refine p_find_none _ _ _ _ (fun j j1 j2 => ?_)
      have := (f7 (j - b20) (by omega)).1
      rw [show b20 + (j - b20) = j by omega] at this
      rw [this]
      exact a2 (j - b20) (by omega) (by omega)
    · rw [a1, if_neg (by omega)]
      have t := p_find_some (c 214) (V t) (b20 + j) n0 b20 (by omega) (by omega) (by rw [(f7 j (by omega)).1]; exact a4) (fun i i1 i2 => by
        have := (f7 (i - b20) (by omega)).1
        rw [show b20 + (i - b20) = i by omega] at this
        rw [this]
        exact a5 (i - b20) (by omega) (by omega))
      rw [t]; omega
  unfold ce_cof m_cof m_sc
  by_cases hd : ce_hid c (V t)
  · rw [if_neg (by simp [hd]), own]
    have n1 : p_find sc (V t) 8 0 = -1 := p_find_none _ _ _ _ (fun q _ q2 e => (s1 q (by omega)).2.2 (by rw [e]; exact hd))
    rw [n1, if_pos rfl]
    by_cases e : p_find (fun k => V (h 261 k).toNat) (V t) (h 254 14).toNat 0 = -1
    · rw [if_pos e, if_pos e]; rfl
    · rw [if_neg e, if_neg e]
      have rg := p_find_rg (fun k => V (h 261 k).toNat) (V t) (h 254 14).toNat 0
      unfold cm
      rw [if_neg (by omega), if_neg (by omega)]
      omega
  · rw [if_pos (Or.inr hd)]
    rcases p_find_cases sc (V t) 8 0 with ⟨a1, a2⟩ | ⟨q, a1, a2, a3, a4, a5⟩
    · rw [a1, if_pos rfl]
      have n1 : ∀ i, i < b20 → c 214 i ≠ V t := fun i hi e => by
        obtain ⟨q, q1, q2⟩ := s2 i hi (by rw [e]; exact hd)
        exact a2 q (by omega) (by omega) (by rw [← (s1 q q1).2.1, ← q2]; exact e)
      have n2 : ce_cls c (V t) = -1 ∨ c 212 20 ≤ ce_cls c (V t) := by
        unfold ce_cls
        rcases p_find_cases (c 214) (V t) (c 213 3).toNat 0 with ⟨b1, -⟩ | ⟨j, b1, -, -, b4, -⟩
        · exact Or.inl b1
        · right
          rw [b1, f5]
          by_cases cj : j < b20
          · exact absurd b4 (n1 j cj)
          · omega
      rw [if_pos n2, own]
      by_cases e : p_find (fun k => V (h 261 k).toNat) (V t) (h 254 14).toNat 0 = -1
      · rw [if_pos e, if_pos e]; rfl
      · rw [if_neg e, if_neg e]
        have rg := p_find_rg (fun k => V (h 261 k).toNat) (V t) (h 254 14).toNat 0
        unfold cm
        rw [if_neg (by omega), if_neg (by omega)]
        omega
    · rw [a1, if_neg (c := (q : Int) = -1) (by omega)]
      obtain ⟨q1, q2, q3⟩ := s1 q (by omega)
      have e : ce_cls c (V t) = (cc q : Int) := by
        unfold ce_cls
        refine p_find_some _ _ (cc q) _ _ (by omega) (by omega) (by rw [q2]; exact a4) (fun i _ i2 e => ?_)
        have := s3 i (cc q) (by omega) q1 (by rw [e, q2]; exact a4.symm)
        omega
      rw [e, if_neg (by omega)]
      unfold cm
      rw [if_neg (by omega), if_pos (by omega), Int.toNat_natCast]
/-- names of subs -/
theorem n_sof (F : FT b20 b21 V h c n0 n3) (S : SY b20 b21 sc ss cc cs h c) (t : Nat) {q : Int} (hq : 0 ≤ q ∧ q < 8 + (n0 : Int)) : ce_sof false c (cm b20 cc q) (V t) = sm b21 cs q (m_sof V ss h q t) := by
  obtain ⟨⟨f1, f2, f3, f4, f5, f6⟩, f7, f8⟩ := F
  obtain ⟨s1, s2, s3, s4, s5, s6, s7, s8, -⟩ := S
  unfold ce_sof m_sof ce_sub
  by_cases c8 : q < 8
  · obtain ⟨k, rfl⟩ : ∃ k : Nat, q = k := ⟨q.toNat, by omega⟩
    have k8 : k < 8 := by omega
    have ecm : cm b20 cc (k : Int) = (cc k : Int) := by unfold cm; rw [if_neg (by omega), if_pos c8, Int.toNat_natCast]
    obtain ⟨q1, q2, q3⟩ := s1 k k8
    obtain ⟨w1, w2⟩ := s8 k k8
    rw [ecm, if_pos c8, f5, Int.toNat_natCast]
    by_cases hd : ce_hid c (V t)
    · rw [if_pos ⟨rfl, by omega, hd⟩]
      rw [p_find_none ss (V t) _ _ (fun j j1 j2 e => (s4 k j k8 (by omega) (by omega)).2.2.2.1 (by rw [e]; exact hd))]
      rfl
    · rw [if_neg (fun z => hd z.2.2)]
      rcases p_find_cases ss (V t) (h 297 (k + 1) - h 297 k).toNat (h 297 k).toNat with ⟨a1, a2⟩ | ⟨j, a1, a2, a3, a4, a5⟩
      · rw [a1]
        rw [p_find2_none _ _ _ _ _ _ (fun j _ j2 e => ?_)]
        · rfl
        · by_cases cj : j < b21
          · obtain ⟨s, e1, e2, e3⟩ := s6 j k cj k8 e.1 (by rw [e.2]; exact hd)
            refine a2 s (by omega) (by omega) ?_
            rw [← (s4 k s k8 e1 e2).2.2.1, ← e3]; exact e.2
          · obtain ⟨g1, g2, -⟩ := f8 (j - b21) (by omega)
            have := g2.1
            rw [show b21 + (j - b21) = j by omega] at this
            omega
      · obtain ⟨e1, e2, e3, e4, -⟩ := s4 k j k8 (by omega) (by omega)
        rw [a1]
        rw [p_find2_some _ _ _ _ (cs j) _ _ (by omega) (by omega) ⟨e2, by rw [e3]; exact a4⟩ (fun i _ i2 e => ?_)]
        · unfold sm
          rw [if_neg (by omega), if_pos c8, Int.toNat_natCast]
        · have := s7 i (cs j) (by omega) e1 (by rw [e.1, e2]) (by rw [e.2, e3]; exact a4.symm)
          omega
  · have ecm : cm b20 cc q = (b20 : Int) + (q - 8) := by unfold cm; rw [if_neg (by omega), if_neg c8]
    rw [ecm, if_neg c8, if_neg (by omega), f2, Int.toNat_natCast]
    have row : ∀ j, b21 ≤ j → j < b21 + n3 → ((c 218 j = (b20 : Int) + (q - 8) ∧ c 219 j = V t) ↔ (h 263 (j - b21) = q - 8 ∧ V (h 265 (j - b21)).toNat = V t)) := by
      intro j j1 j2
      obtain ⟨g1, g2, -⟩ := f8 (j - b21) (by omega)
      obtain ⟨r1, r2, -⟩ := g2
      rw [show b21 + (j - b21) = j by omega] at r1 r2
      rw [r1, r2]
      constructor
      · intro z; exact ⟨by omega, z.2⟩
      · intro z; exact ⟨by omega, z.2⟩
    have low : ∀ j, j < b21 → ¬ (c 218 j = (b20 : Int) + (q - 8) ∧ c 219 j = V t) := fun j hj e => by have := s5 j hj; omega
    rcases p_find2_cases (h 263) (fun s => V (h 265 s).toNat) (q - 8) (V t) n3 0 with ⟨a1, a2⟩ | ⟨j, a1, a2, a3, a4, a5⟩
    · rw [a1]
      rw [p_find2_none _ _ _ _ _ _ (fun j _ j2 e => ?_)]
      · rfl
      · by_cases cj : j < b21
        · exact low j cj e
        · exact a2 (j - b21) (by omega) (by omega) ((row j (by omega) (by omega)).1 e)
    · rw [a1]
      rw [p_find2_some _ _ _ _ (b21 + j) _ _ (by omega) (by omega) ((row (b21 + j) (by omega) (by omega)).2 (by rw [show b21 + j - b21 = j by omega]; exact a4)) (fun i _ i2 e => ?_)]
      · unfold sm
        rw [if_neg (by omega), if_neg c8]
        omega
      · by_cases ci : i < b21
        · exact low i ci e
        · exact a5 (i - b21) (by omega) (by omega) ((row i (by omega) (by omega)).1 e)
end
