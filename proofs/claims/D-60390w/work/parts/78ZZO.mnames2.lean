/-! PURE LAYER, 120: the model tells names apart as the component does -/
/-- 1 or 0, whatever tells them apart -/
noncomputable def pC (p : Prop) : Int := @pB p (Classical.propDecidable p)
theorem pC_t {p : Prop} (h : p) : pC p = 1 := @pB_t p (Classical.propDecidable p) h
theorem pC_f {p : Prop} (h : ¬ p) : pC p = 0 := @pB_f p (Classical.propDecidable p) h
theorem pC_iff {p q : Prop} [Decidable q] (h : p ↔ q) : pC p = pB q := by
  by_cases c : q
  · rw [pC_t (h.2 c), pB_t c]
  · rw [pC_f (fun z => c (h.1 z)), pB_f c]
theorem pC_c {p q : Prop} (h : p ↔ q) : pC p = pC q := by
  by_cases c : q
  · rw [pC_t (h.2 c), pC_t c]
  · rw [pC_f (fun z => c (h.1 z)), pC_f c]
/-- a word of the model's row of the system's names -/
def wAt (p : Int) (w : List Int) : Prop := ∃ a : Nat, p = a ∧ a + w.length < am_cl 168 ∧ (∀ (q : Nat) (x : Int), w[q]? = some x → am_cc 168 (a + q) = x ∧ x ≠ 32) ∧ am_cc 168 (a + w.length) = 32
/-- the system's names: of its classes and subs, with their numbers -/
def SYw (h0 : am_H) (F : List (List Int)) (sc ss : Nat → Int) : Prop := (∀ c, c < 8 → ∃ w, wAt (h0 298 c) w ∧ w ∈ F ∧ sc c = (F.idxOf w : Nat)) ∧ (∀ s : Nat, s < 60 → (s : Int) < h0 297 8 → ∃ w, wAt (h0 299 s) w ∧ w ∈ F ∧ ss s = (F.idxOf w : Nat)) ∧ (∀ c, c < 8 → 0 ≤ h0 297 c ∧ h0 297 c ≤ h0 297 (c + 1) ∧ h0 297 (c + 1) ≤ h0 297 8) ∧ h0 297 8 ≤ 60
section
variable {t : Nat → Int} {n : Nat} {K V P : Nat → Int} {Z : Nat} {h0 h : am_H} {F : List (List Int)} (d L : Nat)
theorem idx_inj {a b : List Int} (ha : a ∈ F) (hb : b ∈ F) : F.idxOf a = F.idxOf b ↔ a = b := by
  constructor
  · intro e
    have l1 := List.idxOf_lt_length_iff.mpr ha
    have l2 := List.idxOf_lt_length_iff.mpr hb
    have h1 := List.getElem_idxOf l1
    have h2 := List.getElem_idxOf l2
    rw [← h1, ← h2]
    congr 1
  · intro e; rw [e]
/-- bytes of a name -/
def nmB (t : Nat → Int) (n : Nat) (h : am_H) (i : Nat) (a z : Nat) : Prop := h 258 i = a ∧ h 259 i = z ∧ (1 ≤ z ∧ z ≤ 16 ∧ a + z ≤ n ∧ n ≤ 4000) ∧ (∀ j, j < n → h 256 j = t j) ∧ ∀ j, a ≤ j → j < a + z → t j ≠ 32
theorem span_eq {a b z y : Nat} : lx_span t a (a + z) = lx_span t b (b + y) ↔ z = y ∧ ∀ q, q < z → t (a + q) = t (b + q) := by
  constructor
  · intro e
    have l := congrArg List.length e
    rw [lx_span_len, lx_span_len] at l
    refine ⟨by omega, fun q hq => ?_⟩
    have h1 : (lx_span t a (a + z))[q]? = some (t (a + q)) := by unfold lx_span; rw [List.getElem?_map, List.getElem?_range (by omega)]; rfl
    have h2 : (lx_span t b (b + y))[q]? = some (t (b + q)) := by unfold lx_span; rw [List.getElem?_map, List.getElem?_range (by omega)]; rfl
    rw [e, h2] at h1
    exact (Option.some.inj h1).symm
  · rintro ⟨rfl, e⟩
    unfold lx_span
    rw [show a + z - a = z by omega, show b + z - b = z by omega]
    exact List.map_congr_left (fun q hq => e q (List.mem_range.1 hq))
/-- like() -/
theorem m_like {i j a z b y : Nat} (hi : i < 2002) (hj : j < 2002) (A : nmB t n h i a z) (B : nmB t n h j b y) : am_D (d + 1) 17 16 [am_r (am_a 254), am_i (i : Int), am_i (j : Int)] (zS L, h) = pI L (pB (lx_span t a (a + z) = lx_span t b (b + y))) h := by
  obtain ⟨a1, a2, ⟨a3, a4, a5, a6⟩, a7, -⟩ := A
  obtain ⟨b1, b2, ⟨b3, b4, b5, b6⟩, b7, -⟩ := B
  have go : ∀ (m q : Nat) (s : Bool), q + m = z → (s = true → z = y) → am_E (am_D d) m_17_16 (.inl 3) [some (am_r (am_a 254)), some (am_i (i : Int)), some (am_i (j : Int)), some (am_i (if s = true then 1 else 0)), some (am_i (q : Int))] [] (zS L, h) = pI L (pC (s = true ∧ ∀ k, q ≤ k → k < z → t (a + k) = t (b + k))) h := by
    intro m
    induction m with
    | zero =>
      intro q s hq hs
      rw [q_17_16_3, p_idx (by omega) (by omega), Int.toNat_natCast, a2, if_neg (by omega)]
      cases s with
      | false => rw [if_neg (c := false = true) (by decide), p_bit0, pC_f (fun w => by cases w.1)]
      | true => rw [if_pos rfl, p_bit1, pC_t ⟨rfl, fun k h1 h2 => by omega⟩]
    | succ m ih =>
      intro q s hq hs
      rw [q_17_16_3, p_idx (by omega) (by omega), Int.toNat_natCast, a2, if_pos (by omega)]
      cases s with
      | false => rw [if_neg (c := false = true) (by decide), if_pos rfl, p_bit0, pC_f (fun w => by cases w.1)]
      | true =>
        have zy := hs rfl
        rw [if_pos (c := true = true) rfl, if_neg (by decide), p_idx (by omega) (by omega), Int.toNat_natCast, a1, p_w (by omega) (by omega), p_idx (by omega) (by omega), p_idx (by omega) (by omega), Int.toNat_natCast, b1, p_w (by omega) (by omega), p_idx (by omega) (by omega), show ((a : Int) + (q : Int)).toNat = a + q by omega, show ((b : Int) + (q : Int)).toNat = b + q by omega, a7 _ (by omega), b7 _ (by omega), p_w (by omega) (by omega), show (q : Int) + 1 = ((q + 1 : Nat) : Int) by omega]
        by_cases e : t (a + q) = t (b + q)
        · rw [if_pos e]
          have := ih (q + 1) true (by omega) hs
          rw [if_pos rfl] at this
          rw [this]
          refine congrArg (fun v => pI L v h) (pC_c ⟨fun w => ⟨rfl, fun k h1 h2 => ?_⟩, fun w => ⟨rfl, fun k h1 h2 => w.2 k (by omega) h2⟩⟩)
          by_cases ek : k = q
          · rw [ek]; exact e
          · exact w.2 k (by omega) h2
        · rw [if_neg e]
          have := ih (q + 1) false (by omega) (fun w => by cases w)
          rw [if_neg (by decide)] at this
          rw [this, pC_f (fun w => by cases w.1), pC_f (fun w => e (w.2 q (by omega) (by omega)))]
  rw [D_17_16, p_idx (by omega) (by omega), p_idx (by omega) (by omega), Int.toNat_natCast, Int.toNat_natCast, a2, b2]
  by_cases e : z = y
  · rw [if_pos (by omega)]
    have := go z 0 true (by omega) (fun _ => e)
    rw [if_pos rfl] at this
    refine this.trans (congrArg (fun v => pI L v h) (pC_iff ?_))
    rw [span_eq]
    exact ⟨fun w => ⟨e, fun q hq => w.2 q (by omega) hq⟩, fun w => ⟨rfl, fun k _ h2 => w.2 k h2⟩⟩
  · rw [if_neg (by omega)]
    have := go z 0 false (by omega) (fun w => by cases w)
    rw [if_neg (by decide)] at this
    refine this.trans ?_
    rw [pC_f (fun w => by cases w.1), pB_f (fun w => e (span_eq.1 w).1)]
/-- isSystem() -/
theorem m_issys {i a z : Nat} (hi : i < 2002) (A : nmB t n h i a z) {p : Int} {w : List Int} (W : wAt p w) (hcl : am_cl 168 ≤ 10000) : am_D (d + 1) 17 53 [am_r (am_a 254), am_i (i : Int), am_i p] (zS L, h) = pI L (pB (w = lx_span t a (a + z))) h := by
  obtain ⟨a1, a2, ⟨a3, a4, a5, a6⟩, a7, a8⟩ := A
  obtain ⟨b, rfl, w1, w2, w3⟩ := W
  have wlen : ∀ q, q < w.length → ∃ x, w[q]? = some x := fun q hq => ⟨w[q], List.getElem?_eq_getElem hq⟩
  have sp : ∀ q, q < z → (lx_span t a (a + z))[q]? = some (t (a + q)) := fun q hq => by unfold lx_span; rw [List.getElem?_map, List.getElem?_range (by omega)]; rfl
  -- behind the loop
  have fin : ∀ q : Nat, q ≤ z → q ≤ w.length → (∀ k, k < q → w[k]? = some (t (a + k))) → (q < z → am_cc 168 (b + q) ≠ t (a + q)) → am_E (am_D d) m_17_53 (.inl 2) [some (am_r (am_a 254)), some (am_i (i : Int)), some (am_i (b : Int)), some (am_i (q : Int))] [] (zS L, h) = pI L (pB (w = lx_span t a (a + z))) h := by
    intro q hq hq2 hs hne
    rw [q_17_53_2, p_idx (by omega) (by omega), Int.toNat_natCast, a2]
    by_cases e : q = z
    · subst e
      rw [if_pos rfl, p_w (by omega) (by omega), p_idx (by omega) (by omega), show ((b : Int) + (q : Int)).toNat = b + q by omega]
      by_cases e2 : q = w.length
      · subst e2
        rw [w3, if_pos rfl, p_bit1, pB_t]
        refine List.ext_getElem? (fun k => ?_)
        by_cases hk : k < w.length
        · rw [hs k hk, sp k hk]
        · rw [List.getElem?_eq_none (by omega), List.getElem?_eq_none (by rw [lx_span_len]; omega)]
      · obtain ⟨x, hx⟩ := wlen q (by omega)
        have := w2 q x hx
        rw [this.1, if_neg this.2, p_bit0, pB_f]
        intro z
        have := congrArg List.length z
        rw [lx_span_len] at this
        omega
    · rw [if_neg (by omega), p_bit0, pB_f]
      intro ew
      by_cases e2 : q = w.length
      · have := congrArg List.length ew
        rw [lx_span_len] at this
        omega
      · obtain ⟨x, hx⟩ := wlen q (by omega)
        have h1 := (w2 q x hx).1
        rw [ew, sp q (by omega)] at hx
        rw [← Option.some.inj hx] at h1
        exact hne (by omega) h1
  have go : ∀ (m q : Nat), q + m = z → q ≤ w.length → (∀ k, k < q → w[k]? = some (t (a + k))) → am_E (am_D d) m_17_53 (.inl 1) [some (am_r (am_a 254)), some (am_i (i : Int)), some (am_i (b : Int)), some (am_i (q : Int))] [] (zS L, h) = pI L (pB (w = lx_span t a (a + z))) h := by
    intro m
    induction m with
    | zero =>
      intro q hq hq2 hs
      rw [q_17_53_1, p_idx (by omega) (by omega), Int.toNat_natCast, a2, if_neg (by omega)]
      exact fin q (by omega) hq2 hs (fun z => by omega)
    | succ m ih =>
      intro q hq hq2 hs
      rw [q_17_53_1, p_idx (by omega) (by omega), Int.toNat_natCast, a2, if_pos (by omega), p_w (by omega) (by omega), p_idx (by omega) (by omega), p_idx (by omega) (by omega), Int.toNat_natCast, a1, p_w (by omega) (by omega), p_idx (by omega) (by omega), show ((b : Int) + (q : Int)).toNat = b + q by omega, show ((a : Int) + (q : Int)).toNat = a + q by omega, a7 _ (by omega), p_w (by omega) (by omega), show (q : Int) + 1 = ((q + 1 : Nat) : Int) by omega]
      by_cases e : am_cc 168 (b + q) = t (a + q)
      · rw [if_pos e]
        have hlt : q < w.length := by
          apply Classical.byContradiction
          intro c
          have : q = w.length := by omega
          rw [this, w3] at e
          exact a8 (a + w.length) (by omega) (by omega) e.symm
        refine ih (q + 1) (by omega) (by omega) (fun k hk => ?_)
        by_cases ek : k = q
        · subst ek
          obtain ⟨x, hx⟩ := wlen k hlt
          rw [hx, ← e, (w2 k x hx).1]
        · exact hs k (by omega)
      · rw [if_neg e]
        exact fin q (by omega) hq2 hs (fun _ => e)
  rw [D_17_53]
  exact go z 0 (by omega) (by omega) (fun k hk => by omega)
/-- isText() -/
theorem m_istext {i a z : Nat} (hi : i < 2002) (A : nmB t n h i a z) (x2 x3 x4 x5 : Int) : am_D (d + 1) 17 67 [am_r (am_a 254), am_i (i : Int), am_i x2, am_i x3, am_i x4, am_i x5] (zS L, h) = pI L (pB (lx_span t a (a + z) = [x2, x3, x4, x5])) h := by
  obtain ⟨a1, a2, ⟨a3, a4, a5, a6⟩, a7, a8⟩ := A
  have sp : ∀ q, q < z → (lx_span t a (a + z))[q]? = some (t (a + q)) := fun q hq => by unfold lx_span; rw [List.getElem?_map, List.getElem?_range (by omega)]; rfl
  rw [D_17_67, p_idx (by omega) (by omega), p_idx (by omega) (by omega), Int.toNat_natCast, a2, a1]
  by_cases e : z = 4
  · subst e
    rw [if_pos (c := ((4 : Nat) : Int) = 4) rfl, p_idx (by omega) (by omega), p_w (by omega) (by omega), p_w (by omega) (by omega), p_w (by omega) (by omega), p_idx (by omega) (by omega), p_idx (by omega) (by omega), p_idx (by omega) (by omega), Int.toNat_natCast, show ((a : Int) + 1).toNat = a + 1 by omega, show ((a : Int) + 2).toNat = a + 2 by omega, show ((a : Int) + 3).toNat = a + 3 by omega, a7 a (by omega), a7 (a + 1) (by omega), a7 (a + 2) (by omega), a7 (a + 3) (by omega)]
    have key : lx_span t a (a + 4) = [x2, x3, x4, x5] ↔ t a = x2 ∧ t (a + 1) = x3 ∧ t (a + 2) = x4 ∧ t (a + 3) = x5 := by
      have : lx_span t a (a + 4) = [t a, t (a + 1), t (a + 2), t (a + 3)] := by
        unfold lx_span
        rw [show a + 4 - a = 4 by omega]
        rfl
      rw [this]
      simp
    rw [p_bit1, p_bit0]
    by_cases c1 : t a = x2
    · rw [if_pos c1]
      by_cases c2 : t (a + 1) = x3
      · rw [if_pos c2]
        by_cases c3 : t (a + 2) = x4
        · rw [if_pos c3]
          by_cases c4 : t (a + 3) = x5
          · rw [if_pos c4, pB_t (key.2 ⟨c1, c2, c3, c4⟩)]
          · rw [if_neg c4, pB_f (fun w => c4 (key.1 w).2.2.2)]
        · rw [if_neg c3, pB_f (fun w => c3 (key.1 w).2.2.1)]
      · rw [if_neg c2, pB_f (fun w => c2 (key.1 w).2.1)]
    · rw [if_neg c1, pB_f (fun w => c1 (key.1 w).1)]
  · rw [if_neg (by omega), p_bit0, pB_f]
    intro w
    have := congrArg List.length w
    rw [lx_span_len] at this
    have : a + z - a = 4 := this
    omega
variable {sc ss : Nat → Int}
theorem tokR.nm (T : tokR t n F K V P Z h0) (ht : ∀ k, k < n → h0 256 k = t k) (s : mc_same h0 h) {i : Nat} (hi : i ≤ Z) (hk : kM K Z i = 2) : ∃ a z, nmB t n h i a z ∧ lx_span t a (a + z) ∈ F ∧ V i = (F.idxOf (lx_span t a (a + z)) : Nat) := by
  obtain ⟨⟨t01, t02, t03⟩, t1, t2, t3, t4, t5, t6, t7⟩ := T
  have e : K i = 2 := by rw [← kM_7 (K := K) (Z := Z) (i := i) (by omega) hi]; exact hk
  obtain ⟨u1, a, z, u2, u3, u4, u5, u6, u7, u8, u9⟩ := t7 i hi e (by omega)
  refine ⟨a, z, ⟨?_, ?_, ⟨u4, u5, u8, t03⟩, fun j hj => ?_, u9⟩, u6, u7⟩
  · rw [s 258 (by omega), (t6 i hi).2.1]; exact u2
  · rw [s 259 (by omega)]; exact u3
  · rw [s 256 (by omega)]; exact ht j hj
theorem tokR.A (T : tokR t n F K V P Z h0) (ht : ∀ k, k < n → h0 256 k = t k) (Y : SYw h0 F sc ss) (hcl : am_cl 168 ≤ 10000) : mc_A h0 (kM K Z) V sc ss Z := by
  have hZ := T.2.1
  refine ⟨fun d L h i j s hi hj ki kj => ?_, fun d L h i c s hi ki hc => ?_, fun d L h i r s hi ki hr hr2 => ?_, Y.2.2.1, Y.2.2.2⟩
  · obtain ⟨a, z, A, a1, a2⟩ := T.nm ht s hi ki
    obtain ⟨b, y, B, b1, b2⟩ := T.nm ht s hj kj
    rw [m_like d L (by omega) (by omega) A B, a2, b2]
    refine congrArg (fun v => pI L v h) (pB_congr ?_)
    rw [← idx_inj a1 b1]
    omega
  · obtain ⟨a, z, A, a1, a2⟩ := T.nm ht s hi ki
    obtain ⟨w, W, w1, w2⟩ := Y.1 c hc
    rw [s 298 (by omega), m_issys d L (by omega) A W hcl, a2, w2]
    refine congrArg (fun v => pI L v h) (pB_congr ?_)
    rw [← idx_inj w1 a1]
    omega
  · obtain ⟨a, z, A, a1, a2⟩ := T.nm ht s hi ki
    obtain ⟨w, W, w1, w2⟩ := Y.2.1 r hr hr2
    rw [s 299 (by omega), m_issys d L (by omega) A W hcl, a2, w2]
    refine congrArg (fun v => pI L v h) (pB_congr ?_)
    rw [← idx_inj w1 a1]
    omega
theorem tokR.M (T : tokR t n F K V P Z h0) (ht : ∀ k, k < n → h0 256 k = t k) {mn mM : Int} (h1 : [109, 97, 105, 110] ∈ F ∧ mn = (F.idxOf [109, 97, 105, 110] : Nat)) (h2 : [77, 97, 105, 110] ∈ F ∧ mM = (F.idxOf [77, 97, 105, 110] : Nat)) : mc_M h0 (kM K Z) V Z mn mM := by
  have hZ := T.2.1
  intro d L h i s hi ki
  obtain ⟨a, z, A, a1, a2⟩ := T.nm ht s hi ki
  constructor
  · rw [m_istext d L (by omega) A, a2, h1.2]
    refine congrArg (fun v => pI L v h) (pB_congr ?_)
    rw [← idx_inj a1 h1.1]
    omega
  · rw [m_istext d L (by omega) A, a2, h2.2]
    refine congrArg (fun v => pI L v h) (pB_congr ?_)
    rw [← idx_inj a1 h2.1]
    omega
end
