/-! PURE LAYER, 113: the component's two readings of a text -/
section
variable {K K' P V sc ss n6 : Nat → Int} {cc cs : Nat → Nat} {b20 b21 b15 bv bl n0 n3 : Nat} {h c0 : am_H} {mn mM : Int}
/-- the first sub that is main -/
theorem m_mainf_cases : ∀ (m s : Nat) (r : Int), (r ≠ -1 ∧ m_mainf V mn mM h m s r = r) ∨ (r = -1 ∧ m_mainf V mn mM h m s r = -1 ∧ ∀ k, s ≤ k → k < s + m → ¬ m_ism V mn mM h k) ∨ (r = -1 ∧ ∃ k : Nat, m_mainf V mn mM h m s r = k ∧ s ≤ k ∧ k < s + m ∧ m_ism V mn mM h k ∧ ∀ j, s ≤ j → j < k → ¬ m_ism V mn mM h j)
  | 0, s, r => by
    by_cases c : r = -1
    · exact Or.inr (Or.inl ⟨c, c, fun k h1 h2 => by omega⟩)
    · exact Or.inl ⟨c, rfl⟩
  | m + 1, s, r => by
    unfold m_mainf
    by_cases c : r = -1
    · by_cases d : m_ism V mn mM h s
      · rw [if_pos ⟨d, c⟩]
        rcases m_mainf_cases m (s + 1) s with ⟨-, e⟩ | ⟨e, -⟩ | ⟨e, -⟩
        · exact Or.inr (Or.inr ⟨c, s, e, by omega, by omega, d, fun j h1 h2 => by omega⟩)
        · omega
        · omega
      · rw [if_neg (fun z => d z.1)]
        rcases m_mainf_cases m (s + 1) r with ⟨e, -⟩ | ⟨-, e1, e2⟩ | ⟨-, k, e1, e2, e3, e4, e5⟩
        · exact absurd c e
        · refine Or.inr (Or.inl ⟨c, e1, fun k h1 h2 => ?_⟩)
          by_cases ek : k = s
          · rw [ek]; exact d
          · exact e2 k (by omega) (by omega)
        · refine Or.inr (Or.inr ⟨c, k, e1, by omega, by omega, e4, fun j h1 h2 => ?_⟩)
          by_cases ej : j = s
          · rw [ej]; exact d
          · exact e5 j (by omega) h2
    · rw [if_neg (fun z => c z.2)]
      rcases m_mainf_cases m (s + 1) r with ⟨-, e⟩ | ⟨e, -⟩ | ⟨e, -⟩
      · exact Or.inl ⟨c, e⟩
      · exact absurd e c
      · exact absurd e c
/-- the component's look for main -/
def mainC (c0 : am_H) : Int := if ce_own c0 (c0 212 26) = -1 then -1 else ce_sub c0 (ce_own c0 (c0 212 26)) (c0 212 27)
def mainOK (c0 : am_H) : Prop := mainC c0 ≠ -1 ∧ c0 220 (mainC c0).toNat = 2 ∧ c0 221 (mainC c0).toNat = 0
theorem main_iff (F : FT b20 b21 V h c0 n0 n3) (Sy : SY b20 b21 sc ss cc cs h c0) (hN : ml_n K' P V sc ss h = []) :
    (mainOK c0 ↔ m_mainf V (c0 212 27) (c0 212 26) h (h 254 17).toNat 0 (-1) ≠ -1) ∧ (mainOK c0 → mainC c0 = (b21 : Int) + m_mainf V (c0 212 27) (c0 212 26) h (h 254 17).toNat 0 (-1)) := by
  have no : ∀ q, ¬ q ∈ ml_n K' P V sc ss h := fun q hq => by rw [hN] at hq; cases hq
  unfold ml_n at no
  obtain ⟨⟨f1, f2, f3, f4, f5, f6⟩, f7, f8⟩ := F
  obtain ⟨s1, s2, s3, s4, s5, -⟩ := Sy
  rw [f1, f2, Int.toNat_natCast, Int.toNat_natCast] at no
  have u1 : ∀ k, k < n0 → ∀ i, i < k → V (h 261 i).toNat ≠ V (h 261 k).toNat := by
    intro k hk i hi z
    refine no (3, P (h 261 k).toNat) (List.mem_append_left _ (List.mem_append_left _ ((nt_cs_mem n0 0).2 ⟨k, by omega, by omega, ?_⟩)))
    unfold nt_c
    rw [if_pos (Or.inr (fun e => ?_))]
    · exact List.mem_singleton_self _
    · rcases p_find_cases (fun k => V (h 261 k).toNat) (V (h 261 k).toNat) k 0 with ⟨-, b⟩ | ⟨j, b, -⟩
      · exact b i (by omega) (by omega) z
      · rw [b] at e; omega
  have u2 : ∀ k, k < n3 → ∀ i, i < k → ¬ (h 263 i = h 263 k ∧ V (h 265 i).toNat = V (h 265 k).toNat) := by
    intro k hk i hi z
    refine no (3, P (h 265 k).toNat) (List.mem_append_left _ (List.mem_append_right _ (List.mem_append_left _ ((nt_ss_mem n3 0).2 ⟨k, by omega, by omega, ?_⟩))))
    unfold nt_s
    rw [if_pos ((m_tws_iff k k false).2 (Or.inr ⟨i, hi, z⟩))]
    exact List.mem_append_left _ (List.mem_singleton_self _)
  have row : ∀ j, b20 ≤ j → j < b20 + n0 → c0 214 j = V (h 261 (j - b20)).toNat := fun j j1 j2 => by
    have := (f7 (j - b20) (by omega)).1
    rw [show b20 + (j - b20) = j by omega] at this
    exact this
  have rows : ∀ j (q : Int), 0 ≤ q → b21 ≤ j → j < b21 + n3 → ((c0 218 j = (b20 : Int) + q ∧ c0 219 j = c0 212 27) ↔ (h 263 (j - b21) = q ∧ V (h 265 (j - b21)).toNat = c0 212 27)) := by
    intro j q hq j1 j2
    obtain ⟨g1, g2, -⟩ := f8 (j - b21) (by omega)
    obtain ⟨r1, r2, -⟩ := g2
    rw [show b21 + (j - b21) = j by omega] at r1 r2
    rw [r1, r2]
    constructor
    · intro z; exact ⟨by omega, z.2⟩
    · intro z; exact ⟨by omega, z.2⟩
  have low : ∀ j (q : Int), 0 ≤ q → j < b21 → ¬ (c0 218 j = (b20 : Int) + q ∧ c0 219 j = c0 212 27) := fun j q hq hj e => by have := s5 j hj; omega
  -- a sub that is main is the one that is looked for
  have key : ∀ k, k < n3 → m_ism V (c0 212 27) (c0 212 26) h k → mainC c0 = (b21 : Int) + k ∧ mainOK c0 := by
    rintro k hk ⟨i1, i2, i3, i4⟩
    obtain ⟨⟨g0, g0'⟩, g1, g2⟩ := f8 k hk
    obtain ⟨q, hq⟩ : ∃ q : Nat, h 263 k = (q : Int) := ⟨(h 263 k).toNat, by omega⟩
    rw [hq, Int.toNat_natCast] at i4
    have eo : ce_own c0 (c0 212 26) = (b20 : Int) + q := by
      unfold ce_own
      rw [f3, f5, Int.toNat_natCast, show ((b20 : Int) + n0 - b20).toNat = n0 by omega]
      rw [p_find_some (c0 214) (c0 212 26) (b20 + q) n0 b20 (by omega) (by omega) (by rw [row (b20 + q) (by omega) (by omega), show b20 + q - b20 = q by omega]; exact i4) (fun i i1' i2' => by
        rw [row i i1' (by omega)]
        intro z
        exact u1 q (by omega) (i - b20) (by omega) (by rw [z, i4]))]
      omega
    have es : ce_sub c0 (ce_own c0 (c0 212 26)) (c0 212 27) = (b21 : Int) + k := by
      unfold ce_sub
      rw [eo, f4, show ((b21 : Int) + n3).toNat = b21 + n3 by omega]
      rw [p_find2_some (c0 218) (c0 219) ((b20 : Int) + q) (c0 212 27) (b21 + k) (b21 + n3) 0 (by omega) (by omega) ((rows (b21 + k) q (by omega) (by omega) (by omega)).2 (by rw [show b21 + k - b21 = k by omega]; exact ⟨hq, i3⟩)) (fun i _ i2' z => ?_)]
      · omega
      · by_cases c : i < b21
        · exact low i q (by omega) c z
        · have := (rows i q (by omega) (by omega) (by omega)).1 z
          exact u2 k hk (i - b21) (by omega) ⟨by rw [this.1, hq], by rw [this.2, i3]⟩
    have em : mainC c0 = (b21 : Int) + k := by unfold mainC; rw [if_neg (by rw [eo]; omega)]; exact es
    refine ⟨em, by rw [em]; omega, ?_, ?_⟩
    · rw [em, show ((b21 : Int) + (k : Int)).toNat = b21 + k by omega, g1.2.2.1]; exact i1
    · rw [em, show ((b21 : Int) + (k : Int)).toNat = b21 + k by omega, g2]; exact i2
  -- what is looked for is main
  have key2 : mainOK c0 → ∃ k, k < n3 ∧ m_ism V (c0 212 27) (c0 212 26) h k := by
    rintro ⟨w1, w2, w3⟩
    unfold mainC at w1 w2 w3
    by_cases d : ce_own c0 (c0 212 26) = -1
    · rw [if_pos d] at w1; exact absurd rfl w1
    · rw [if_neg d] at w1 w2 w3
      unfold ce_own at d w1 w2 w3
      rw [f3, f5, Int.toNat_natCast, show ((b20 : Int) + n0 - b20).toNat = n0 by omega] at d w1 w2 w3
      rcases p_find_cases (c0 214) (c0 212 26) n0 b20 with ⟨b, -⟩ | ⟨j, b, b1, b2, b3, b4⟩
      · exact absurd b d
      · rw [b] at w1 w2 w3
        obtain ⟨q, rfl⟩ : ∃ q, j = b20 + q := ⟨j - b20, by omega⟩
        rw [show ((b20 + q : Nat) : Int) = (b20 : Int) + (q : Int) by omega] at w1 w2 w3
        unfold ce_sub at w1 w2 w3
        rw [f4, show ((b21 : Int) + n3).toNat = b21 + n3 by omega] at w1 w2 w3
        rcases p_find2_cases (c0 218) (c0 219) ((b20 : Int) + q) (c0 212 27) (b21 + n3) 0 with ⟨a, -⟩ | ⟨i, a, a1, a2, a3, a4⟩
        · exact absurd a w1
        · rw [a, Int.toNat_natCast] at w2 w3
          by_cases ci : i < b21
          · exact (low i q (by omega) ci a3).elim
          · have r := (rows i q (by omega) (by omega) (by omega)).1 a3
            obtain ⟨g0, g1, g2⟩ := f8 (i - b21) (by omega)
            have r3 := g1.2.2.1
            rw [show b21 + (i - b21) = i by omega] at r3 g2
            refine ⟨i - b21, by omega, by rw [← r3]; exact w2, by rw [← g2]; exact w3, r.2, ?_⟩
            rw [r.1, Int.toNat_natCast]
            have := row (b20 + q) (by omega) (by omega)
            rw [show b20 + q - b20 = q by omega] at this
            rw [← this]; exact b3
  rw [f2, Int.toNat_natCast]
  rcases m_mainf_cases (V := V) (mn := c0 212 27) (mM := c0 212 26) (h := h) n3 0 (-1) with ⟨e, -⟩ | ⟨-, e1, e2⟩ | ⟨-, k, e1, e2, e3, e4, e5⟩
  · exact absurd rfl e
  · rw [e1]
    have nk : ¬ mainOK c0 := fun z => by
      obtain ⟨k, k1, k2⟩ := key2 z
      exact e2 k (by omega) (by omega) k2
    exact ⟨⟨fun z => absurd z nk, fun z => absurd rfl z⟩, fun z => absurd z nk⟩
  · rw [e1]
    obtain ⟨w1, w2⟩ := key k (by omega) e4
    exact ⟨⟨fun _ => by omega, fun _ => w2⟩, fun _ => w1⟩
end
section
variable {K V P : Nat → Int} {w : Bool} (d L : Nat)
/-- start(): the text's main is looked for -/
theorem cr_start {i st : Nat} {Z : Nat} {g0 g h : am_H} (N : pc_N K V P false w Z g0 i 0 st g h) (h20 : 0 ≤ g 212 20 ∧ g 212 20 ≤ g 213 3) : (mainOK g ∧ am_D (d + 2) 7 30 [am_r (am_a 212)] (zS L, h) = pV L h) ∨ (¬ mainOK g ∧ pc_thr L (am_D (d + 2) 7 30 [am_r (am_a 212)] (zS L, h)) (7, g 240 6) g) := by
  have R := N.1
  have ok := R.2.2.2.2.2.2.2.2.2
  have fr : ∀ a k, pc_ps.contains (a, k) = false → h a k = g a k := fun a k hc => R.1 a k rfl hc
  have fra : ∀ a, a ≠ 212 → h a = g a := fun a ha => by
    funext k
    refine fr a k ?_
    unfold pc_ps
    simp [ha]
  have eo : ce_own h (h 212 26) = ce_own g (g 212 26) := by
    unfold ce_own; rw [fra 213 (by decide), fra 214 (by decide), fr 212 20 rfl, fr 212 26 rfl]
  have es : ∀ o, ce_sub h o (h 212 27) = ce_sub g o (g 212 27) := fun o => by
    unfold ce_sub; rw [fra 217 (by decide), fra 218 (by decide), fra 219 (by decide), fr 212 27 rfl]
  have f := fun c p => pc_fail (d := d) (L := L) R c p
  obtain ⟨-, -, -, -, ok5, ok6, -⟩ := ok
  rw [D_7_30, fi_own d L _ (by rw [fra 213 (by decide)]; exact ok5) (by rw [fr 212 20 rfl, fra 213 (by decide)]; exact h20), p_xI, eo]
  have bad : ¬ mainOK g → pc_thr L (am_xV (zS L) (am_D (d + 1) 7 6 [am_r (am_a 212), am_i 7, am_i (h 240 6)] (zS L, h)) (am_up1 (zS L)) fun h1 => some (.inl none, (zS L, h1))) (7, g 240 6) g := by
    intro _
    have := f 7 (g 240 6)
    rw [fra 240 (by decide)]
    exact pc_thr_xV L this
  by_cases c1 : ce_own g (g 212 26) = -1
  · rw [if_pos c1, q_7_30_2, if_pos rfl]
    have nk : ¬ mainOK g := fun z => z.1 (by unfold mainC; rw [if_pos c1])
    exact Or.inr ⟨nk, bad nk⟩
  · rw [if_neg c1, fi_sub d L _ _ (by rw [fra 217 (by decide)]; exact ok6), p_xI, es, q_7_30_2]
    have em : mainC g = ce_sub g (ce_own g (g 212 26)) (g 212 27) := by unfold mainC; rw [if_neg c1]
    rw [← em]
    by_cases c2 : mainC g = -1
    · rw [if_pos c2]
      have nk : ¬ mainOK g := fun z => z.1 c2
      exact Or.inr ⟨nk, bad nk⟩
    · have rg : mainC g = -1 ∨ (0 ≤ mainC g ∧ mainC g < 130) := by
        rw [em]
        unfold ce_sub
        have := p_find2_rg (g 218) (g 219) (ce_own g (g 212 26)) (g 212 27) (g 217 5).toNat 0
        omega
      obtain ⟨k, hk⟩ : ∃ k : Nat, mainC g = (k : Int) := ⟨(mainC g).toNat, by omega⟩
      rw [if_neg c2, hk, p_idx (by omega) (by omega), fra 220 (by decide), Int.toNat_natCast]
      by_cases c3 : g 220 k = 2
      · rw [if_pos c3, p_idx (by omega) (by omega), fra 221 (by decide), Int.toNat_natCast]
        by_cases c4 : g 221 k = 0
        · rw [if_pos c4]
          exact Or.inl ⟨⟨c2, by rw [hk, Int.toNat_natCast]; exact c3, by rw [hk, Int.toNat_natCast]; exact c4⟩, rfl⟩
        · rw [if_neg c4]
          have nk : ¬ mainOK g := fun z => c4 (by have := z.2.2; rw [hk, Int.toNat_natCast] at this; exact this)
          exact Or.inr ⟨nk, bad nk⟩
      · rw [if_neg c3]
        have nk : ¬ mainOK g := fun z => c3 (by have := z.2.1; rw [hk, Int.toNat_natCast] at this; exact this)
        exact Or.inr ⟨nk, bad nk⟩
end
