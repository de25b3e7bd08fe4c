/-! PURE LAYER, 110: declarations, second reading: tables of variables -/
section
variable {K P V sc ss : Nat → Int} {cc cs : Nat → Nat} {b20 b21 b15 n0 n3 : Nat} {h c0 g g' : am_H} {p p' : pr_S} {n : Int}
theorem mi_dec_rows (x1 x2 x3 x4 x5 x6 : Int) (g : am_H) : mi_dec x1 x2 x3 x4 x5 x6 g 270 (g 254 25).toNat = g 254 14 - 1 ∧ mi_dec x1 x2 x3 x4 x5 x6 g 271 (g 254 25).toNat = x1 ∧ mi_dec x1 x2 x3 x4 x5 x6 g 272 (g 254 25).toNat = x2 ∧ mi_dec x1 x2 x3 x4 x5 x6 g 273 (g 254 25).toNat = x4 ∧ mi_dec x1 x2 x3 x4 x5 x6 g 274 (g 254 25).toNat = x3 ∧ mi_dec x1 x2 x3 x4 x5 x6 g 275 (g 254 25).toNat = x5 ∧ mi_dec x1 x2 x3 x4 x5 x6 g 276 (g 254 25).toNat = x6 ∧ mi_dec x1 x2 x3 x4 x5 x6 g 254 25 = g 254 25 + 1 := by
  unfold mi_dec
  refine ⟨?_, ?_, ?_, ?_, ?_, ?_, ?_, ?_⟩
  · rw [p_up_c _ _ _ _ _ (by decide), p_up_c _ _ _ _ _ (by decide), p_up_c _ _ _ _ _ (by decide), p_up_c _ _ _ _ _ (by decide), p_up_c _ _ _ _ _ (by decide), p_up_c _ _ _ _ _ (by decide), p_up_c _ _ _ _ _ (by decide)]; exact p_up_s _ _ _ _
  · rw [p_up_c _ _ _ _ _ (by decide), p_up_c _ _ _ _ _ (by decide), p_up_c _ _ _ _ _ (by decide), p_up_c _ _ _ _ _ (by decide), p_up_c _ _ _ _ _ (by decide), p_up_c _ _ _ _ _ (by decide)]; exact p_up_s _ _ _ _
  · rw [p_up_c _ _ _ _ _ (by decide), p_up_c _ _ _ _ _ (by decide), p_up_c _ _ _ _ _ (by decide), p_up_c _ _ _ _ _ (by decide), p_up_c _ _ _ _ _ (by decide)]; exact p_up_s _ _ _ _
  · rw [p_up_c _ _ _ _ _ (by decide), p_up_c _ _ _ _ _ (by decide), p_up_c _ _ _ _ _ (by decide), p_up_c _ _ _ _ _ (by decide)]; exact p_up_s _ _ _ _
  · rw [p_up_c _ _ _ _ _ (by decide), p_up_c _ _ _ _ _ (by decide), p_up_c _ _ _ _ _ (by decide)]; exact p_up_s _ _ _ _
  · rw [p_up_c _ _ _ _ _ (by decide), p_up_c _ _ _ _ _ (by decide)]; exact p_up_s _ _ _ _
  · rw [p_up_c _ _ _ _ _ (by decide)]; exact p_up_s _ _ _ _
  · exact p_up_s _ _ _ _
/-- a variable's row in the end -/
def hrow (h : am_H) (N : Nat) (own sub sort name ty number slot : Int) : Prop := h 270 N = own ∧ h 271 N = sub ∧ h 272 N = sort ∧ h 273 N = name ∧ h 274 N = ty ∧ h 275 N = number ∧ h 276 N = slot
theorem hrow_of {x1 x2 x3 x4 x5 x6 : Int} (h25 : 0 ≤ g 254 25) (hg : ∀ a, 270 ≤ a → a ≤ 276 → g' a = mi_dec x1 x2 x3 x4 x5 x6 g a) (hc : g' 254 25 = g 254 25 + 1) (M : mx g' h) : hrow h (g 254 25).toNat (g 254 14 - 1) x1 x2 x4 x3 x5 x6 := by
  obtain ⟨r1, r2, r3, r4, r5, r6, r7, -⟩ := mi_dec_rows x1 x2 x3 x4 x5 x6 g
  have lt : ((g 254 25).toNat : Int) < g' 254 25 := by omega
  refine ⟨?_, ?_, ?_, ?_, ?_, ?_, ?_⟩
  · rw [M.2 270 25 rfl _ lt, hg 270 (by omega) (by omega)]; exact r1
  · rw [M.2 271 25 rfl _ lt, hg 271 (by omega) (by omega)]; exact r2
  · rw [M.2 272 25 rfl _ lt, hg 272 (by omega) (by omega)]; exact r3
  · rw [M.2 273 25 rfl _ lt, hg 273 (by omega) (by omega)]; exact r4
  · rw [M.2 274 25 rfl _ lt, hg 274 (by omega) (by omega)]; exact r5
  · rw [M.2 275 25 rfl _ lt, hg 275 (by omega) (by omega)]; exact r6
  · rw [M.2 276 25 rfl _ lt, hg 276 (by omega) (by omega)]; exact r7
/-- one more variable of a class -/
theorem r2c.add (C : r2c K V sc cc b20 b15 h p n g) (h12 : p.1 12 = 1) (h9 : p.1 9 = 2) {N : Nat} (hn : n = (N : Int)) (r1 : h 271 N = -1) (r2 : h 270 N = (p.1 0 : Int) - 1) (r3 : h 272 N = 0 ∨ h 272 N = 1) (g5 : g' 223 5 = g 223 5 + 1) (gr : ∀ a, 224 ≤ a → a ≤ 228 → ∀ j, j ≠ (g 223 5).toNat → g' a j = g a j) (new : vrow K V sc cc b20 b15 h g' 224 (g 223 5).toNat N) (a12 : p'.1 12 = 1) (a0 : p'.1 0 = p.1 0) (a12' : p'.1 1 + p'.1 2 = p.1 1 + p.1 2 + 1) : r2c K V sc cc b20 b15 h p' (n + 1) g' := by
  unfold r2c at C ⊢
  rw [if_pos h12] at C
  rw [if_pos a12]
  obtain ⟨vc0, nc, c1, c2, c3, c4, c5, c6, c7⟩ := C
  have c4 := c4 h9
  rw [c1, Int.toNat_natCast] at gr new
  refine ⟨vc0, nc + 1, by rw [g5, c1]; rfl, by omega, by omega, fun _ => by omega, fun v hv => ?_, fun j hj => ?_, fun j hj => ?_⟩
  · rw [a0]
    by_cases e : v = N
    · subst e; exact ⟨fun _ => by omega, fun _ => ⟨r1, r2⟩⟩
    · have := c5 v (by omega)
      rw [this]; omega
  · by_cases e : j = nc
    · subst e; rw [show vc0 + j = N by omega]; exact new
    · have := c6 j (by omega)
      unfold vrow at this ⊢
      rw [gr 224 (by omega) (by omega) j e, gr (224 + 1) (by omega) (by omega) j e, gr (224 + 2) (by omega) (by omega) j e, gr (224 + 3) (by omega) (by omega) j e, gr (224 + 4) (by omega) (by omega) j e]
      exact this
  · by_cases e : j = nc
    · subst e; rw [show vc0 + j = N by omega]; exact r3
    · exact c7 j (by omega)
/-- a name that a class has already -/
theorem r2c.dup (C : r2c K V sc cc b20 b15 h p n g) (h12 : p.1 12 = 1) {N : Nat} (hn : n = (N : Int)) (r1 : h 271 N = -1) (r2 : h 270 N = (p.1 0 : Int) - 1) {x : Int} (r4 : h 273 N = x) : ce_vc g (V x.toNat) = -1 ↔ ¬ m_twv V h N N 0 false = true := by
  unfold r2c at C
  rw [if_pos h12] at C
  obtain ⟨vc0, nc, c1, c2, c3, c4, c5, c6, c7⟩ := C
  unfold ce_vc
  rw [c1, Int.toNat_natCast, m_twv_iff]
  constructor
  · rintro e (z | ⟨j, j1, j2, j3, j4, j5⟩)
    · cases z
    · rw [r1] at j3
      rw [r2] at j4
      rw [r4] at j5
      have := (c5 j (by omega)).1 ⟨j3, j4⟩
      rcases p_find_cases (g 224) (V x.toNat) nc 0 with ⟨-, b⟩ | ⟨i, b, -⟩
      · refine b (j - vc0) (by omega) (by omega) ?_
        rw [(c6 (j - vc0) (by omega)).1, show vc0 + (j - vc0) = j by omega]; exact j5
      · rw [b] at e; omega
  · intro e
    refine p_find_none _ _ _ _ (fun j _ j2 z => e (Or.inr ⟨vc0 + j, by omega, by omega, ?_, ?_, ?_⟩))
    · rw [r1]; exact ((c5 (vc0 + j) (by omega)).2 ⟨by omega, by omega⟩).1
    · rw [r2]; exact ((c5 (vc0 + j) (by omega)).2 ⟨by omega, by omega⟩).2
    · rw [r4, ← (c6 j (by omega)).1]; exact z
/-- one more variable of a sub -/
theorem r2s.add (C : r2s K V sc cc b20 b15 h p n g) (h13 : p.1 13 = 1) {N : Nat} (hn : n = (N : Int)) (r1 : h 271 N = (p.1 3 : Int) - 1) (r2 : h 270 N = (p.1 0 : Int) - 1) (r3 : h 272 N = 2 ∨ h 272 N = 3) (g5 : g' 229 5 = g 229 5 + 1) (gr : ∀ a, 230 ≤ a → a ≤ 234 → ∀ j, j ≠ (g 229 5).toNat → g' a j = g a j) (new : vrow K V sc cc b20 b15 h g' 230 (g 229 5).toNat N) (a13 : p'.1 13 = 1) (a0 : p'.1 0 = p.1 0) (a3 : p'.1 3 = p.1 3) (a45 : p'.1 4 + p'.1 5 = p.1 4 + p.1 5 + 1) : r2s K V sc cc b20 b15 h p' (n + 1) g' := by
  unfold r2s at C ⊢
  rw [if_pos h13] at C
  rw [if_pos a13]
  obtain ⟨vs0, ns, c1, c2, c3, c5, c6, c7, c8⟩ := C
  rw [c1, Int.toNat_natCast] at gr new
  refine ⟨vs0, ns + 1, by rw [g5, c1]; rfl, by omega, by omega, fun v hv => ?_, fun j hj => ?_, fun j hj => ?_, fun j hj => ?_⟩
  · rw [a3]
    by_cases e : v = N
    · subst e; exact ⟨fun _ => by omega, fun _ => r1⟩
    · have := c5 v (by omega)
      rw [this]; omega
  · by_cases e : j = ns
    · subst e; rw [show vs0 + j = N by omega]; exact new
    · have := c6 j (by omega)
      unfold vrow at this ⊢
      rw [gr 230 (by omega) (by omega) j e, gr (230 + 1) (by omega) (by omega) j e, gr (230 + 2) (by omega) (by omega) j e, gr (230 + 3) (by omega) (by omega) j e, gr (230 + 4) (by omega) (by omega) j e]
      exact this
  · by_cases e : j = ns
    · subst e; rw [show vs0 + j = N by omega]; exact r3
    · exact c7 j (by omega)
  · rw [a0]
    by_cases e : j = ns
    · subst e; rw [show vs0 + j = N by omega]; exact r2
    · exact c8 j (by omega)
theorem r2s.dup (C : r2s K V sc cc b20 b15 h p n g) (h13 : p.1 13 = 1) {N : Nat} (hn : n = (N : Int)) (r1 : h 271 N = (p.1 3 : Int) - 1) (r2 : h 270 N = (p.1 0 : Int) - 1) {x : Int} (r4 : h 273 N = x) : ce_vs g (V x.toNat) = -1 ↔ ¬ m_twv V h N N 0 false = true := by
  unfold r2s at C
  rw [if_pos h13] at C
  obtain ⟨vs0, ns, c1, c2, c3, c5, c6, c7, c8⟩ := C
  unfold ce_vs
  rw [c1, Int.toNat_natCast, m_twv_iff]
  constructor
  · rintro e (z | ⟨j, j1, j2, j3, j4, j5⟩)
    · cases z
    · rw [r1] at j3
      rw [r4] at j5
      have := (c5 j (by omega)).1 j3
      rcases p_find_cases (g 230) (V x.toNat) ns 0 with ⟨-, b⟩ | ⟨i, b, -⟩
      · refine b (j - vs0) (by omega) (by omega) ?_
        rw [(c6 (j - vs0) (by omega)).1, show vs0 + (j - vs0) = j by omega]; exact j5
      · rw [b] at e; omega
  · intro e
    refine p_find_none _ _ _ _ (fun j _ j2 z => e (Or.inr ⟨vs0 + j, by omega, by omega, ?_, ?_, ?_⟩))
    · rw [r1]; exact (c5 (vs0 + j) (by omega)).2 ⟨by omega, by omega⟩
    · rw [r2]; exact c8 j (by omega)
    · rw [r4, ← (c6 j (by omega)).1]; exact z
/-- a class whose name stands there already -/
theorem cls_dup (F : FT b20 b21 V h c0 n0 n3) (Sy : SY b20 b21 sc ss cc cs h c0) {k : Nat} (hk : k < n0) : (ce_cls c0 (V (h 261 k).toNat) = (b20 : Int) + k ∨ (ce_hid c0 (V (h 261 k).toNat) ∧ ce_own c0 (V (h 261 k).toNat) = (b20 : Int) + k)) ↔ nt_c P V sc h k = [] := by
  obtain ⟨⟨f1, f2, f3, f4, f5, f6⟩, f7, f8⟩ := F
  obtain ⟨s1, s2, s3, -⟩ := Sy
  have row : ∀ j, b20 ≤ j → j < b20 + n0 → c0 214 j = V (h 261 (j - b20)).toNat := fun j j1 j2 => by
    have := (f7 (j - b20) (by omega)).1
    rw [show b20 + (j - b20) = j by omega] at this
    exact this
  have nt : nt_c P V sc h k = [] ↔ (p_find sc (V (h 261 k).toNat) 8 0 = -1 ∧ ∀ i, i < k → V (h 261 i).toNat ≠ V (h 261 k).toNat) := by
    unfold nt_c m_sc
    constructor
    · intro e
      by_cases d1 : p_find sc (V (h 261 k).toNat) 8 0 = -1
      · refine ⟨d1, fun i hi z => ?_⟩
        rw [if_pos (Or.inr (fun d2 => ?_))] at e
        · cases e
        · rcases p_find_cases (fun k => V (h 261 k).toNat) (V (h 261 k).toNat) k 0 with ⟨-, b⟩ | ⟨j, b, -⟩
          · exact b i (by omega) (by omega) z
          · rw [b] at d2; omega
      · rw [if_pos (Or.inl d1)] at e; cases e
    · rintro ⟨d1, d2⟩
      rw [if_neg]
      rintro (z | z)
      · exact z d1
      · exact z (p_find_none _ _ _ _ (fun j _ j2 => d2 j (by omega)))
  rw [nt]
  have own : ce_own c0 (V (h 261 k).toNat) = (b20 : Int) + k ↔ ∀ i, i < k → V (h 261 i).toNat ≠ V (h 261 k).toNat := by
    unfold ce_own
    rw [f3, f5, Int.toNat_natCast, show ((b20 : Int) + n0 - b20).toNat = n0 by omega]
    constructor
    · intro e i hi z
      rcases p_find_cases (c0 214) (V (h 261 k).toNat) n0 b20 with ⟨b, -⟩ | ⟨j, b, b1, b2, b3, b4⟩
      · rw [b] at e; omega
      · rw [b] at e
        refine b4 (b20 + i) (by omega) (by omega) ?_
        rw [row (b20 + i) (by omega) (by omega), show b20 + i - b20 = i by omega]; exact z
    · intro e
      rw [p_find_some (c0 214) (V (h 261 k).toNat) (b20 + k) n0 b20 (by omega) (by omega) (by rw [row (b20 + k) (by omega) (by omega), show b20 + k - b20 = k by omega]) (fun i i1 i2 => by
        rw [row i i1 (by omega)]; exact e (i - b20) (by omega))]
      omega
  have cls : ce_cls c0 (V (h 261 k).toNat) = (b20 : Int) + k ↔ (∀ i, i < b20 → c0 214 i ≠ V (h 261 k).toNat) ∧ ∀ i, i < k → V (h 261 i).toNat ≠ V (h 261 k).toNat := by
    unfold ce_cls
    rw [f3, show ((b20 : Int) + n0).toNat = b20 + n0 by omega]
    constructor
    · intro e
      rcases p_find_cases (c0 214) (V (h 261 k).toNat) (b20 + n0) 0 with ⟨b, -⟩ | ⟨j, b, b1, b2, b3, b4⟩
      · rw [b] at e; omega
      · rw [b] at e
        refine ⟨fun i hi => b4 i (by omega) (by omega), fun i hi z => b4 (b20 + i) (by omega) (by omega) ?_⟩
        rw [row (b20 + i) (by omega) (by omega), show b20 + i - b20 = i by omega]; exact z
    · rintro ⟨e1, e2⟩
      rw [p_find_some (c0 214) (V (h 261 k).toNat) (b20 + k) (b20 + n0) 0 (by omega) (by omega) (by rw [row (b20 + k) (by omega) (by omega), show b20 + k - b20 = k by omega]) (fun i i1 i2 => by
        by_cases c : i < b20
        · exact e1 i c
        · rw [row i (by omega) (by omega)]; exact e2 (i - b20) (by omega))]
      omega
  rw [cls, own]
  by_cases hd : ce_hid c0 (V (h 261 k).toNat)
  · have n1 : p_find sc (V (h 261 k).toNat) 8 0 = -1 := p_find_none _ _ _ _ (fun q _ q2 e => (s1 q (by omega)).2.2 (by rw [e]; exact hd))
    constructor
    · rintro (z | z)
      · exact ⟨n1, z.2⟩
      · exact ⟨n1, z.2⟩
    · intro z; exact Or.inr ⟨hd, z.2⟩
  · have n1 : p_find sc (V (h 261 k).toNat) 8 0 = -1 ↔ ∀ i, i < b20 → c0 214 i ≠ V (h 261 k).toNat := by
      constructor
      · intro e i hi z
        obtain ⟨q, q1, q2⟩ := s2 i hi (by rw [z]; exact hd)
        rcases p_find_cases sc (V (h 261 k).toNat) 8 0 with ⟨-, b⟩ | ⟨j, b, -⟩
        · refine b q (by omega) (by omega) ?_
          rw [← (s1 q q1).2.1, ← q2]; exact z
        · rw [b] at e; omega
      · intro e
        refine p_find_none _ _ _ _ (fun q _ q2 z => e (cc q) (s1 q (by omega)).1 ?_)
        rw [(s1 q (by omega)).2.1]; exact z
    rw [n1]
    constructor
    · rintro (z | z)
      · exact z
      · exact absurd z.1 hd
    · intro z; exact Or.inl z
/-- a sub whose name stands there already -/
theorem sub_dup (F : FT b20 b21 V h c0 n0 n3) (Sy : SY b20 b21 sc ss cc cs h c0) {k : Nat} (hk : k < n3) : ce_sub c0 ((b20 : Int) + h 263 k) (V (h 265 k).toNat) = (b21 : Int) + k ↔ ¬ m_tws V h k k false = true := by
  obtain ⟨⟨f1, f2, f3, f4, f5, f6⟩, f7, f8⟩ := F
  obtain ⟨s1, s2, s3, s4, s5, -⟩ := Sy
  have h0 := (f8 k hk).1.1
  rw [m_tws_iff]
  unfold ce_sub
  rw [f4, show ((b21 : Int) + n3).toNat = b21 + n3 by omega]
  have row : ∀ j, b21 ≤ j → j < b21 + n3 → ((c0 218 j = (b20 : Int) + h 263 k ∧ c0 219 j = V (h 265 k).toNat) ↔ (h 263 (j - b21) = h 263 k ∧ V (h 265 (j - b21)).toNat = V (h 265 k).toNat)) := by
    intro j j1 j2
    obtain ⟨g1, g2, -⟩ := f8 (j - b21) (by omega)
    obtain ⟨r1, r2, -⟩ := g2
    rw [show b21 + (j - b21) = j by omega] at r1 r2
    rw [r1, r2]
    constructor
    · intro z; exact ⟨by omega, z.2⟩
    · intro z; exact ⟨by omega, z.2⟩
  have low : ∀ j, j < b21 → ¬ (c0 218 j = (b20 : Int) + h 263 k ∧ c0 219 j = V (h 265 k).toNat) := fun j hj e => by have := s5 j hj; omega
  constructor
  · rintro e (z | ⟨i, i1, i2, i3⟩)
    · cases z
    · rcases p_find2_cases (c0 218) (c0 219) ((b20 : Int) + h 263 k) (V (h 265 k).toNat) (b21 + n3) 0 with ⟨b, -⟩ | ⟨j, b, b1, b2, b3, b4⟩
      · rw [b] at e; omega
      · rw [b] at e
        refine b4 (b21 + i) (by omega) (by omega) ((row (b21 + i) (by omega) (by omega)).2 ?_)
        rw [show b21 + i - b21 = i by omega]; exact ⟨i2, i3⟩
  · intro e
    rw [p_find2_some (c0 218) (c0 219) ((b20 : Int) + h 263 k) (V (h 265 k).toNat) (b21 + k) (b21 + n3) 0 (by omega) (by omega) ((row (b21 + k) (by omega) (by omega)).2 (by rw [show b21 + k - b21 = k by omega]; exact ⟨rfl, rfl⟩)) (fun i _ i2 z => ?_)]
    · omega
    · by_cases c : i < b21
      · exact low i c z
      · have := (row i (by omega) (by omega)).1 z
        exact e (Or.inr ⟨i - b21, by omega, this.1, this.2⟩)
/-- how many there are -/
def pBd (p : pr_S) : Prop := (p.1 1 ≤ 12 ∧ p.1 2 ≤ 12) ∧ p.1 4 ≤ 12 ∧ p.1 5 ≤ 12
theorem pBd_ev {w : Nat → Nat → Nat} {e : gx_V} (h1 : pr w K V e p = .inr p') (B : pBd p) : pBd p' := by
  unfold pBd at *
  by_cases he : e.1 ≤ 34
  · have z := pz_ev he h1
    rw [z 1 (by decide), z 2 (by decide), z 4 (by decide), z 5 (by decide)]; exact B
  obtain ⟨n, x, y, z⟩ := e
  dsimp only at he
  unfold pr at h1
  split at h1
  all_goals first
    | (cases h1; done)
    | (rename_i hn; have hn : n = _ := hn; subst hn; exfalso; revert he; decide)
    | (rename_i hn; have hn : n = _ := hn; subst hn)
    | skip
  all_goals (obtain ⟨hc, -, hp⟩ := pr_q_in h1; rw [hp])
  all_goals first
    | (exact B)
    | (exact ⟨⟨B.1.1, Nat.zero_le _⟩, B.2.1, B.2.2⟩)
    | (exact ⟨B.1, Nat.zero_le _, Nat.zero_le _⟩)
    | (have c := hc.2.1; exact ⟨B.1, by show p.1 4 + 1 ≤ 12; omega, B.2.2⟩)
    | (have c := hc.2.1; exact ⟨B.1, B.2.1, by show p.1 5 + 1 ≤ 12; omega⟩)
    | skip
  rcases hc.2.2.1 with ⟨hy, hlt⟩ | ⟨hy, hlt⟩
  · have hy : y = 1 := hy
    subst hy
    exact ⟨⟨B.1.1, by show p.1 2 + 1 ≤ 12; omega⟩, B.2.1, B.2.2⟩
  · have hy : y = 0 := hy
    subst hy
    exact ⟨⟨by show p.1 1 + 1 ≤ 12; omega, B.1.2⟩, B.2.1, B.2.2⟩
end
