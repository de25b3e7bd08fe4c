/-! CHIPS, 6: the component reads chips: small steps -/
/-- what is thrown -/
abbrev kT (L : Nat) (h : am_H) : Option am_O := some (.inr 52, (zS L, h))
/-- what a chip's reading changes: its cells, the place, the fault -/
def kf (b : Nat) (h h' : am_H) : Prop := (∀ c k, (c < b ∨ b + 6 < c) → c ≠ 36 → h' c k = h c k) ∧ ∀ k, k ≠ 5 → h' 36 k = h 36 k
theorem kf.refl (b : Nat) (h : am_H) : kf b h h := ⟨fun _ _ _ _ => rfl, fun _ _ => rfl⟩
theorem kf.trans {b : Nat} {h1 h2 h3 : am_H} (f : kf b h1 h2) (g : kf b h2 h3) : kf b h1 h3 := ⟨fun c k hc h36 => (g.1 c k hc h36).trans (f.1 c k hc h36), fun k k1 => (g.2 k k1).trans (f.2 k k1)⟩
theorem kf.upc {b : Nat} {h h' : am_H} (f : kf b h h') {c k : Nat} {v : Int} (hc : b ≤ c ∧ c ≤ b + 6) (hb : 36 < b) : kf b h (am_up h' c k v) := ⟨fun c' k' h1 h2 => by rw [p_up_c _ _ _ _ _ (by omega)]; exact f.1 c' k' h1 h2, fun k' k1 => by rw [p_up_c _ _ _ _ _ (by omega)]; exact f.2 k' k1⟩
theorem kf.up36 {b : Nat} {h h' : am_H} (f : kf b h h') {k : Nat} {v : Int} (hk : k = 5) : kf b h (am_up h' 36 k v) := ⟨fun c' k' h1 h2 => by rw [p_up_c _ _ _ _ _ h2]; exact f.1 c' k' h1 h2, fun k' k1 => by rw [p_up_n _ _ _ _ _ _ (Or.inr (by omega))]; exact f.2 k' k1⟩
def kg (b : Nat) (h h' : am_H) : Prop := (∀ c k, (c < b ∨ b + 6 < c) → c ≠ 36 → h' c k = h c k) ∧ ∀ k, k ≠ 5 → k ≠ 7 → k ≠ 8 → h' 36 k = h 36 k
theorem kg.refl (b : Nat) (h : am_H) : kg b h h := ⟨fun _ _ _ _ => rfl, fun _ _ _ _ => rfl⟩
theorem kg.trans {b : Nat} {h1 h2 h3 : am_H} (f : kg b h1 h2) (g : kg b h2 h3) : kg b h1 h3 := ⟨fun c k hc h36 => (g.1 c k hc h36).trans (f.1 c k hc h36), fun k k1 k2 k3 => (g.2 k k1 k2 k3).trans (f.2 k k1 k2 k3)⟩
theorem kg.upc {b : Nat} {h h' : am_H} (f : kg b h h') {c k : Nat} {v : Int} (hc : b ≤ c ∧ c ≤ b + 6) (hb : 36 < b) : kg b h (am_up h' c k v) := ⟨fun c' k' h1 h2 => by rw [p_up_c _ _ _ _ _ (by omega)]; exact f.1 c' k' h1 h2, fun k' k1 k2 k3 => by rw [p_up_c _ _ _ _ _ (by omega)]; exact f.2 k' k1 k2 k3⟩
theorem kg.up36 {b : Nat} {h h' : am_H} (f : kg b h h') {k : Nat} {v : Int} (hk : k = 5 ∨ k = 7 ∨ k = 8) : kg b h (am_up h' 36 k v) := ⟨fun c' k' h1 h2 => by rw [p_up_c _ _ _ _ _ h2]; exact f.1 c' k' h1 h2, fun k' k1 k2 k3 => by rw [p_up_n _ _ _ _ _ _ (Or.inr (by omega))]; exact f.2 k' k1 k2 k3⟩
theorem kf.g {b : Nat} {h h' : am_H} (f : kf b h h') : kg b h h' := ⟨f.1, fun k k1 _ _ => f.2 k k1⟩
theorem kf.cell {b : Nat} {h h' : am_H} (f : kf b h h') {c : Nat} (hc : c < b ∨ b + 6 < c) (h36 : c ≠ 36) : h' c = h c := funext fun k => f.1 c k hc h36
/-- the component's tokens -/
def kR (K V P : Nat → Int) (Z : Nat) (h : am_H) : Prop := cT K Z ∧ ∀ i, i ≤ Z → (K i ≠ 7 → h 78 i = K i) ∧ (K i = 7 → 1 ≤ h 78 i ∧ h 78 i ≤ 4) ∧ h 79 i = V i ∧ h 80 i = P i
theorem kR.fr {K V P : Nat → Int} {Z : Nat} {h h' : am_H} (R : kR K V P Z h) (e1 : h' 78 = h 78) (e2 : h' 79 = h 79) (e3 : h' 80 = h 80) : kR K V P Z h' := by
  unfold kR; rw [e1, e2, e3]; exact R
theorem kR.kf {K V P : Nat → Int} {Z b : Nat} {h h' : am_H} (R : kR K V P Z h) (f : kf b h h') (hb : 83 ≤ b) : kR K V P Z h' := R.fr (f.cell (by omega) (by decide)) (f.cell (by omega) (by decide)) (f.cell (by omega) (by decide))
/-- where the component's reading stands -/
def kN (K V P : Nat → Int) (Z i : Nat) (h : am_H) : Prop := kR K V P Z h ∧ h 36 5 = (i : Int) ∧ i ≤ Z ∧ K i ≠ 7
def kB (P : Nat → Int) (b : Nat) (g : am_H) (e : cF) (h : am_H) : Prop := h 36 7 = e.1 ∧ h 36 8 = P e.2 ∧ kg b g h
section
variable {d L : Nat} {K V P : Nat → Int} {Z i b : Nat} {g h : am_H}
theorem kT_V (k : am_H → Option am_O) : am_xV (zS L) (kT L h) (am_up1 (zS L)) k = kT L h := by
  show (if zS L = zS L then _ else _) = _
  rw [if_pos rfl]; rfl
theorem kT_I (k : Int → am_H → Option am_O) : am_xI (zS L) (kT L h) (am_up1 (zS L)) k = kT L h := by
  show (if zS L = zS L then _ else _) = _
  rw [if_pos rfl]; rfl
theorem kN.ub (N : kN K V P Z i h) : i ≤ 2000 := by have := N.1.1.1; have := N.2.2.1; omega
theorem kx_kind (N : kN K V P Z i h) : am_D (d + 1) 4 2 [am_r (am_a 36)] (zS L, h) = pI L (K i) h := by
  have := N.ub
  rw [D_4_2, N.2.1, p_idx (by omega) (by omega), Int.toNat_natCast, (N.1.2 i N.2.2.1).1 N.2.2.2]
theorem kx_val (N : kN K V P Z i h) : am_D (d + 1) 4 3 [am_r (am_a 36)] (zS L, h) = pI L (V i) h := by
  have := N.ub
  rw [D_4_3, N.2.1, p_idx (by omega) (by omega), Int.toNat_natCast, (N.1.2 i N.2.2.1).2.2.1]
theorem kx_here (N : kN K V P Z i h) : am_D (d + 1) 4 4 [am_r (am_a 36)] (zS L, h) = pI L (P i) h := by
  have := N.ub
  rw [D_4_4, N.2.1, p_idx (by omega) (by omega), Int.toNat_natCast, (N.1.2 i N.2.2.1).2.2.2]
theorem kx_fail (f : kf b g h) (c : Int) (j : Nat) : ∃ h', am_D (d + 1) 4 5 [am_r (am_a 36), am_i c, am_i (P j)] (zS L, h) = kT L h' ∧ kB P b g (c, j) h' := by
  refine ⟨_, by rw [D_4_5], ?_, ?_, (f.g.up36 (by omega)).up36 (by omega)⟩
  · rw [p_up_n _ _ _ _ _ _ (Or.inr (by decide)), p_up_s]
  · rw [p_up_s]
/-- a check, by a place of the tokens -/
theorem kx_check (f : kf b g h) (x c : Int) (j : Nat) : (x = 0 ∧ ∃ h', am_D (d + 2) 4 6 [am_r (am_a 36), am_i x, am_i c, am_i (P j)] (zS L, h) = kT L h' ∧ kB P b g (c, j) h') ∨ (x ≠ 0 ∧ am_D (d + 2) 4 6 [am_r (am_a 36), am_i x, am_i c, am_i (P j)] (zS L, h) = pV L h) := by
  rw [D_4_6]
  by_cases z : x = 0
  · left
    obtain ⟨h', r1, r2⟩ := kx_fail (d := d) (L := L) (P := P) f c j
    exact ⟨z, h', by rw [if_pos z, r1, kT_V], r2⟩
  · right
    exact ⟨z, by rw [if_neg z]⟩
theorem csx_1 (N : kN K V P Z i h) : csx K i = (1, i) := by unfold csx; rw [if_neg N.2.2.2]
theorem kx_need (N : kN K V P Z i h) (f : kf b g h) (x : Int) : (x = 0 ∧ ∃ h', am_D (d + 3) 4 7 [am_r (am_a 36), am_i x] (zS L, h) = kT L h' ∧ kB P b g (csx K i) h') ∨ (x ≠ 0 ∧ am_D (d + 3) 4 7 [am_r (am_a 36), am_i x] (zS L, h) = pV L h) := by
  rw [D_4_7, kx_here N, p_xI, csx_1 N]
  rcases kx_check (d := d) (L := L) (P := P) f x 1 i with ⟨z, h', r1, r2⟩ | ⟨z, r1⟩
  · exact Or.inl ⟨z, h', by rw [r1, kT_V], r2⟩
  · exact Or.inr ⟨z, by rw [r1, p_xV]⟩
theorem kx_isSign (N : kN K V P Z i h) (c : Int) : am_D (d + 2) 4 8 [am_r (am_a 36), am_i c] (zS L, h) = pI L (pB (cSg K V c i)) h := by
  rw [D_4_8, kx_kind N, p_xI]
  by_cases c1 : K i = 4
  · rw [if_pos c1, kx_val N, p_xI]
    by_cases c2 : V i = c
    · rw [if_pos c2, p_bit1, pB_t ⟨c1, c2⟩]
    · rw [if_neg c2, p_bit0, pB_f (fun z => c2 z.2)]
  · rw [if_neg c1, p_bit0, pB_f (fun z => c1 z.1)]
theorem kx_isWord (N : kN K V P Z i h) (c : Int) : am_D (d + 2) 4 9 [am_r (am_a 36), am_i c] (zS L, h) = pI L (pB (cWd K V c i)) h := by
  rw [D_4_9, kx_kind N, p_xI]
  by_cases c1 : K i = 1
  · rw [if_pos c1, kx_val N, p_xI]
    by_cases c2 : V i = c
    · rw [if_pos c2, p_bit1, pB_t ⟨c1, c2⟩]
    · rw [if_neg c2, p_bit0, pB_f (fun z => c2 z.2)]
  · rw [if_neg c1, p_bit0, pB_f (fun z => c1 z.1)]
theorem kN.mv (N : kN K V P Z i h) {j : Nat} (hj : j ≤ Z) (h7 : K j ≠ 7) : kN K V P Z j (am_up h 36 5 (j : Int)) := ⟨N.1.fr (p_up_c _ _ _ _ _ (by decide)) (p_up_c _ _ _ _ _ (by decide)) (p_up_c _ _ _ _ _ (by decide)), p_up_s _ _ _ _, hj, h7⟩
/-- one token further -/
theorem kx_next (N : kN K V P Z i h) (f : kf b g h) (hK : 1 ≤ K i ∧ K i ≤ 4) : (stkx K (i + 1) ∧ ∃ h', am_D (d + 2) 4 10 [am_r (am_a 36)] (zS L, h) = kT L h' ∧ kB P b g (csx K (i + 1)) h') ∨ (∃ h1, h1 = am_up h 36 5 ((i + 1 : Nat) : Int) ∧ am_D (d + 2) 4 10 [am_r (am_a 36)] (zS L, h) = pV L h1 ∧ kN K V P Z (i + 1) h1 ∧ kf b g h1) := by
  have T := N.1.1
  have lt := T.lt N.2.2.1 hK
  have hz := T.1
  have f1 : kf b g (am_up h 36 5 ((i + 1 : Nat) : Int)) := f.up36 (by omega)
  rw [D_4_10, N.2.1, p_w (by omega) (by omega)]
  have ee : ((i : Int) + 1) = ((i + 1 : Nat) : Int) := by omega
  rw [ee]
  by_cases c : i + 1 < 2000
  · right
    have h7 : K (i + 1) ≠ 7 := by
      intro z
      by_cases y : i + 1 = Z
      · rcases T.2.2.2 with w | w
        · omega
        · rw [← y] at w; exact w z
      · have := T.2.2.1 (i + 1) (by omega)
        omega
    exact ⟨_, rfl, by rw [if_pos (by omega)], N.mv (by omega) h7, f1⟩
  · have e2 : i + 1 = 2000 := by omega
    have hZ : Z = 2000 := by omega
    have R : kR K V P Z (am_up h 36 5 ((i + 1 : Nat) : Int)) := N.1.fr (p_up_c _ _ _ _ _ (by decide)) (p_up_c _ _ _ _ _ (by decide)) (p_up_c _ _ _ _ _ (by decide))
    obtain ⟨k1, k2, k3, k4⟩ := R.2 (i + 1) (by omega)
    have kd : ∀ d, am_D (d + 1) 4 2 [am_r (am_a 36)] (zS L, am_up h 36 5 ((i + 1 : Nat) : Int)) = pI L (am_up h 36 5 ((i + 1 : Nat) : Int) 78 (i + 1)) (am_up h 36 5 ((i + 1 : Nat) : Int)) := fun d => by
      rw [D_4_2, p_up_s, p_idx (by omega) (by omega), Int.toNat_natCast]
    have hr : ∀ d, am_D (d + 1) 4 4 [am_r (am_a 36)] (zS L, am_up h 36 5 ((i + 1 : Nat) : Int)) = pI L (P (i + 1)) (am_up h 36 5 ((i + 1 : Nat) : Int)) := fun d => by
      rw [D_4_4, p_up_s, p_idx (by omega) (by omega), Int.toNat_natCast, k4]
    have cases3 : K (i + 1) = 0 ∨ K (i + 1) = 5 ∨ K (i + 1) = 7 := by rw [e2, ← hZ]; exact T.2.1
    rw [if_neg (by omega), kd, p_xI]
    rcases cases3 with z | z | z
    · right
      have kk := k1 (by omega)
      exact ⟨_, rfl, by rw [if_pos (by rw [kk]; exact z)], N.mv (by omega) (by omega), f1⟩
    · left
      have kk := k1 (by omega)
      obtain ⟨h', r1, r2⟩ := kx_fail (d := d) (L := L) (P := P) f1 1 (i + 1)
      refine ⟨Or.inl z, h', ?_, ?_⟩
      · rw [if_neg (by rw [kk]; omega), kd, p_xI, if_pos (by rw [kk]; exact z), hr, p_xI, r1, kT_V]
      · unfold csx; rw [if_neg (by omega)]; exact r2
    · left
      have kk := k2 z
      obtain ⟨h', r1, r2⟩ := kx_fail (d := d) (L := L) (P := P) f1 2 (i + 1)
      refine ⟨Or.inr z, h', ?_, ?_⟩
      · rw [if_neg (by omega), kd, p_xI, if_neg (by omega), hr, p_xI, r1, kT_V]
      · unfold csx; rw [if_pos z]; exact r2
/-- a sign must stand there -/
theorem kx_sign (N : kN K V P Z i h) (f : kf b g h) (c : Int) : (¬ cSg K V c i ∧ ∃ h', am_D (d + 4) 4 11 [am_r (am_a 36), am_i c] (zS L, h) = kT L h' ∧ kB P b g (csx K i) h') ∨ (cSg K V c i ∧ ((stkx K (i + 1) ∧ ∃ h', am_D (d + 4) 4 11 [am_r (am_a 36), am_i c] (zS L, h) = kT L h' ∧ kB P b g (csx K (i + 1)) h') ∨ (∃ h1, h1 = am_up h 36 5 ((i + 1 : Nat) : Int) ∧ am_D (d + 4) 4 11 [am_r (am_a 36), am_i c] (zS L, h) = pV L h1 ∧ kN K V P Z (i + 1) h1 ∧ kf b g h1))) := by
  rw [D_4_11, kx_isSign N, p_xI]
  by_cases z : cSg K V c i
  · right
    refine ⟨z, ?_⟩
    rcases kx_need (d := d) (L := L) N f 1 with ⟨y, -⟩ | ⟨-, r1⟩
    · omega
    rw [pB_t z, r1, p_xV]
    rcases kx_next (d := d + 1) (L := L) N f (by rw [z.1]; omega) with ⟨s, h', r2, r3⟩ | ⟨h1, e1, r2, r3, r4⟩
    · exact Or.inl ⟨s, h', by rw [r2, kT_V], r3⟩
    · exact Or.inr ⟨h1, e1, by rw [r2, p_xV], r3, r4⟩
  · left
    refine ⟨z, ?_⟩
    rcases kx_need (d := d) (L := L) N f 0 with ⟨-, h', r1, r2⟩ | ⟨y, -⟩
    · exact ⟨h', by rw [pB_f z, r1, kT_V], r2⟩
    · omega
theorem kx_word (N : kN K V P Z i h) (f : kf b g h) (c : Int) : (¬ cWd K V c i ∧ ∃ h', am_D (d + 4) 4 12 [am_r (am_a 36), am_i c] (zS L, h) = kT L h' ∧ kB P b g (csx K i) h') ∨ (cWd K V c i ∧ ((stkx K (i + 1) ∧ ∃ h', am_D (d + 4) 4 12 [am_r (am_a 36), am_i c] (zS L, h) = kT L h' ∧ kB P b g (csx K (i + 1)) h') ∨ (∃ h1, h1 = am_up h 36 5 ((i + 1 : Nat) : Int) ∧ am_D (d + 4) 4 12 [am_r (am_a 36), am_i c] (zS L, h) = pV L h1 ∧ kN K V P Z (i + 1) h1 ∧ kf b g h1))) := by
  rw [D_4_12, kx_isWord N, p_xI]
  by_cases z : cWd K V c i
  · right
    refine ⟨z, ?_⟩
    rcases kx_need (d := d) (L := L) N f 1 with ⟨y, -⟩ | ⟨-, r1⟩
    · omega
    rw [pB_t z, r1, p_xV]
    rcases kx_next (d := d + 1) (L := L) N f (by rw [z.1]; omega) with ⟨s, h', r2, r3⟩ | ⟨h1, e1, r2, r3, r4⟩
    · exact Or.inl ⟨s, h', by rw [r2, kT_V], r3⟩
    · exact Or.inr ⟨h1, e1, by rw [r2, p_xV], r3, r4⟩
  · left
    refine ⟨z, ?_⟩
    rcases kx_need (d := d) (L := L) N f 0 with ⟨-, h', r1, r2⟩ | ⟨y, -⟩
    · exact ⟨h', by rw [pB_f z, r1, kT_V], r2⟩
    · omega
/-- a range -/
theorem kx_range (N : kN K V P Z i h) (f : kf b g h) : match c_rng K V i with
      | .inl e => ∃ h', am_D (d + 5) 4 18 [am_r (am_a 36)] (zS L, h) = kT L h' ∧ kB P b g e h'
      | .inr q => (stkx K q.2.2.2 ∧ ∃ h', am_D (d + 5) 4 18 [am_r (am_a 36)] (zS L, h) = kT L h' ∧ kB P b g (csx K q.2.2.2) h') ∨ (∃ h1, am_D (d + 5) 4 18 [am_r (am_a 36)] (zS L, h) = pV L h1 ∧ kN K V P Z q.2.2.2 h1 ∧ kf b g h1 ∧ h1 = am_up h 36 5 (q.2.2.2 : Int)) := by
  rw [D_4_18, kx_isSign N, p_xI]
  unfold c_rng
  by_cases c1 : cSg K V 91 i
  · rw [if_pos c1, pB_t c1, if_neg (show ¬ (1 : Int) = 0 by decide)]
    rcases kx_next (d := d + 2) (L := L) N f (by rw [c1.1]; omega) with ⟨s, h', r2, r3⟩ | ⟨h1, e1, r2, N1, f1⟩
    · rw [if_neg s.k.2.2.2.1]
      exact ⟨h', by rw [r2, kT_V], r3⟩
    rw [r2, p_xV, kx_kind N1, p_xI]
    by_cases c2 : K (i + 1) = 3
    · rw [if_pos c2, if_pos c2, q_4_18_3]
      rcases kx_need (d := d + 1) (L := L) N1 f1 1 with ⟨y, -⟩ | ⟨-, r3⟩
      · omega
      rw [r3, p_xV]
      rcases kx_next (d := d + 2) (L := L) N1 f1 (by rw [c2]; omega) with ⟨s, h', r4, r5⟩ | ⟨h2, e2, r4, N2, f2⟩
      · rw [if_neg (s.sg 256), if_neg (s.sg 93)]
        exact ⟨h', by rw [r4, kT_V], r5⟩
      rw [r4, p_xV, kx_isSign N2, p_xI]
      by_cases c3 : cSg K V 256 (i + 2)
      · rw [if_pos c3, pB_t c3, if_neg (show ¬ (1 : Int) = 0 by decide)]
        rcases kx_next (d := d + 2) (L := L) N2 f2 (by rw [c3.1]; omega) with ⟨s, h', r6, r7⟩ | ⟨h3, e3, r6, N3, f3⟩
        · rw [if_neg s.k.2.2.2.1]
          exact ⟨h', by rw [r6, kT_V], r7⟩
        rw [r6, p_xV, kx_kind N3, p_xI]
        by_cases c4 : K (i + 3) = 3
        · rw [if_pos c4, if_pos c4]
          rcases kx_need (d := d + 1) (L := L) N3 f3 1 with ⟨y, -⟩ | ⟨-, r8⟩
          · omega
          rw [r8, p_xV]
          rcases kx_next (d := d + 2) (L := L) N3 f3 (by rw [c4]; omega) with ⟨s, h', r9, r10⟩ | ⟨h4, e4, r9, N4, f4⟩
          · rw [if_neg (s.sg 93)]
            exact ⟨h', by rw [r9, kT_V], r10⟩
          rw [r9, p_xV]
          rcases kx_sign (d := d) (L := L) N4 f4 93 with ⟨z, h', r11, r12⟩ | ⟨z, ⟨s, h', r11, r12⟩ | ⟨h5, e5, r11, N5, f5⟩⟩
          · rw [if_neg z]
            exact ⟨h', by rw [r11, kT_V], r12⟩
          · rw [if_pos z]
            exact Or.inl ⟨s, h', by rw [r11, kT_V], r12⟩
          · rw [if_pos z]
            refine Or.inr ⟨h5, by rw [r11, p_xV], N5, f5, ?_⟩
            rw [e5, e4, e3, e2, e1, p_up_up, p_up_up, p_up_up, p_up_up]
        · rw [if_neg c4, if_neg c4]
          rcases kx_need (d := d + 1) (L := L) N3 f3 0 with ⟨-, h', r8, r9⟩ | ⟨y, -⟩
          · exact ⟨h', by rw [r8, kT_V], r9⟩
          · omega
      · rw [if_neg c3, pB_f c3, if_pos rfl]
        rcases kx_sign (d := d) (L := L) N2 f2 93 with ⟨z, h', r11, r12⟩ | ⟨z, ⟨s, h', r11, r12⟩ | ⟨h5, e5, r11, N5, f5⟩⟩
        · rw [if_neg z]
          exact ⟨h', by rw [r11, kT_V], r12⟩
        · rw [if_pos z]
          exact Or.inl ⟨s, h', by rw [r11, kT_V], r12⟩
        · rw [if_pos z]
          refine Or.inr ⟨h5, by rw [r11, p_xV], N5, f5, ?_⟩
          rw [e5, e2, e1, p_up_up, p_up_up]
    · rw [if_neg c2, if_neg c2, q_4_18_3]
      rcases kx_need (d := d + 1) (L := L) N1 f1 0 with ⟨-, h', r3, r4⟩ | ⟨y, -⟩
      · exact ⟨h', by rw [r3, kT_V], r4⟩
      · omega
  · rw [if_neg c1, pB_f c1, if_pos rfl]
    refine Or.inr ⟨h, rfl, N, f, ?_⟩
    exact (p_up_id' N.2.1).symm
end
