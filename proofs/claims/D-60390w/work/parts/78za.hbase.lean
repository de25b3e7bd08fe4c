/-! HACK, 0: the processor's words, one after the other -/
/-- a bit chosen -/
def bz (b : Bool) (x : Int) : Int := if b = true then 0 else x
def bn (b : Bool) (x : Int) : Int := if b = true then -x - 1 else x
theorem bz_rg {b : Bool} {x : Int} (h : rg16 x) : rg16 (bz b x) := by
  cases b
  · exact h
  · show rg16 0; exact ⟨by decide, by decide⟩
theorem bn_rg {b : Bool} {x : Int} (h : rg16 x) : rg16 (bn b x) := by cases b; exact h; exact not_rg h
theorem pw_gen {x y : Int} (hx : rg16 x) (hy : rg16 y) (b : Int) (z1 n1 z2 n2 f n0 : Bool) (h : (decide (am_and b 32 = 0) = !z1) ∧ (decide (am_and b 16 = 0) = !n1) ∧ (decide (am_and b 8 = 0) = !z2) ∧ (decide (am_and b 4 = 0) = !n2) ∧ (decide (am_and b 2 = 0) = !f) ∧ (decide (am_and b 1 = 0) = !n0)) : pb_work b x y = am_s16 (bn n0 (if f = true then bn n1 (bz z1 x) + bn n2 (bz z2 y) else am_and (bn n1 (bz z1 x)) (bn n2 (bz z2 y)))) := by
  obtain ⟨h1, h2, h3, h4, h5, h6⟩ := h
  have t : ∀ {p : Prop} [Decidable p] {c : Bool}, decide p = !c → (c = true → ¬ p) ∧ (c = false → p) := by
    intro p _ c hp
    cases c
    · exact ⟨fun z => (by cases z), fun _ => of_decide_eq_true hp⟩
    · exact ⟨fun _ => of_decide_eq_false hp, fun z => (by cases z)⟩
  have rz : ∀ (z : Bool) (v : Int), rg16 v → ∀ (p : Prop) [Decidable p], decide p = !z → (if p then v else 0) = bz z v := by
    intro z v hv p _ hp
    cases z
    · rw [if_pos ((t hp).2 rfl)]; rfl
    · rw [if_neg ((t hp).1 rfl)]; rfl
  have rn : ∀ (z : Bool) (v : Int), -2147483648 ≤ v → v < 2147483648 → ∀ (p : Prop) [Decidable p], decide p = !z → (if p then v else am_xor v (-1)) = bn z v := by
    intro z v hv hv2 p _ hp
    cases z
    · rw [if_pos ((t hp).2 rfl)]; rfl
    · rw [if_neg ((t hp).1 rfl), p_not v ⟨hv, hv2⟩]; rfl
  have a1 := bz_rg (b := z1) hx
  have b1 := bz_rg (b := z2) hy
  have a2 := bn_rg (b := n1) a1
  have b2 := bn_rg (b := n2) b1
  unfold pb_work
  rw [rz z1 x hx _ h1, rz z2 y hy _ h3, rn n1 _ (by have := a1.1; omega) (by have := a1.2; omega) _ h2, rn n2 _ (by have := b1.1; omega) (by have := b1.2; omega) _ h4]
  congr 1
  have er : (if am_and b 2 = 0 then am_and (bn n1 (bz z1 x)) (bn n2 (bz z2 y)) else am_w (bn n1 (bz z1 x) + bn n2 (bz z2 y))) = (if f = true then bn n1 (bz z1 x) + bn n2 (bz z2 y) else am_and (bn n1 (bz z1 x)) (bn n2 (bz z2 y))) := by
    cases f
    · rw [if_pos ((t h5).2 rfl)]; rfl
    · rw [if_neg ((t h5).1 rfl), p_w (by have := a2.1; have := b2.1; omega) (by have := a2.2; have := b2.2; omega)]; rfl
  rw [er]
  refine rn n0 _ ?_ ?_ _ h6
  · cases f
    · have := (and_rg a2 b2).1; show -2147483648 ≤ am_and _ _; omega
    · have := a2.1; have := b2.1; show -2147483648 ≤ _ + _; omega
  · cases f
    · have := (and_rg a2 b2).2; show am_and _ _ < _; omega
    · have := a2.2; have := b2.2; show _ + _ < _; omega
section
variable {x y : Int} (hx : rg16 x) (hy : rg16 y)
theorem wk_0 (hx : rg16 x) (hy : rg16 y) : pb_work 42 x y = 0 := by
  rw [pw_gen hx hy 42 true false true false true false (by decide)]; rfl
theorem wk_1 (hx : rg16 x) (hy : rg16 y) : pb_work 63 x y = 1 := by
  rw [pw_gen hx hy 63 true true true true true true (by decide)]; rfl
theorem wk_m1 (hx : rg16 x) (hy : rg16 y) : pb_work 58 x y = -1 := by
  rw [pw_gen hx hy 58 true true true false true false (by decide)]; rfl
theorem and_m1 {x : Int} (hx : rg16 x) : am_and x (-1) = x := by
  rw [and16 hx ⟨by decide, by decide⟩, show BitVec.ofInt 16 (-1) = BitVec.allOnes 16 by decide, BitVec.and_allOnes, ← s16_bv, s16_id hx]
theorem and_m1' {x : Int} (hx : rg16 x) : am_and (-1) x = x := by
  rw [and16 ⟨by decide, by decide⟩ hx, show BitVec.ofInt 16 (-1) = BitVec.allOnes 16 by decide, BitVec.allOnes_and, ← s16_bv, s16_id hx]
theorem wk_d (hx : rg16 x) (hy : rg16 y) : pb_work 12 x y = x := by
  rw [pw_gen hx hy 12 false false true true false false (by decide)]
  show am_s16 (am_and x (-1)) = x
  rw [and_m1 hx, s16_id hx]
theorem wk_y (hx : rg16 x) (hy : rg16 y) : pb_work 48 x y = y := by
  rw [pw_gen hx hy 48 true true false false false false (by decide)]
  show am_s16 (am_and (-1) y) = y
  rw [and_m1' hy, s16_id hy]
theorem wk_ny (hx : rg16 x) (hy : rg16 y) : pb_work 49 x y = -y - 1 := by
  rw [pw_gen hx hy 49 true true false false false true (by decide)]
  show am_s16 (-am_and (-1) y - 1) = _
  rw [and_m1' hy, s16_id (not_rg hy)]
theorem wk_my (hx : rg16 x) (hy : rg16 y) : pb_work 51 x y = am_s16 (-y) := by
  rw [pw_gen hx hy 51 true true false false true true (by decide)]
  exact congrArg am_s16 (show -(-0 - 1 + y) - 1 = -y by omega)
theorem wk_d1 (hx : rg16 x) (hy : rg16 y) : pb_work 31 x y = am_s16 (x + 1) := by
  rw [pw_gen hx hy 31 false true true true true true (by decide)]
  exact congrArg am_s16 (show -((-x - 1) + (-0 - 1)) - 1 = x + 1 by omega)
theorem wk_y1 (hx : rg16 x) (hy : rg16 y) : pb_work 55 x y = am_s16 (y + 1) := by
  rw [pw_gen hx hy 55 true true false true true true (by decide)]
  exact congrArg am_s16 (show -((-0 - 1) + (-y - 1)) - 1 = y + 1 by omega)
theorem wk_ym (hx : rg16 x) (hy : rg16 y) : pb_work 50 x y = am_s16 (y - 1) := by
  rw [pw_gen hx hy 50 true true false false true false (by decide)]
  exact congrArg am_s16 (show (-0 - 1) + y = y - 1 by omega)
theorem wk_add (hx : rg16 x) (hy : rg16 y) : pb_work 2 x y = am_s16 (x + y) := by
  rw [pw_gen hx hy 2 false false false false true false (by decide)]; rfl
theorem wk_sub (hx : rg16 x) (hy : rg16 y) : pb_work 19 x y = am_s16 (x - y) := by
  rw [pw_gen hx hy 19 false true false false true true (by decide)]
  exact congrArg am_s16 (show -((-x - 1) + y) - 1 = x - y by omega)
theorem wk_bus (hx : rg16 x) (hy : rg16 y) : pb_work 7 x y = am_s16 (y - x) := by
  rw [pw_gen hx hy 7 false false false true true true (by decide)]
  exact congrArg am_s16 (show -(x + (-y - 1)) - 1 = y - x by omega)
theorem wk_and (hx : rg16 x) (hy : rg16 y) : pb_work 0 x y = am_and x y := by
  rw [pw_gen hx hy 0 false false false false false false (by decide)]
  exact s16_id (and_rg hx hy)
theorem wk_or (hx : rg16 x) (hy : rg16 y) : pb_work 21 x y = am_or x y := by
  rw [pw_gen hx hy 21 false true false true false true (by decide)]
  show am_s16 (-am_and (-x - 1) (-y - 1) - 1) = _
  have h1 := and_rg (not_rg hx) (not_rg hy)
  rw [s16_id (not_rg h1), and16 (not_rg hx) (not_rg hy), or16 hx hy]
  have nb : ∀ {z : Int}, rg16 z → BitVec.ofInt 16 (-z - 1) = ~~~ BitVec.ofInt 16 z := by
    intro z hz
    apply BitVec.eq_of_toInt_eq
    rw [← s16_bv, s16_id (not_rg hz), BitVec.toInt_not, BitVec.toNat_ofInt]
    obtain ⟨z1, z2⟩ := id hz
    show -z - 1 = am_s16 (65536 - 1 - (((z % 65536).toNat : Nat) : Int))
    by_cases c : 0 ≤ z
    · rw [show (((z % 65536).toNat : Nat) : Int) = z by omega, s16_hi (by omega) (by omega)]; omega
    · rw [show (((z % 65536).toNat : Nat) : Int) = z + 65536 by omega, s16_id ⟨by omega, by omega⟩]; omega
  have ni : ∀ Z : BitVec 16, -Z.toInt - 1 = (~~~Z).toInt := by
    intro Z
    have := nb (bvi_rg Z)
    rw [BitVec.ofInt_toInt] at this
    rw [← this, ← s16_bv, s16_id (not_rg (bvi_rg Z))]
  rw [nb hx, nb hy, ni, BitVec.not_and, BitVec.not_not, BitVec.not_not]
end
