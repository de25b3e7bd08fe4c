/-! PURE LAYER, 115: the component's read(), whole -/
theorem p_find_ext {f f' : Nat → Int} {x : Int} {m m' k : Nat} (hm : m ≤ m') (hf : ∀ j, k ≤ j → j < k + m → f' j = f j) (h : p_find f x m k ≠ -1) : p_find f' x m' k = p_find f x m k := by
  rcases p_find_cases f x m k with ⟨a, -⟩ | ⟨j, a1, a2, a3, a4, a5⟩
  · exact absurd a h
  · rw [a1]
    exact p_find_some f' x j m' k a2 (by omega) (by rw [hf j a2 a3]; exact a4) (fun i i1 i2 => by rw [hf i i1 (by omega)]; exact a5 i i1 i2)
theorem p_find2_ext {f g f' g' : Nat → Int} {x y : Int} {m m' k : Nat} (hm : m ≤ m') (hf : ∀ j, k ≤ j → j < k + m → f' j = f j ∧ g' j = g j) (h : p_find2 f g x y m k ≠ -1) : p_find2 f' g' x y m' k = p_find2 f g x y m k := by
  rcases p_find2_cases f g x y m k with ⟨a, -⟩ | ⟨j, a1, a2, a3, a4, a5⟩
  · exact absurd a h
  · rw [a1]
    exact p_find2_some f' g' x y j m' k a2 (by omega) (by rw [(hf j a2 a3).1, (hf j a2 a3).2]; exact a4) (fun i i1 i2 => by rw [(hf i i1 (by omega)).1, (hf i i1 (by omega)).2]; exact a5 i i1 i2)
section
variable {K K' P V sc ss n6 : Nat → Int} {cc cs : Nat → Nat} {b20 b21 b15 bv bl n0 n3 : Nat} {h h' c c' : am_H}
theorem SY.fr (Y : SY b20 b21 sc ss cc cs h c) (U : rU b20 b21 c c') (h297 : h' 297 = h 297) (h300 : h' 300 = h 300) (h301 : h' 301 = h 301) : SY b20 b21 sc ss cc cs h' c' := by
  obtain ⟨s1, s2, s3, s4, s5, s6, s7, s8, s9⟩ := Y
  obtain ⟨u1, u2, u3, u4⟩ := U
  have hid : ∀ x, ce_hid c' x ↔ ce_hid c x := fun x => by unfold ce_hid; rw [u3 5 (by omega), u3 6 (by omega)]
  unfold SY
  rw [h297, h300, h301]
  refine ⟨fun q hq => ?_, fun i hi hh => ?_, fun i j hi hj e => ?_, fun q s hq e1 e2 => ?_, fun j hj => ?_, fun j q hj hq e hh => ?_, fun i j hi hj e1 e2 => ?_, s8, s9⟩
  · obtain ⟨a, b, d⟩ := s1 q hq
    exact ⟨a, by rw [(u1 _ a).1]; exact b, fun z => d ((hid _).1 z)⟩
  · rw [(u1 i hi).1] at hh; exact s2 i hi (fun z => hh ((hid _).2 z))
  · rw [(u1 i hi).1, (u1 j hj).1] at e; exact s3 i j hi hj e
  · obtain ⟨a1, a2, a3, a4, a5, a6, a7⟩ := s4 q s hq e1 e2
    obtain ⟨w1, w2, w3, w4, w5⟩ := u2 _ a1
    rw [w1, w2, w3, w4, w5]
    exact ⟨a1, a2, a3, fun z => a4 ((hid _).1 z), a5, a6, a7⟩
  · rw [(u2 j hj).1]; exact s5 j hj
  · rw [(u2 j hj).1] at e; rw [(u2 j hj).2.1] at hh; exact s6 j q hj hq e (fun z => hh ((hid _).2 z))
  · rw [(u2 i hi).1, (u2 j hj).1] at e1; rw [(u2 i hi).2.1, (u2 j hj).2.1] at e2; exact s7 i j hi hj e1 e2
theorem sysS_fr (Y : SY b20 b21 sc ss cc cs h c) (U : rU b20 b21 c c') (c1 : c 213 3 = (b20 : Int)) (c2 : c 217 5 = (b21 : Int)) (d1 : (b20 : Int) ≤ c' 213 3) (d2 : (b21 : Int) ≤ c' 217 5) {a b : Nat} (ha : 19 ≤ a) (hb : 19 ≤ b) (hs : sysS c a b ≠ -1) : sysS c' a b = sysS c a b := by
  obtain ⟨u1, u2, u3, u4⟩ := U
  unfold sysS at *
  rw [u4 a ha, u4 b hb]
  have e1 : ce_cls c (c 212 a) ≠ -1 := by
    intro e
    rw [e] at hs
    refine hs ?_
    unfold ce_sub
    rw [c2, Int.toNat_natCast]
    exact p_find2_none _ _ _ _ _ _ (fun j _ j2 z => by have := Y.2.2.2.2.1 j (by omega); omega)
  have e2 : ce_cls c' (c 212 a) = ce_cls c (c 212 a) := by
    unfold ce_cls at e1 ⊢
    exact p_find_ext (by omega) (fun j _ j2 => (u1 j (by omega)).1) e1
  rw [e2]
  unfold ce_sub at hs ⊢
  exact p_find2_ext (by omega) (fun j _ j2 => ⟨(u2 j (by omega)).1, (u2 j (by omega)).2.1⟩) hs
theorem SKn_fr (Y : SY b20 b21 sc ss cc cs h c) (U : rU b20 b21 c c') (c1 : c 213 3 = (b20 : Int)) (c2 : c 217 5 = (b21 : Int)) (d1 : (b20 : Int) ≤ c' 213 3) (d2 : (b21 : Int) ≤ c' 217 5) (k : SKn c) : SKn c' := by
  obtain ⟨k1, k2, k3, k4, k5⟩ := k
  exact ⟨by rw [sysS_fr Y U c1 c2 d1 d2 (by decide) (by decide) k1]; exact k1, by rw [sysS_fr Y U c1 c2 d1 d2 (by decide) (by decide) k2]; exact k2, by rw [sysS_fr Y U c1 c2 d1 d2 (by decide) (by decide) k3]; exact k3, by rw [sysS_fr Y U c1 c2 d1 d2 (by decide) (by decide) k4]; exact k4, by rw [sysS_fr Y U c1 c2 d1 d2 (by decide) (by decide) k5]; exact k5⟩
theorem rU.trans {a b d : am_H} (A : rU b20 b21 a b) (B : rU b20 b21 b d) : rU b20 b21 a d := by
  obtain ⟨a1, a2, a3, a4⟩ := A
  obtain ⟨c1, c2, c3, c4⟩ := B
  refine ⟨fun k hk => ?_, fun k hk => ?_, fun x hx => (c3 x hx).trans (a3 x hx), fun k hk => (c4 k hk).trans (a4 k hk)⟩
  · obtain ⟨x1, x2, x3⟩ := a1 k hk
    obtain ⟨y1, y2, y3⟩ := c1 k hk
    exact ⟨y1.trans x1, y2.trans x2, y3.trans x3⟩
  · obtain ⟨x1, x2, x3, x4, x5⟩ := a2 k hk
    obtain ⟨y1, y2, y3, y4, y5⟩ := c2 k hk
    exact ⟨y1.trans x1, y2.trans x2, y3.trans x3, y4.trans x4, y5.trans x5⟩
theorem rU_start (g : am_H) : rU b20 b21 g (pc_start g) := by
  have e : ∀ a, a ≠ 212 → a ≠ 235 → pc_start g a = g a := fun a h1 h2 => pc_start_c g a h1 h2
  refine ⟨fun k _ => ⟨by rw [e 214 (by decide) (by decide)], by rw [e 215 (by decide) (by decide)], by rw [e 216 (by decide) (by decide)]⟩, fun k _ => ⟨by rw [e 218 (by decide) (by decide)], by rw [e 219 (by decide) (by decide)], by rw [e 220 (by decide) (by decide)], by rw [e 221 (by decide) (by decide)], by rw [e 222 (by decide) (by decide)]⟩, fun a ha => e a (by omega) (by omega), fun k hk => pc_start_f g k (by omega) (by omega) (by omega)⟩
/-- the same but for whether it writes -/
theorem SY.w (Y : SY b20 b21 sc ss cc cs h c) (v : Int) : SY b20 b21 sc ss cc cs h (am_up c 212 24 v) := by
  have e : ∀ a, a ≠ 212 → am_up c 212 24 v a = c a := fun a ha => p_up_c _ _ _ _ _ ha
  unfold SY ce_hid at *
  rw [e 214 (by decide), e 5 (by decide), e 6 (by decide), e 218 (by decide), e 219 (by decide), e 220 (by decide), e 221 (by decide), e 222 (by decide)]
  exact Y
theorem SKn.w (k : SKn c) (v : Int) : SKn (am_up c 212 24 v) := by
  have e : ∀ a b, a ≠ 24 → b ≠ 24 → sysS (am_up c 212 24 v) a b = sysS c a b := fun a b ha hb => by
    have e : ∀ a, a ≠ 212 → am_up c 212 24 v a = c a := fun a ha => p_up_c _ _ _ _ _ ha
    unfold sysS ce_sub ce_cls
    rw [e 213 (by decide), e 214 (by decide), e 217 (by decide), e 218 (by decide), e 219 (by decide), p_up_n _ _ _ _ _ _ (Or.inr ha), p_up_n _ _ _ _ _ _ (Or.inr hb)]
  unfold SKn at *
  rw [e 28 29 (by decide) (by decide), e 30 31 (by decide) (by decide), e 30 32 (by decide) (by decide), e 33 34 (by decide) (by decide), e 33 35 (by decide) (by decide)]
  exact k
end
section
variable {K K' P V sc ss n6 : Nat → Int} {cc cs : Nat → Nat} {b20 b21 b15 bv bl : Nat} {hm : am_H} (d L : Nat) {Z G : Nat}
/-- a reading that ends with a fault -/
theorem cr_caught {D : Option am_O} {e : Int × Int} {g0 : am_H} {u1 x2 x3 : Option am_V} {k : am_H → Option am_O} (t : pc_thr L D e g0) : ∃ h' g', am_xV (zS L) D (fun a7 h8 => am_obj (zS L, h8) (am_a a7) 20 fun _ _ => am_E (am_D d) m_7_26 (.inl 8) [some (am_r (am_a 212)), u1, x2, x3] [am_r (am_a a7)] (zS L, h8)) k = pI L e.1 h' ∧ h' 212 9 = e.1 ∧ h' 212 10 = e.2 ∧ p_fr [] pc_pf g' h' ∧ ce_Q g0 g' ∧ ce_ok g' := by
  obtain ⟨h', g', rfl, a2, a3, a4, a5⟩ := t
  refine ⟨h', g', ?_, a2, a3, a4, a5⟩
  rw [p_xVt, p_obj (rs := []) rfl, q_7_26_8, a2]
end
