/-! PURE LAYER, 53: the model's blocks end -/
noncomputable def ms_L (d L : Nat) (h : am_H) : Option am_O := am_E (am_D (d + 12)) m_17_36 (.inl 1) [some (am_r (am_a 254)), some (am_i 1)] [] (zS L, h)
section
variable {K V P : Nat → Int} {Z : Nat} {g0 : am_H} {i deep st : Nat} {g h : am_H} (d L : Nat) {G : Nat} {bs : List (Int × Int × Int × Int)}
theorem ms_bad {m : Nat} {e : Int × Int} (B : mp_B g0 m e h) : ms_L d L h = pV L h := by
  have b1 := B.2.1
  unfold ms_L
  rw [q_17_36_1, if_neg (by decide), if_neg (by rw [B.2.2.1]; omega)]
theorem mb_ms {m m2 : Nat} (hm : m ≤ m2) : mb L g0 m m2 (ms_L d L) := fun _ h1 B => ⟨h1, ms_bad d L B, B.le hm⟩
theorem ms_stm (N : mp_N K V P Z g0 [] i deep st g h) (hs : ¬ gx_sg K V 125 i) : ms_L d L h = am_xV (zS L) (am_D (d + 12) 17 38 [am_r (am_a 254)] (zS L, h)) (am_up1 (zS L)) (ms_L d L) := by
  unfold ms_L
  rw [q_17_36_1, if_neg (by decide), N.fa, if_pos rfl, mp_isSign (d + 11) L N, p_xI, if_pos (by rw [pB_f hs])]
theorem ms_end (N : mp_N K V P Z g0 [] i deep st g h) (hs : gx_sg K V 125 i) : ms_L d L h = am_xV (zS L) (am_D (d + 12) 17 28 [am_r (am_a 254), am_i 125] (zS L, h)) (am_up1 (zS L)) fun h3 => if (h3 254 55 : Int) = 0 then am_E (am_D (d + 12)) m_17_36 (.inl 1) [some (am_r (am_a 254)), some (am_i 0)] [] (zS L, h3) else am_xV (zS L) (am_D (d + 12) 17 37 [am_r (am_a 254)] (zS L, h3)) (am_up1 (zS L)) (ms_L d L) := by
  conv => lhs; unfold ms_L
  rw [q_17_36_1, if_neg (by decide), N.fa, if_pos rfl, mp_isSign (d + 11) L N, p_xI, if_neg (by rw [pB_t hs]; decide)]
  rfl
/-- no statement, no }: a fault -/
theorem ms_syn (N : mp_N K V P Z g0 [] i deep st g h) (hs : ¬ gx_sg K V 125 i) (hn : ¬ gx_stm K V i) : ∃ h', ms_L d L h = pV L h' ∧ mp_B g0 4900 (hx_sx K P i) h' := by
  have lt := N.lt
  have kq := mp_k_eq N.rg
  obtain ⟨h1, e1, B1⟩ := mp_syntax (d + 9) L N
  have eD : am_D (d + 12) 17 38 [am_r (am_a 254)] (zS L, h) = pV L h1 := by
    rw [D_17_38, N.nx, p_idx (by omega) (by omega), Int.toNat_natCast, N.kd]
    by_cases k1 : K i = 1
    · have vw := N.vw k1
      rw [if_pos (kq.2.2.2.2.2.1.mpr k1), p_idx (by omega) (by omega), Int.toNat_natCast, N.vl (by omega)]
      by_cases v15 : V i < 15
      · rw [if_pos v15, e1, p_xV]
      · rw [if_neg v15, p_idx (by omega) (by omega), Int.toNat_natCast, N.vl (by omega)]
        have v18 : V i = 18 := by
          apply Classical.byContradiction
          intro z
          exact hn ⟨k1, by omega⟩
        rw [if_pos v18, e1, p_xV]
    · rw [if_neg (fun z => k1 (kq.2.2.2.2.2.1.mp z)), e1, p_xV]
  rw [ms_stm d L N hs, eD, p_xV, ms_bad d L B1]
  exact ⟨h1, rfl, B1⟩
/-- the } of a block -/
theorem ms_close {α : Type} {F : Nat → gx_R α} {ok : α → Option am_O → Prop} {b : Int × Int × Int × Int} (Q : mp_Q K V P Z g0 (b :: bs) i (deep + 1) st g h) (hn : ¬ gx_stm K V i) (hk : ∀ h1, mp_Q K V P Z g0 (b :: bs) (i + 1) deep st g h1 → mo L (am_xV (zS L) (am_D (d + 12) 17 37 [am_r (am_a 254)] (zS L, h1)) (am_up1 (zS L)) (ms_L d L)) g0 4980 (F (i + 1)) ok) : mo L (ms_L d L h) g0 4980 (gx_b (hx_sign K V P 125 i) F) ok := by
  by_cases hs : gx_sg K V 125 i
  · have t := mp_closeSign (d + 8) L Q.1 125
    rw [hx_sign_t hs] at t
    obtain ⟨h1, e1, -, N1, eh⟩ := t
    have l := Q.2.1
    simp at l
    rw [ms_end d L Q.1 hs, hx_sign_t hs, gx_b_inr, e1, p_xV, N1.eq 254 55 rfl rfl, if_neg (by omega)]
    exact hk h1 ⟨N1, Q.2⟩
  · rw [hx_sign_f hs]
    intro _
    obtain ⟨h1, e1, B1⟩ := ms_syn d L Q.1 hs hn
    exact ⟨h1, e1, B1.le (by omega)⟩
/-- an item's first number is changed later -/
theorem mp_N.hole {oc : List Int} (N : mp_N K V P Z g0 oc i deep st g h) (k : Nat) (v : Int) : mp_N K V P Z g0 oc i deep st (am_up g 278 k v) (am_up h 278 k v) := N.both 278 k v rfl rfl rfl (N.ok.upc (by decide))
/-- items, in code -/
theorem mn_add0 {α : Type} {m : Nat} {kk : Int → am_H → Option am_O} {F : am_H → gx_R α} {ok : α → Option am_O → Prop} {oc : List Int} (N : mp_N K V P Z g0 oc i deep st g h) (k a b t t2 : Int) (ht : mp_rel k → t2 = t) (hr : 0 ≤ t2 ∧ t2 ≤ 1001)
    (hk : ∀ h1, mp_N K V P Z g0 oc i deep st (mi_put k a b t g) h1 → g 254 33 < 4900 → mo L (kk (g 254 33) h1) g0 m (F (mi_put k a b t g)) ok) :
    mo L (am_xI (zS L) (am_D (d + 1) 17 25 [am_r (am_a 254), am_i k, am_i a, am_i b, am_i t2] (zS L, h)) (am_up1 (zS L)) kk) g0 m (gx_b (mi_add k a b t g) F) ok := by
  unfold mi_add ce_q
  by_cases c : g 254 33 < 4900
  · obtain ⟨h1, e, N1, -⟩ := mp_add d L N c k a b t t2 ht hr
    rw [if_pos c, e, p_xI]
    exact hk h1 N1 c
  · rw [if_neg c]; exact fun z => absurd z (by decide)
theorem mk_bs {g2 : am_H} (B : mp_Bs bs g) (kp : ∀ a, (a = 293 ∨ a = 294 ∨ a = 295 ∨ a = 296) → g2 a = g a) : mp_Bs bs g2 := B.same fun k _ => ⟨by rw [kp 293 (by simp)], by rw [kp 294 (by simp)], by rw [kp 295 (by simp)], by rw [kp 296 (by simp)]⟩
end
