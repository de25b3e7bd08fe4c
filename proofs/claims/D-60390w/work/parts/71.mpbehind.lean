/-! PURE LAYER, 41: behind a term -/
section
variable {α β : Type}
/-- one behind another, where the first goes over into the second -/
theorem mo_bD {L : Nat} {D : Option am_O} {g0 : am_H} {m : Nat} {r : gx_R α} {f : α → gx_R β} {ok : β → Option am_O → Prop} {Q : α → Option am_O → Prop} (hX : mo L D g0 m r Q) (hk : ∀ a, r = .inr a → Q a D → mo L D g0 m (f a) ok) : mo L D g0 m (gx_b r f) ok := by
  cases r with
  | inl e => exact hX
  | inr a => exact hk a rfl hX
theorem mo_imp {L : Nat} {D : Option am_O} {g0 : am_H} {m : Nat} {r : gx_R α} {ok ok' : α → Option am_O → Prop} (h : mo L D g0 m r ok) (hi : ∀ a, r = .inr a → ok a D → ok' a D) : mo L D g0 m r ok' := by
  cases r with
  | inl e => exact h
  | inr a => exact hi a rfl h
end
theorem mi_8 (V : Nat → Int) (c : Int) (g : am_H) (q : Int × Int × List (Int × Int × Int × Int) × List Int) : mi V (8, c, 0, 0) (g, q) = mi_h (g, q) (mi_add 6 c 0 0 g) := rfl
section
variable {K V P : Nat → Int} {Z : Nat} {g0 : am_H} {oc : List Int} {i deep st : Nat} {g h : am_H} (d L : Nat) {ls : List (Int × Int × Int)} {nt dv : Int}
/-- syntax(), and what it leaves -/
theorem mp_syn (N : mp_N K V P Z g0 oc i deep st g h) : ∃ h', am_D (d + 2) 17 18 [am_r (am_a 254)] (zS L, h) = pV L h' ∧ mp_B g0 4900 (hx_sx K P i) h' ∧ (∀ a k, a ≠ 254 → h' a k = h a k) ∧ h' 254 51 = h 254 51 := by
  have lt := N.lt
  have hk := (mp_k_eq N.rg).2.2.2.2.2.2
  have w : ∀ c : Int, 0 < c → am_D (d + 1) 17 17 [am_r (am_a 254), am_i c, am_i i] (zS L, h) = pV L (am_up (am_up h 254 11 c) 254 12 (h 258 i)) := by
    intro c hc
    rw [D_17_17, N.fa, if_neg (by omega), p_idx (by omega) (by omega), Int.toNat_natCast]
  obtain ⟨h', e, B⟩ := mp_syntax d L N
  refine ⟨h', e, B, ?_⟩
  rw [D_17_18, N.nx, p_idx (by omega) (by omega), Int.toNat_natCast, N.kd] at e
  have eh : ∃ c, h' = am_up (am_up h 254 11 c) 254 12 (h 258 i) := by
    by_cases c : K i = 7
    · rw [if_pos (hk.mpr c), w 2 (by decide), p_xV] at e
      cases e; exact ⟨2, rfl⟩
    · rw [if_neg (fun z => c (hk.mp z)), w 1 (by decide), p_xV] at e
      cases e; exact ⟨1, rfl⟩
  obtain ⟨c, rfl⟩ := eh
  exact ⟨fun a k ha => by rw [p_up_n _ _ _ _ _ _ (Or.inl ha), p_up_n _ _ _ _ _ _ (Or.inl ha)], by rw [p_up_n _ _ _ _ _ _ (Or.inr (by decide)), p_up_n _ _ _ _ _ _ (Or.inr (by decide))]⟩
theorem mx_top (E : mp_E K V P Z g0 ls nt dv oc i deep st g h) : am_w (h 254 51 - 1) = (ls.length : Int) - 1 := by
  have := E.2.2.2.2.2
  have := E.1.bd
  rw [E.2.1, p_w (by omega) (by omega)]
/-- a sign ahead of a term is done -/
theorem mx_B_sign {x : Int × Int × Int} {m : Nat} {α : Type} {q : Int × Int × List (Int × Int × Int × Int) × List Int} {u : Option am_V} {F : mi_S → gx_R α} {ok : α → Option am_O → Prop} (E : mp_E K V P Z g0 (x :: ls) 0 dv oc i (deep + 1) st g h) (hx : x.1 = 4) (hk : ¬ mp_rel x.2.2) (hll : ls.length ≤ deep + 1)
    (hgo : ∀ h1 u1, mp_E K V P Z g0 ls 0 dv oc i deep st (mi_put x.2.2 0 0 0 g) h1 → h1 284 = h 284 → mo L (mx_B d L u1 h1) g0 m (F (mi_put x.2.2 0 0 0 g, q)) ok) :
    mo L (mx_B d L u h) g0 m (gx_b (mi_h (g, q) (mi_add x.2.2 0 0 0 g)) F) ok := by
  have lt := E.1.lt
  have bd := E.1.bd
  have hl := E.2.2.2.2.2
  simp at hl
  obtain ⟨s1, s2, s3, s4⟩ := E.2.2.1
  unfold mi_add ce_q
  by_cases c : g 254 33 < 4900
  · have N1 : mp_N K V P Z g0 oc i deep st g (am_up (am_up h 254 51 (ls.length : Int)) 254 48 (deep : Int)) := (E.1.lvl (ls.length : Int) (by omega)).dp deep (by omega)
    obtain ⟨h1, e, N2, f⟩ := mp_add (d + 6) L N1 c x.2.2 0 0 0 i (fun z => absurd z hk) (by omega)
    have eB : mx_B d L u h = mx_B d L u h1 := by
      unfold mx_B
      rw [q_17_49_0, mx_top E, List.length_cons, show (((ls.length + 1 : Nat) : Int) - 1) = (ls.length : Int) by omega, p_idx (by omega) (by omega), Int.toNat_natCast, s1, if_pos hx, p_idx (by omega) (by omega), Int.toNat_natCast, s3, E.1.op, p_w (by omega) (by omega), show (((deep + 1 : Nat) : Int) - 1) = (deep : Int) by omega, E.1.nx, e, p_xI]
    rw [if_pos c, eB]
    have f' : ∀ a k, a ≠ 277 → a ≠ 278 → a ≠ 279 → a ≠ 280 → a ≠ 281 → a ≠ 254 → h1 a k = h a k := fun a k c1 c2 c3 c4 c5 c6 => by
      rw [f a k c1 c2 c3 c4 c5 (fun z => c6 z.1), p_up_c _ _ _ _ _ c6, p_up_c _ _ _ _ _ c6]
    refine hgo h1 u ⟨N2, ?_, s4.same (fun k _ => ⟨f' 290 k (by decide) (by decide) (by decide) (by decide) (by decide) (by decide), f' 291 k (by decide) (by decide) (by decide) (by decide) (by decide) (by decide), f' 292 k (by decide) (by decide) (by decide) (by decide) (by decide) (by decide)⟩), ?_, ?_, hll⟩ (funext fun k => f' 284 k (by decide) (by decide) (by decide) (by decide) (by decide) (by decide))
    · rw [f 254 51 (by decide) (by decide) (by decide) (by decide) (by decide) (by simp), p_up_n _ _ _ _ _ _ (Or.inr (by decide)), p_up_s]
    · rw [f 254 61 (by decide) (by decide) (by decide) (by decide) (by decide) (by simp), p_up_n _ _ _ _ _ _ (Or.inr (by decide)), p_up_n _ _ _ _ _ _ (Or.inr (by decide))]; exact E.2.2.2.1
    · rw [f 254 62 (by decide) (by decide) (by decide) (by decide) (by decide) (by simp), p_up_n _ _ _ _ _ _ (Or.inr (by decide)), p_up_n _ _ _ _ _ _ (Or.inr (by decide))]; exact E.2.2.2.2.1
  · rw [if_neg c]; exact fun z => absurd z (by decide)
/-- block 2 of behindTerm, at a level whose sign is none -/
theorem mx_e2 {x : Int × Int × Int} (E : mp_E K V P Z g0 (x :: ls) nt dv oc i deep st g h) (h4 : x.1 ≠ 4) (h0 : x.2.1 = 0) (u : Option am_V) : am_E (am_D (d + 7)) m_17_49 (.inl 0) [some (am_r (am_a 254)), u] [] (zS L, h) = am_E (am_D (d + 7)) m_17_49 (.inl 2) [some (am_r (am_a 254)), some (am_i (ls.length : Int))] [] (zS L, h) := by
  have bd := E.1.bd
  have hl := E.2.2.2.2.2
  simp at hl
  obtain ⟨s1, s2, s3, s4⟩ := E.2.2.1
  rw [q_17_49_0, mx_top E, List.length_cons, show (((ls.length + 1 : Nat) : Int) - 1) = (ls.length : Int) by omega, p_idx (by omega) (by omega), Int.toNat_natCast, s1, if_neg h4, p_idx (by omega) (by omega), Int.toNat_natCast, s2, if_pos h0]
/-- the sign that waits -/
theorem mx_B_wait {x : Int × Int × Int} {m : Nat} {α : Type} {q : Int × Int × List (Int × Int × Int × Int) × List Int} {u : Option am_V} {F : mi_S → gx_R α} {ok : α → Option am_O → Prop} (E : mp_E K V P Z g0 (x :: ls) 0 dv oc i deep st g h) (h4 : x.1 ≠ 4) (hx : x.2.1 ≠ 0)
    (hgo : ∀ h1 u1, mp_E K V P Z g0 ((x.1, 0, x.2.2) :: ls) 0 dv oc i deep st (mi_put 6 x.2.1 0 0 g) h1 → h1 284 = h 284 → mo L (mx_B d L u1 h1) g0 m (F (mi_put 6 x.2.1 0 0 g, q)) ok) :
    mo L (mx_B d L u h) g0 m (gx_b (mi_h (g, q) (mi_add 6 x.2.1 0 0 g)) F) ok := by
  have lt := E.1.lt
  have bd := E.1.bd
  have hl := E.2.2.2.2.2
  simp at hl
  obtain ⟨s1, s2, s3, s4⟩ := E.2.2.1
  unfold mi_add ce_q
  by_cases c : g 254 33 < 4900
  · obtain ⟨h1, e, N2, f⟩ := mp_add (d + 6) L E.1 c 6 x.2.1 0 0 i (by unfold mp_rel; omega) (by omega)
    have E1 := E.fr N2 f
    -- with no sign
    have E2 : mp_E K V P Z g0 ((x.1, 0, x.2.2) :: ls) 0 dv oc i deep st (mi_put 6 x.2.1 0 0 g) (am_up h1 291 ls.length 0) := by
      obtain ⟨t1, t2, t3, t4⟩ := E1.2.2.1
      refine ⟨N2.hup 291 _ 0 rfl rfl rfl, ?_, ⟨?_, ?_, ?_, t4.same (fun k hk => ⟨?_, ?_, ?_⟩)⟩, ?_, ?_, by simp; omega⟩
      · rw [p_up_c _ _ _ _ _ (by decide)]; exact E1.2.1
      · rw [p_up_c _ _ _ _ _ (by decide)]; exact t1
      · exact p_up_s _ _ _ _
      · rw [p_up_c _ _ _ _ _ (by decide)]; exact t3
      · rw [p_up_c _ _ _ _ _ (by decide)]
      · rw [p_up_n _ _ _ _ _ _ (Or.inr (by omega))]
      · rw [p_up_c _ _ _ _ _ (by decide)]
      · rw [p_up_c _ _ _ _ _ (by decide)]; exact E1.2.2.2.1
      · rw [p_up_c _ _ _ _ _ (by decide)]; exact E1.2.2.2.2.1
    have eB : mx_B d L u h = mx_B d L none (am_up h1 291 ls.length 0) := by
      unfold mx_B
      rw [mx_e2 d L E2 h4 rfl none, q_17_49_0, mx_top E, List.length_cons, show (((ls.length + 1 : Nat) : Int) - 1) = (ls.length : Int) by omega, p_idx (by omega) (by omega), Int.toNat_natCast, s1, if_neg h4, p_idx (by omega) (by omega), Int.toNat_natCast, s2, if_neg hx, p_idx (by omega) (by omega), Int.toNat_natCast, s2, E.1.nx, e, p_xI, q_17_49_2, q_17_49_2]
      congr 1
      rw [p_idx (by omega) (by omega), p_idx (by omega) (by omega), p_idx (by omega) (by omega), p_idx (by omega) (by omega), Int.toNat_natCast, p_up_up, p_up_c _ _ _ _ 290 (by decide), p_up_c _ _ _ _ 254 (by decide)]
    rw [if_pos c, eB]
    exact hgo _ none E2 (by rw [p_up_c _ _ _ _ _ (by decide)]; exact funext fun k => f 284 k (by decide) (by decide) (by decide) (by decide) (by decide) (by simp))
  · rw [if_neg c]; exact fun z => absurd z (by decide)
theorem mp_isOp (N : mp_N K V P Z g0 oc i deep st g h) : am_D (d + 2) 17 50 [am_r (am_a 254)] (zS L, h) = pI L (pB (gx_op K V i)) h := by
  rw [D_17_50]
  simp only [mp_isSign d L N, p_xI, pB_0, p_bit0, p_bit1]
  by_cases hj : gx_op K V i
  · rw [pB_t hj]
    obtain ⟨k5, hv⟩ := hj
    have sg : ∀ c : Int, V i = c → gx_sg K V c i := fun c hc => ⟨k5, hc⟩
    (repeat' split) <;> first | rfl | (exfalso; rename_i a1 a2 a3 a4 a5 a6 a7 a8 a9; rcases hv with z | z | z | z | z | z | z | z | z <;> first | exact a1 (sg _ z) | exact a2 (sg _ z) | exact a3 (sg _ z) | exact a4 (sg _ z) | exact a5 (sg _ z) | exact a6 (sg _ z) | exact a7 (sg _ z) | exact a8 (sg _ z) | exact a9 (sg _ z))
  · rw [pB_f hj]
    have ns : ∀ c : Int, (c = 43 ∨ c = 45 ∨ c = 42 ∨ c = 47 ∨ c = 38 ∨ c = 124 ∨ c = 60 ∨ c = 62 ∨ c = 61) → ¬ gx_sg K V c i := fun c hc z => hj ⟨z.1, by rw [z.2]; exact hc⟩
    rw [if_pos (ns 43 (by simp)), if_pos (ns 45 (by simp)), if_pos (ns 42 (by simp)), if_pos (ns 47 (by simp)), if_pos (ns 38 (by simp)), if_pos (ns 124 (by simp)), if_pos (ns 60 (by simp)), if_pos (ns 62 (by simp)), if_pos (ns 61 (by simp))]
/-- block 3 of behindTerm: at a level, no sign waits, and it is not the end of a do -/
theorem mx_e3 {x : Int × Int × Int} (E : mp_E K V P Z g0 (x :: ls) nt dv oc i deep st g h) (h4 : x.1 ≠ 4) (h0 : x.2.1 = 0) (hd : ¬ (x.1 = 0 ∧ dv ≠ 0)) (u : Option am_V) : am_E (am_D (d + 7)) m_17_49 (.inl 0) [some (am_r (am_a 254)), u] [] (zS L, h) = am_E (am_D (d + 7)) m_17_49 (.inl 3) [some (am_r (am_a 254)), some (am_i (ls.length : Int))] [] (zS L, h) := by
  have bd := E.1.bd
  have hl := E.2.2.2.2.2
  simp at hl
  obtain ⟨s1, s2, s3, s4⟩ := E.2.2.1
  rw [mx_e2 d L E h4 h0 u, q_17_49_2, p_idx (by omega) (by omega), p_idx (by omega) (by omega), Int.toNat_natCast, s1, E.2.2.2.2.1, p_up_id' (by rw [s2]; exact h0)]
  by_cases c : x.1 = 0
  · rw [if_pos c, if_pos (Classical.byContradiction fun z => hd ⟨c, z⟩)]
  · rw [if_neg c]
/-- an operator -/
theorem mx_B_op {x : Int × Int × Int} {u : Option am_V} (E : mp_E K V P Z g0 (x :: ls) 0 dv oc i deep st g h) (h4 : x.1 ≠ 4) (h0 : x.2.1 = 0) (hd : ¬ (x.1 = 0 ∧ dv ≠ 0)) (ho : gx_op K V i) : ∃ h1, mx_B d L u h = mx_L d L h1 ∧ mp_E K V P Z g0 ((x.1, V i, x.2.2) :: ls) 1 dv oc (i + 1) deep st g h1 ∧ h1 284 = h 284 := by
  have lt := E.1.lt
  have bd := E.1.bd
  have hl := E.2.2.2.2.2
  simp at hl
  have E1 : mp_E K V P Z g0 ((x.1, V i, x.2.2) :: ls) 0 dv oc i deep st g (am_up h 291 ls.length (V i)) := by
    obtain ⟨t1, t2, t3, t4⟩ := E.2.2.1
    refine ⟨E.1.hup 291 _ _ rfl rfl rfl, ?_, ⟨?_, ?_, ?_, t4.same (fun k hk => ⟨?_, ?_, ?_⟩)⟩, ?_, ?_, by simp; omega⟩
    · rw [p_up_c _ _ _ _ _ (by decide)]; exact E.2.1
    · rw [p_up_c _ _ _ _ _ (by decide)]; exact t1
    · exact p_up_s _ _ _ _
    · rw [p_up_c _ _ _ _ _ (by decide)]; exact t3
    · rw [p_up_c _ _ _ _ _ (by decide)]
    · rw [p_up_n _ _ _ _ _ _ (Or.inr (by omega))]
    · rw [p_up_c _ _ _ _ _ (by decide)]
    · rw [p_up_c _ _ _ _ _ (by decide)]; exact E.2.2.2.1
    · rw [p_up_c _ _ _ _ _ (by decide)]; exact E.2.2.2.2.1
  obtain ⟨e2, E2⟩ := E1.go (d + 6) L ⟨by rw [ho.1]; decide, by rw [ho.1]; decide, by rw [ho.1]; decide⟩
  refine ⟨_, ?_, E2.nt_ 1, ?_⟩
  · unfold mx_B
    rw [mx_e3 d L E h4 h0 hd u, q_17_49_3, mp_isOp (d + 5) L E.1, p_xI, if_neg (by rw [pB_t ho]; decide), E.1.nx, p_idx (by omega) (by omega), Int.toNat_natCast, p_idx (by omega) (by omega), Int.toNat_natCast, E.1.vl (by have := ho.1; omega), e2, p_xV, p_bit1, p_xV]
  · rw [p_up_c _ _ _ _ _ (by decide), p_up_c _ _ _ _ _ (by decide), p_up_c _ _ _ _ _ (by decide)]
/-- behind a term, one step more -/
theorem mx_more {f : Nat} (HT : mx_HT K V P Z g0 d L f) (H1 : mx_H1 K V P Z g0 d L f) : mx_H1 K V P Z g0 d L (f + 1) := by
  intro x ls dv oc deep st i g h u q E h4 h0 hd hq
  rw [he]
  by_cases ho : gx_op K V i
  · rw [if_pos ho]
    obtain ⟨h1, e1, E1, k1⟩ := mx_B_op (u := u) d L E h4 h0 hd ho
    rw [e1]
    show mo L (mx_L d L h1) g0 4950 (gx_b (he K V P (mi V) f 0 deep st (i + 1) (g, q)) _) _
    refine mo_bD (HT ((x.1, V i, x.2.2) :: ls) dv oc deep st (i + 1) g h1 q E1 (by simp) hq) ?_
    rintro ⟨a1, a2, ⟨g2, q2⟩, a4⟩ - ⟨h2, u2, e2, E2, eq, k2⟩
    have eq : q2 = q := eq
    subst eq
    have E2 : mp_E K V P Z g0 ((x.1, V i, x.2.2) :: ls) 0 dv oc a1 deep a2 g2 h2 := E2
    rw [e2]
    have hv : V i ≠ 0 := by have := ho.2; omega
    show mo L (mx_B d L u2 h2) g0 4950 (gx_b (mi V (8, V i, 0, 0) (g2, q2)) fun s1 => he K V P (mi V) f 1 deep a2 a1 s1) _
    rw [mi_8]
    refine mx_B_wait (x := (x.1, V i, x.2.2)) (m := 4950) (q := q2) (u := u2) (F := fun s1 => he K V P (mi V) f 1 deep a2 a1 s1) d L E2 h4 hv (fun h3 u3 E3 k3 => ?_)
    refine mo_imp (H1 (x.1, 0, x.2.2) ls dv oc deep a2 a1 _ h3 u3 q2 E3 h4 rfl hd hq) ?_
    rintro a - ⟨h4', u4, e4, ⟨E4, eq4, k4⟩, no⟩
    refine ⟨h4', u4, e4, ⟨?_, eq4, fun c hc => ?_⟩, no⟩
    · rw [show x = (x.1, 0, x.2.2) by rw [← h0]]; exact E4
    · rw [k4 c hc, k3, k2 c hc, k1]
  · rw [if_neg ho]
    exact ⟨h, u, rfl, ⟨E, rfl, fun _ _ => rfl⟩, ho⟩
end
