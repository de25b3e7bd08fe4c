/-! PURE LAYER, 49: the model's call behind do, let, return -/
section
variable {K V P : Nat → Int} {Z : Nat} {g0 : am_H} {i deep st : Nat} {g h : am_H} (d L : Nat)
theorem hx_name_t {i : Nat} (h : K i = 2) : hx_name K P i = .inr (i + 1) := by unfold hx_name gx_if hx_next; rw [if_pos h]
theorem hx_name_f {i : Nat} (h : ¬ K i = 2) : hx_name K P i = .inl (hx_sx K P i) := by unfold hx_name gx_if hx_next; rw [if_neg h]
theorem hx_sign_t {c : Int} {i : Nat} (h : gx_sg K V c i) : hx_sign K V P c i = .inr (i + 1) := by unfold hx_sign gx_if hx_next; rw [if_pos h]
theorem hx_sign_f {c : Int} {i : Nat} (h : ¬ gx_sg K V c i) : hx_sign K V P c i = .inl (hx_sx K P i) := by unfold hx_sign gx_if hx_next; rw [if_neg h]
theorem mo_ret {α : Type} {D : Option am_O} {m : Nat} {r : gx_R α} {Po : α → am_H → Prop} (h1 : mo L D g0 m r (fun a D => ∃ h', D = pV L h' ∧ Po a h')) : mo L (am_xV (zS L) D (am_up1 (zS L)) fun h1 => some (.inl none, (zS L, h1))) g0 m r (fun a D => ∃ h', D = pV L h' ∧ Po a h') := by
  have er : r = gx_b r fun a => .inr a := (gx_b_id _).symm
  rw [er]
  refine mo_bV h1 (mb_id L g0 m) ?_
  rintro a h2 - hp
  exact ⟨h2, rfl, hp⟩
/-- call() -/
theorem mq_call {G : Nat} (hG : G ≤ 900000) (N : mp_N K V P Z g0 [] i deep st g h) (ty so : Int) (bs : List (Int × Int × Int × Int)) : mo L (am_D (d + 10) 17 41 [am_r (am_a 254)] (zS L, h)) g0 4950
    (gx_b (hx_name K P i) fun j => if gx_sg K V 46 j then gx_b (hx_next j) fun j1 => gx_b (hx_name K P j1) fun j2 => gx_b (mi V (11, (i : Int), (j1 : Int), 1) (g, ty, so, bs, [])) fun s1 => gx_b (hx_opens K V P 40 deep j2) fun j3 => gx_b (he K V P (mi V) G 2 (deep + 1) st j3 s1) fun r => gx_b (mi V (12, (i : Int), (j1 : Int), (r.2.2.2 : Int)) r.2.2.1) fun s2 => .inr (r.1, r.2.1, s2, 0)
      else if gx_sg K V 40 j then gx_b (mi V (11, (i : Int), (i : Int), 0) (g, ty, so, bs, [])) fun s1 => gx_b (hx_open P deep j) fun j3 => gx_b (he K V P (mi V) G 2 (deep + 1) st j3 s1) fun r => gx_b (mi V (12, (i : Int), (i : Int), (r.2.2.2 : Int)) r.2.2.1) fun s2 => .inr (r.1, r.2.1, s2, 0)
      else .inl (hx_sx K P j))
    (fun a D => ∃ h', D = pV L h' ∧ (mp_N K V P Z g0 [] a.1 deep a.2.1 a.2.2.1.1 h' ∧ a.2.2.1.2 = (ty, so, bs, []))) := by
  obtain ⟨-, -, H2, -⟩ := mx_all (K := K) (V := V) (P := P) (Z := Z) (g0 := g0) d L G hG
  have lt := N.lt
  rw [D_17_41]
  rcases mp_needName (d + 6) L N with ⟨k2, e1, N1⟩ | ⟨k2, h1, e1, B1⟩
  · rw [hx_name_t k2, gx_b_inr, e1, p_xI, N1.fa, if_neg (by decide), mp_isSign (d + 8) L N1, p_xI]
    simp only [pB_0]
    -- the level of the call itself
    have E0 : mp_E K V P Z g0 [] (h 254 61) 1 [] (i + 1) deep st g (am_up (am_up (am_up h 254 10 ((i + 1 : Nat) : Int)) 254 51 0) 254 62 1) := by
      refine ⟨(N1.lvl 0 (by omega)).hup 254 62 1 rfl rfl rfl, ?_, trivial, ?_, p_up_s _ _ _ _, by simp⟩
      · rw [p_up_n _ _ _ _ _ _ (Or.inr (by decide)), p_up_s]; rfl
      · rw [p_up_n _ _ _ _ _ _ (Or.inr (by decide)), p_up_n _ _ _ _ _ _ (Or.inr (by decide)), p_up_n _ _ _ _ _ _ (Or.inr (by decide))]
    obtain ⟨e2, hE2⟩ := mp_push (d + 8) L E0 0
    have E2 := hE2 deep E0.1 (by simp)
    have e46 : ∀ x, (if (x 254 11 : Int) = 0 then am_xV (zS L) (am_D (d + 9) 17 46 [am_r (am_a 254)] (zS L, x)) (am_up1 (zS L)) fun h3 => some (.inl none, (zS L, h3)) else some (.inl none, (zS L, x))) = am_xV (zS L) (mx_L d L x) (am_up1 (zS L)) fun h3 => some (.inl none, (zS L, h3)) := by
      intro x
      by_cases c : x 254 11 = 0
      · rw [if_pos c]; rfl
      · rw [if_neg c]
        unfold mx_L
        rw [q_17_46_0, if_neg c, p_xV]
    have eb : am_E (am_D (d + 9)) m_17_41 (.inl 2) [some (am_r (am_a 254)), some (am_i i)] [] (zS L, am_up h 254 10 ((i + 1 : Nat) : Int)) = am_xV (zS L) (am_xV (zS L) (am_D (d + 9) 17 43 [am_r (am_a 254), am_i i] (zS L, am_up (am_up (am_up (am_up (am_up (am_up h 254 10 ((i + 1 : Nat) : Int)) 254 51 0) 254 62 1) 290 0 0) 291 0 0) 254 51 ((0 : Nat) + 1 : Int))) (am_up1 (zS L)) (mx_L d L)) (am_up1 (zS L)) fun h3 => some (.inl none, (zS L, h3)) := by
      rw [q_17_41_2, p_bit1, e2, p_xV, p_xVV]
      simp only [e46]
      rfl
    have fin : ∀ {X : gx_R (Nat × Nat × mi_S × Nat)} {D : Option am_O}, mo L D g0 4950 X (mx_p0 K V P Z g0 d L [(0, 0, am_up (am_up (am_up h 254 10 ((i + 1 : Nat) : Int)) 254 51 0) 254 62 1 292 0)] 1 [] deep (ty, so, bs, []) (am_up (am_up (am_up (am_up (am_up (am_up h 254 10 ((i + 1 : Nat) : Int)) 254 51 0) 254 62 1) 290 0 0) 291 0 0) 254 51 ((0 : Nat) + 1 : Int))) → mo L (am_xV (zS L) D (am_up1 (zS L)) fun h3 => some (.inl none, (zS L, h3))) g0 4950 X (fun a D => ∃ h', D = pV L h' ∧ (mp_N K V P Z g0 [] a.1 deep a.2.1 a.2.2.1.1 h' ∧ a.2.2.1.2 = (ty, so, bs, []))) := by
      intro X D hX
      refine mo_ret (Po := fun (a : Nat × Nat × mi_S × Nat) (h' : am_H) => mp_N K V P Z g0 [] a.1 deep a.2.1 a.2.2.1.1 h' ∧ a.2.2.1.2 = (ty, so, bs, [])) L (mo_imp hX ?_)
      rintro a - ⟨h4, u4, e4, E4, eq4, -⟩
      obtain ⟨h6, e6, N6⟩ := mx_end0 (u := u4) d L E4 (fun z => absurd z (by decide))
      exact ⟨h6, by rw [e4]; exact e6, N6, eq4⟩
    by_cases s46 : gx_sg K V 46 (i + 1)
    · rw [if_neg (fun z => z s46), if_pos s46, eb]
      exact fin (mx_begin1 d L (d + 3) H2 hG (t := i) (by omega) E2 (by simp) s46)
    · rw [if_pos s46, if_neg s46, mp_isSign (d + 8) L N1, p_xI]
      simp only [pB_0]
      by_cases s40 : gx_sg K V 40 (i + 1)
      · rw [if_neg (fun z => z s40), if_pos s40, eb, hx_opens_sg s40]
        exact fin (mx_begin0 d L (d + 3) H2 hG (t := i) (by omega) E2 (by simp) s46)
      · obtain ⟨h1, e1', B1⟩ := mp_syntax (d + 7) L N1
        rw [if_pos s40, if_neg s40, e1', p_xV]
        exact fun _ => ⟨h1, rfl, B1.le (by omega)⟩
  · rw [hx_name_f k2, e1, p_xI, if_pos (by rw [B1.2.2.1]; exact B1.2.1)]
    exact fun _ => ⟨h1, rfl, B1.le (by omega)⟩
end
