/-! PURE LAYER, 43: the model's terms: brackets, signs, names -/
theorem p_xVV {L : Nat} {D : Option am_O} {k1 k2 : am_H → Option am_O} : am_xV (zS L) (am_xV (zS L) D (am_up1 (zS L)) k1) (am_up1 (zS L)) k2 = am_xV (zS L) D (am_up1 (zS L)) fun h => am_xV (zS L) (k1 h) (am_up1 (zS L)) k2 := by
  rcases D with _ | ⟨_ | _, s⟩
  · rfl
  · rename_i v
    cases v with
    | none =>
      by_cases c : s.1 = zS L
      · show am_xV (zS L) (if s.1 = zS L then k1 s.2 else none) _ _ = if s.1 = zS L then _ else none
        rw [if_pos c, if_pos c]
      · show am_xV (zS L) (if s.1 = zS L then k1 s.2 else none) _ _ = if s.1 = zS L then _ else none
        rw [if_neg c, if_neg c]; rfl
    | some v => rfl
  · rename_i a
    by_cases c : s.1 = zS L
    · show am_xV (zS L) (if s.1 = zS L then am_up1 (zS L) a s.2 else none) _ _ = if s.1 = zS L then _ else none
      rw [if_pos c]
      show (if (zS L) = zS L then _ else none) = _
      rw [if_pos rfl]
    · show am_xV (zS L) (if s.1 = zS L then am_up1 (zS L) a s.2 else none) _ _ = if s.1 = zS L then _ else none
      rw [if_neg c]; rfl
section
variable {K V P : Nat → Int} {Z : Nat} {g0 : am_H} {oc : List Int} {i deep st : Nat} {g h : am_H} (d L : Nat) {ls : List (Int × Int × Int)} {nt dv : Int}
/-- the end of ( e ) -/
theorem mx_B_par {z : Int} {u : Option am_V} {α : Type} {F : Nat → gx_R α} {ok : α → Option am_O → Prop} (E : mp_E K V P Z g0 ((1, 0, z) :: ls) 0 dv oc i (deep + 1) st g h) (hl : ls ≠ []) (hll : ls.length ≤ deep + 1) (no : ¬ gx_op K V i)
    (hk : ∀ j h1 u1, mp_E K V P Z g0 ls 0 dv oc j deep st g h1 → h1 284 = h 284 → mo L (mx_B d L u1 h1) g0 4950 (F j) ok) : mo L (mx_B d L u h) g0 4950 (gx_b (hx_sign K V P 41 i) F) ok := by
  have bd := E.1.bd
  have hl2 := E.2.2.2.2.2
  simp at hl2
  obtain ⟨s1, s2, s3, s4⟩ := E.2.2.1
  have s1 : h 290 ls.length = 1 := s1
  have eB : mx_B d L u h = am_xV (zS L) (am_D (d + 7) 17 28 [am_r (am_a 254), am_i 41] (zS L, h)) (am_up1 (zS L)) fun h4 => mx_L d L (am_up h4 254 51 (ls.length : Int)) := by
    unfold mx_B
    rw [mx_e3 d L E (show (1 : Int) ≠ 4 by decide) rfl (fun z => absurd (show (1 : Int) = 0 from z.1) (by decide)) u, q_17_49_3, mp_isOp (d + 5) L E.1, p_xI, if_pos (by rw [pB_f no]), p_idx (by omega) (by omega), Int.toNat_natCast, s1, if_neg (by decide), if_pos rfl, p_xVV]
    simp only [p_xV]
  rw [eB]
  refine mo_bV (mp_closeSign (d + 3) L E.1 41) ?_ ?_
  · intro e h1 B
    have B2 := B.lv (m2 := 4950) (ls.length : Int) (by omega) (by omega)
    exact ⟨_, mx_L_bad d L B2, B2⟩
  · rintro j h1 - ⟨rfl, N1, eh⟩
    have q1 : ∀ a k, a ≠ 254 → h1 a k = h a k := fun a k ha => by rw [eh, p_up_c _ _ _ _ _ ha, p_up_c _ _ _ _ _ ha]
    have E2 : mp_E K V P Z g0 ls 0 dv oc (i + 1) deep st g (am_up h1 254 51 (ls.length : Int)) := by
      refine ⟨N1.lvl _ (by omega), p_up_s _ _ _ _, s4.same (fun k _ => ⟨?_, ?_, ?_⟩), ?_, ?_, hll⟩
      · rw [p_up_c _ _ _ _ _ (by decide), q1 290 k (by decide)]
      · rw [p_up_c _ _ _ _ _ (by decide), q1 291 k (by decide)]
      · rw [p_up_c _ _ _ _ _ (by decide), q1 292 k (by decide)]
      · rw [p_up_n _ _ _ _ _ _ (Or.inr (by decide)), eh, p_up_n _ _ _ _ _ _ (Or.inr (by decide)), p_up_n _ _ _ _ _ _ (Or.inr (by decide))]; exact E.2.2.2.1
      · rw [p_up_n _ _ _ _ _ _ (Or.inr (by decide)), eh, p_up_n _ _ _ _ _ _ (Or.inr (by decide)), p_up_n _ _ _ _ _ _ (Or.inr (by decide))]; exact E.2.2.2.2.1
    rw [mx_L_behind d L E2 rfl hl]
    exact hk _ _ none E2 (by rw [p_up_c _ _ _ _ _ (by decide)]; exact funext fun k => q1 284 k (by decide))
/-- the end of [ e ] -/
theorem mx_B_idx {z : Int} {u : Option am_V} {α : Type} {q : Int × Int × List (Int × Int × Int × Int) × List Int} {F : Nat → mi_S → gx_R α} {ok : α → Option am_O → Prop} (E : mp_E K V P Z g0 ((2, 0, z) :: ls) 0 dv oc i (deep + 1) st g h) (hl : ls ≠ []) (hll : ls.length ≤ deep + 1) (no : ¬ gx_op K V i)
    (hk : ∀ j h1 u1, mp_E K V P Z g0 ls 0 dv oc j deep st (mi_put 5 0 0 0 g) h1 → h1 284 = h 284 → mo L (mx_B d L u1 h1) g0 4950 (F j (mi_put 5 0 0 0 g, q)) ok) : mo L (mx_B d L u h) g0 4950 (gx_b (hx_sign K V P 93 i) fun j => gx_b (mi_h (g, q) (mi_add 5 0 0 0 g)) (F j)) ok := by
  have lt := E.1.lt
  have bd := E.1.bd
  have hl2 := E.2.2.2.2.2
  simp at hl2
  obtain ⟨s1, s2, s3, s4⟩ := E.2.2.1
  have s1 : h 290 ls.length = 2 := s1
  have eB : mx_B d L u h = am_xV (zS L) (am_D (d + 7) 17 28 [am_r (am_a 254), am_i 93] (zS L, h)) (am_up1 (zS L)) fun h5 => am_xV (zS L) (am_xI (zS L) (am_D (d + 7) 17 25 [am_r (am_a 254), am_i 5, am_i 0, am_i 0, am_i (h5 254 10)] (zS L, (am_up h5 254 51 (ls.length : Int)))) (am_up1 (zS L)) fun v7 h6 => some (.inl none, (zS L, h6))) (am_up1 (zS L)) (mx_L d L) := by
    unfold mx_B
    rw [mx_e3 d L E (show (2 : Int) ≠ 4 by decide) rfl (fun z => absurd (show (2 : Int) = 0 from z.1) (by decide)) u, q_17_49_3, mp_isOp (d + 5) L E.1, p_xI, if_pos (by rw [pB_f no]), p_idx (by omega) (by omega), Int.toNat_natCast, s1, if_neg (by decide), if_neg (by decide), if_pos rfl, p_xVV]
  rw [eB]
  refine mo_bV (mp_closeSign (d + 3) L E.1 93) ?_ ?_
  · intro e h1 B
    have B2 := B.lv (m2 := 4940) (ls.length : Int) (by omega) (by omega)
    obtain ⟨h3, e3, B3, -⟩ := mb_add (d + 6) L B2 (by omega) 5 0 0 (h1 254 10)
    refine ⟨h3, ?_, B3.le (by omega)⟩
    show am_xV (zS L) (am_xI (zS L) (am_D (d + 7) 17 25 [am_r (am_a 254), am_i 5, am_i 0, am_i 0, am_i (h1 254 10)] (zS L, (am_up h1 254 51 (ls.length : Int)))) (am_up1 (zS L)) fun v7 h6 => some (.inl none, (zS L, h6))) (am_up1 (zS L)) (mx_L d L) = _
    rw [e3, p_xI, p_xV, mx_L_bad d L B3]
  · rintro j h1 - ⟨rfl, N1, eh⟩
    have q1 : ∀ a k, a ≠ 254 → h1 a k = h a k := fun a k ha => by rw [eh, p_up_c _ _ _ _ _ ha, p_up_c _ _ _ _ _ ha]
    have E2 : mp_E K V P Z g0 ls 0 dv oc (i + 1) deep st g (am_up h1 254 51 (ls.length : Int)) := by
      refine ⟨N1.lvl _ (by omega), p_up_s _ _ _ _, s4.same (fun k _ => ⟨?_, ?_, ?_⟩), ?_, ?_, hll⟩
      · rw [p_up_c _ _ _ _ _ (by decide), q1 290 k (by decide)]
      · rw [p_up_c _ _ _ _ _ (by decide), q1 291 k (by decide)]
      · rw [p_up_c _ _ _ _ _ (by decide), q1 292 k (by decide)]
      · rw [p_up_n _ _ _ _ _ _ (Or.inr (by decide)), eh, p_up_n _ _ _ _ _ _ (Or.inr (by decide)), p_up_n _ _ _ _ _ _ (Or.inr (by decide))]; exact E.2.2.2.1
      · rw [p_up_n _ _ _ _ _ _ (Or.inr (by decide)), eh, p_up_n _ _ _ _ _ _ (Or.inr (by decide)), p_up_n _ _ _ _ _ _ (Or.inr (by decide))]; exact E.2.2.2.2.1
    unfold mi_add ce_q
    by_cases c : g 254 33 < 4900
    · have lt2 := E2.1.lt
      obtain ⟨h3, e3, N3, f⟩ := mp_add (d + 6) L E2.1 c 5 0 0 0 ((i + 1 : Nat) : Int) (by unfold mp_rel; omega) (by omega)
      have E3 := E2.fr N3 f
      rw [if_pos c, N1.nx, e3, p_xI, p_xV, mx_L_behind d L E3 rfl hl]
      exact hk _ _ none E3 (funext fun k => by rw [f 284 k (by decide) (by decide) (by decide) (by decide) (by decide) (by simp), p_up_c _ _ _ _ _ (by decide), q1 284 k (by decide)])
    · rw [if_neg c]; exact fun z => absurd z (by decide)
/-- openSign() leaves the level alone -/
theorem mp_open_lv (N : mp_N K V P Z g0 oc i deep st g h) (c : Int) (dd : Nat) {h1 : am_H} (e : am_D (dd + 3) 17 27 [am_r (am_a 254), am_i c] (zS L, h) = pV L h1) : h1 254 51 = h 254 51 := by
  have bd := N.bd
  have hz := N.tk.1
  have lt := N.lt
  rw [D_17_27, mp_isSign (dd + 1) L N, p_xI] at e
  simp only [pB_0] at e
  by_cases s : gx_sg K V c i
  · rw [if_neg (fun z => z s), D_17_26, N.op, p_w (by omega) (by omega), show ((deep : Int) + 1) = ((deep + 1 : Nat) : Int) by omega] at e
    by_cases hd : deep < 25
    · have N1 := N.dp (deep + 1) (by omega)
      obtain ⟨e1, N2⟩ := mp_go (dd + 1) L N1 ⟨by rw [s.1]; decide, by rw [s.1]; decide, by rw [s.1]; decide⟩
      rw [if_neg (by omega), p_xV, e1, p_xV] at e
      cases e
      rw [p_up_n _ _ _ _ _ _ (Or.inr (by decide)), p_up_n _ _ _ _ _ _ (Or.inr (by decide))]
    · have fa : am_up h 254 48 ((deep + 1 : Nat) : Int) 254 11 = 0 := by rw [p_up_n _ _ _ _ _ _ (Or.inr (by decide))]; exact N.fa
      rw [if_pos (by omega), D_17_17, fa, if_neg (by omega), N.nx, p_idx (by omega) (by omega), p_xV, p_xV, D_17_21, p_up_n _ _ _ _ 254 11 (Or.inr (by decide)), p_up_s, if_neg (by decide), p_xV] at e
      cases e
      rw [p_up_n _ _ _ _ _ _ (Or.inr (by decide)), p_up_n _ _ _ _ _ _ (Or.inr (by decide)), p_up_n _ _ _ _ _ _ (Or.inr (by decide)), p_up_n _ _ _ _ _ _ (Or.inr (by decide))]
  · obtain ⟨h', e1, -, -, l⟩ := mp_syn dd L N
    rw [if_pos s, e1, p_xV] at e
    cases e
    exact l
/-- an outcome goes on: what a fault leaves is known -/
theorem mo_bV2 {α β : Type} {L : Nat} {D : Option am_O} {g0 : am_H} {m m2 : Nat} {r : gx_R α} {Po : α → am_H → Prop} {k : am_H → Option am_O} {f : α → gx_R β} {ok : β → Option am_O → Prop}
    (hX : mo L D g0 m r (fun a D => ∃ h1, D = pV L h1 ∧ Po a h1)) (hb : ∀ e h1, D = pV L h1 → mp_B g0 m e h1 → ∃ h', k h1 = pV L h' ∧ mp_B g0 m2 e h') (hk : ∀ a h1, r = .inr a → Po a h1 → mo L (k h1) g0 m2 (f a) ok) : mo L (am_xV (zS L) D (am_up1 (zS L)) k) g0 m2 (gx_b r f) ok := by
  cases r with
  | inl e =>
    intro he
    obtain ⟨h', rfl, B⟩ := hX he
    rw [p_xV]
    exact hb e h' rfl B
  | inr a =>
    obtain ⟨h1, rfl, hp⟩ := hX
    rw [p_xV]
    exact hk a h1 rfl hp
/-- ( or [ : one level more -/
theorem mx_open (dd : Nat) {so c : Int} {α : Type} {F : Nat → gx_R α} {ok : α → Option am_O → Prop} (E : mp_E K V P Z g0 ls nt dv oc i deep st g h)
    (hk : ∀ h1, mp_E K V P Z g0 ((so, 0, h 292 ls.length) :: ls) 1 dv oc (i + 1) (deep + 1) st g h1 → h1 284 = h 284 → deep < 25 → mo L (mx_L d L h1) g0 4950 (F (i + 1)) ok) :
    mo L (am_xV (zS L) (am_D (dd + 6) 17 27 [am_r (am_a 254), am_i c] (zS L, h)) (am_up1 (zS L)) fun h24 => am_xV (zS L) (am_D (dd + 6) 17 42 [am_r (am_a 254), am_i so] (zS L, h24)) (am_up1 (zS L)) fun h25 => mx_L d L (am_up h25 254 61 1)) g0 4950 (gx_b (hx_opens K V P c deep i) F) ok := by
  have bd := E.1.bd
  refine mo_bV2 (mp_openSign (dd + 3) L E.1 c) ?_ ?_
  · intro e h1 eD B
    have lv := mp_open_lv L E.1 c (dd + 3) eD
    have hl2 := E.2.2.2.2.2
    obtain ⟨h2, e2, B2, -⟩ := mb_push (dd + 5) L B (by omega) (by rw [lv, E.2.1]; omega) so
    have B3 := B2.up 254 61 1 rfl rfl
    refine ⟨_, ?_, B3.le (by omega)⟩
    show am_xV (zS L) (am_D (dd + 6) 17 42 [am_r (am_a 254), am_i so] (zS L, h1)) (am_up1 (zS L)) (fun h25 => mx_L d L (am_up h25 254 61 1)) = _
    rw [e2, p_xV, mx_L_bad d L B3]
  · rintro j h1 - ⟨rfl, hdp, N1, eh⟩
    have hl2 := E.2.2.2.2.2
    have q1 : ∀ a k, a ≠ 254 → h1 a k = h a k := fun a k ha => by rw [eh, p_up_c _ _ _ _ _ ha, p_up_c _ _ _ _ _ ha]
    have E1 : mp_E K V P Z g0 ls nt dv oc (i + 1) (deep + 1) st g h1 := by
      refine ⟨N1, ?_, E.2.2.1.same (fun k _ => ⟨q1 290 k (by decide), q1 291 k (by decide), q1 292 k (by decide)⟩), ?_, ?_, by omega⟩
      · rw [eh, p_up_n _ _ _ _ _ _ (Or.inr (by decide)), p_up_n _ _ _ _ _ _ (Or.inr (by decide))]; exact E.2.1
      · rw [eh, p_up_n _ _ _ _ _ _ (Or.inr (by decide)), p_up_n _ _ _ _ _ _ (Or.inr (by decide))]; exact E.2.2.2.1
      · rw [eh, p_up_n _ _ _ _ _ _ (Or.inr (by decide)), p_up_n _ _ _ _ _ _ (Or.inr (by decide))]; exact E.2.2.2.2.1
    obtain ⟨e2, hE2⟩ := mp_push (dd + 5) L E1 so
    have E2 := (hE2 (deep + 1) N1 (by omega)).nt_ 1
    rw [e2, p_xV, q1 292 _ (by decide)] at *
    refine hk _ E2 ?_ hdp
    rw [p_up_c _ _ _ _ _ (by decide), p_up_c _ _ _ _ _ (by decide), p_up_c _ _ _ _ _ (by decide), p_up_c _ _ _ _ _ (by decide)]
    exact funext fun k => q1 284 k (by decide)
end
