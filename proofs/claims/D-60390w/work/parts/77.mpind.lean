/-! PURE LAYER, 47: the model's expressions -/
theorem mi_6 (V : Nat → Int) (i : Int) (g : am_H) (q : Int × Int × List (Int × Int × Int × Int) × List Int) : mi V (6, i, 0, 0) (g, q) = mi_h (g, q) (mi_add 4 0 0 i g) := rfl
theorem mi_7 (V : Nat → Int) (g : am_H) (q : Int × Int × List (Int × Int × Int × Int) × List Int) : mi V (7, 0, 0, 0) (g, q) = mi_h (g, q) (mi_add 5 0 0 0 g) := rfl
theorem mi_9 (V : Nat → Int) (g : am_H) (q : Int × Int × List (Int × Int × Int × Int) × List Int) : mi V (9, 0, 0, 0) (g, q) = mi_h (g, q) (mi_add 7 0 0 0 g) := rfl
theorem mi_10 (V : Nat → Int) (g : am_H) (q : Int × Int × List (Int × Int × Int × Int) × List Int) : mi V (10, 0, 0, 0) (g, q) = mi_h (g, q) (mi_add 8 0 0 0 g) := rfl
theorem hx_opens_sg {K V P : Nat → Int} {c : Int} {deep i : Nat} (h : gx_sg K V c i) : hx_open P deep i = hx_opens K V P c deep i := by
  unfold hx_opens gx_if; rw [if_pos h]
section
variable {K V P : Nat → Int} {Z : Nat} {g0 : am_H} {oc : List Int} {i deep st : Nat} {g h : am_H} (d L : Nat) {ls : List (Int × Int × Int)} {nt dv : Int}
theorem mx_term {f : Nat} (hf : f ≤ 900000) (HT : mx_HT K V P Z g0 d L f) (H1 : mx_H1 K V P Z g0 d L f) (H2 : mx_H2 K V P Z g0 d L f) : mx_HT K V P Z g0 d L (f + 1) := by
  intro ls dv oc deep st i g h q E hl hq
  by_cases pl : K i = 3 ∨ K i = 4 ∨ K i = 1
  · exact mx_plain d L E hl f pl
  have k3 : ¬ K i = 3 := fun z => pl (Or.inl z)
  have k4 : ¬ K i = 4 := fun z => pl (Or.inr (Or.inl z))
  have k1 : ¬ K i = 1 := fun z => pl (Or.inr (Or.inr z))
  have lt := E.1.lt
  have bd := E.1.bd
  have kq := mp_k_eq E.1.rg
  have E0 := E.nt_ 0
  have e61 : am_up h 254 61 0 284 = h 284 := p_up_c _ _ _ _ _ (by decide)
  have e292 : am_up h 254 61 0 292 = h 292 := p_up_c _ _ _ _ _ (by decide)
  have eL := mx_L_term d L E (by decide) hl
  have hll := E.2.2.2.2.2
  have i1 : ∀ kk : Nat → Option am_O, am_idx (h 254 10) 2002 kk = kk i := by
    intro kk; rw [E.1.nx, p_idx (by omega) (by omega), Int.toNat_natCast]
  have eD0 := D_17_47 (d + 7) L h
  have nw : ∀ c : Int, ¬ gx_wd K V c i := fun c z => k1 z.1
  rw [p_bit0, i1, E.1.kd, if_neg (fun z => k3 (kq.2.2.1.mp z)), i1, E.1.kd, if_neg (fun z => k4 (kq.2.2.2.1.mp z)), mp_isWord (d + 6) L E0.1, p_xI, if_pos (by rw [pB_f (nw 11)]), mp_isWord (d + 6) L E0.1, p_xI, if_pos (by rw [pB_f (nw 12)]), mp_isWord (d + 6) L E0.1, p_xI, if_pos (by rw [pB_f (nw 13)]), mp_isWord (d + 6) L E0.1, p_xI, if_pos (by rw [pB_f (nw 14)]), mp_isSign (d + 6) L E0.1, p_xI, E.1.nx] at eD0
  rw [he, if_neg k3, if_neg k4, if_neg k1]
  by_cases k2 : K i = 2
  · -- a name
    have ns : ∀ c : Int, ¬ gx_sg K V c i := fun c z => by have := z.1; omega
    have hK : K i ≠ 0 ∧ K i ≠ 6 ∧ K i ≠ 7 := ⟨by rw [k2]; decide, by rw [k2]; decide, by rw [k2]; decide⟩
    obtain ⟨e1, E1⟩ := E0.go (d + 6) L hK
    rw [if_pos (by rw [pB_f (ns 40)]), mp_isSign (d + 6) L E0.1, p_xI, if_pos (by rw [pB_f (ns 45)]), mp_isSign (d + 6) L E0.1, p_xI, if_pos (by rw [pB_f (ns 126)]), E0.1.nx, p_idx (by omega) (by omega), Int.toNat_natCast, E0.1.kd, if_pos (kq.2.1.mpr k2), e1, p_xV] at eD0
    have k284 : am_up (am_up h 254 61 0) 254 10 ((i + 1 : Nat) : Int) 284 = h 284 := by rw [p_up_c _ _ _ _ _ (by decide)]; exact e61
    rw [if_pos k2, eL, eD0]
    show mo L _ g0 4950 (if gx_sg K V 91 (i + 1) then _ else _) _
    generalize am_up (am_up h 254 61 0) 254 10 ((i + 1 : Nat) : Int) = h1 at E1 k284
    rw [D_17_48, mp_isSign (d + 5) L E1.1, p_xI]
    simp only [pB_0]
    obtain ⟨ty, s, bs, oc'⟩ := q
    have hq : oc' = oc := hq
    subst hq
    by_cases s46 : gx_sg K V 46 (i + 1)
    · have s91 : ¬ gx_sg K V 91 (i + 1) := fun z => by have a := z.2; have b := s46.2; omega
      rw [if_neg (fun z => z s46), if_neg s91, if_pos s46, p_xVV, p_xVV]
      simp only [p_xV]
      refine mo_imp (mx_begin1 d L d H2 hf (t := i) (by omega) E1 hl s46) ?_
      rintro a - ⟨h6, u6, e6, E6, eq6, k6⟩
      exact ⟨h6, u6, e6, E6, eq6, fun c' hc' => by rw [k6 c' hc', k284]⟩
    · rw [if_pos s46, mp_isSign (d + 5) L E1.1, p_xI]
      simp only [pB_0]
      by_cases s40 : gx_sg K V 40 (i + 1)
      · have s91 : ¬ gx_sg K V 91 (i + 1) := fun z => by have a := z.2; have b := s40.2; omega
        rw [if_neg (fun z => z s40), if_neg s91, if_neg s46, if_pos s40, p_xVV, p_xVV, hx_opens_sg s40]
        simp only [p_xV]
        refine mo_imp (mx_begin0 d L d H2 hf (t := i) (by omega) E1 hl s46) ?_
        rintro a - ⟨h6, u6, e6, E6, eq6, k6⟩
        exact ⟨h6, u6, e6, E6, eq6, fun c' hc' => by rw [k6 c' hc', k284]⟩
      · rw [if_pos s40]
        by_cases s91 : gx_sg K V 91 (i + 1)
        · rw [if_pos s91, mi_6, hx_opens_sg s91, p_xVV, p_xVI]
          refine mn_add (d + 5) L E1.1 4 0 0 i i (fun _ => rfl) (by omega) (fun h2 N2 f2 => ?_)
          have E2 := E1.fr N2 f2
          rw [mp_isSign (d + 5) L N2, p_xI, if_neg (by rw [pB_t s91]; decide)]
          simp only [p_xVV, p_bit1, p_xV]
          refine mx_open d L d (so := 2) E2 (fun h3 E3 k3' hdp => ?_)
          refine mo_bD (HT _ dv oc' (deep + 1) st (i + 1 + 1) _ h3 (ty, s, bs, oc') E3 (by simp) rfl) ?_
          rintro ⟨a1, a2, ⟨g4, q4⟩, a4⟩ - ⟨h4, u4, e4, E4, eq4, k4'⟩
          have eq4 : q4 = (ty, s, bs, oc') := eq4
          subst eq4
          rw [e4]
          refine mo_bD (H1 _ ls dv oc' (deep + 1) a2 a1 g4 h4 u4 (ty, s, bs, oc') E4 (show (2 : Int) ≠ 4 by decide) rfl (fun z => absurd (show (2 : Int) = 0 from z.1) (by decide)) rfl) ?_
          rintro ⟨b1, b2, ⟨g5, q5⟩, b4⟩ - ⟨h5, u5, e5, ⟨E5, eq5, k5⟩, no5⟩
          have eq5 : q5 = (ty, s, bs, oc') := eq5
          subst eq5
          rw [e5]
          show mo L _ g0 4950 (gx_b (hx_sign K V P 93 b1) fun j2 => gx_b (mi V (7, 0, 0, 0) (g5, ty, s, bs, oc')) fun s2 => .inr (j2, b2, s2, 0)) _
          rw [mi_7]
          refine mx_B_idx d L (q := (ty, s, bs, oc')) (F := fun j2 s2 => .inr (j2, b2, s2, 0)) E5 hl hll no5 (fun j6 h6 u6 E6 k6 => ?_)
          refine ⟨h6, u6, rfl, E6, rfl, fun c' hc' => ?_⟩
          rw [k6, k5 c' hc', k4' c' hc', k3', f2 284 _ (by decide) (by decide) (by decide) (by decide) (by decide) (by simp), k284]
        · rw [if_neg s91, if_neg s46, if_neg s40, mi_6, p_xVV, p_xVI]
          refine mn_add (d + 5) L E1.1 4 0 0 i i (fun _ => rfl) (by omega) (fun h2 N2 f2 => ?_)
          have E2 := E1.fr N2 f2
          rw [mp_isSign (d + 5) L N2, p_xI, if_pos (by rw [pB_f s91]), p_xV, p_xV, mx_L_behind d L E2 rfl hl]
          exact ⟨h2, none, rfl, E2, rfl, fun c' hc' => by rw [f2 284 _ (by decide) (by decide) (by decide) (by decide) (by decide) (by simp), k284]⟩
  rw [if_neg k2]
  by_cases s40 : gx_sg K V 40 i
  · rw [if_neg (by rw [pB_t s40]; decide)] at eD0
    rw [if_pos s40, eL, eD0, hx_opens_sg s40]
    simp only [p_xVV, p_bit1, p_xV]
    refine mx_open d L (d + 1) (so := 1) E0 (fun h3 E3 k3' hdp => ?_)
    refine mo_bD (HT _ dv oc (deep + 1) st (i + 1) g h3 q E3 (by simp) hq) ?_
    rintro ⟨a1, a2, ⟨g4, q4⟩, a4⟩ - ⟨h4, u4, e4, E4, eq4, k4'⟩
    have eq4 : q4 = q := eq4
    subst eq4
    rw [e4]
    refine mo_bD (H1 _ ls dv oc (deep + 1) a2 a1 g4 h4 u4 q4 E4 (show (1 : Int) ≠ 4 by decide) rfl (fun z => absurd (show (1 : Int) = 0 from z.1) (by decide)) hq) ?_
    rintro ⟨b1, b2, ⟨g5, q5⟩, b4⟩ - ⟨h5, u5, e5, ⟨E5, eq5, k5⟩, no5⟩
    have eq5 : q5 = q4 := eq5
    subst eq5
    rw [e5]
    refine mx_B_par d L E5 hl hll no5 (fun j6 h6 u6 E6 k6 => ?_)
    exact ⟨h6, u6, rfl, E6, rfl, fun c' hc' => by rw [k6, k5 c' hc', k4' c' hc', k3', e61]⟩
  rw [if_pos (by rw [pB_f s40]), mp_isSign (d + 6) L E0.1, p_xI] at eD0
  rw [if_neg s40, eL, eD0]
  simp only [pB_0]
  have un : (gx_sg K V 45 i ∨ gx_sg K V 126 i) → mo L (am_xV (zS L) (am_E (am_D (d + 7)) m_17_47 (.inl 9) [some (am_r (am_a 254)), some (am_i i)] [] (zS L, am_up h 254 61 0)) (am_up1 (zS L)) (mx_L d L)) g0 4950 (gx_if (gx_sg K V 45 i ∨ gx_sg K V 126 i) (hx_sx K P i) (gx_b (hx_open P deep i) fun j1 => gx_b (he K V P (mi V) f 0 (deep + 1) st j1 (g, q)) fun r1 => gx_b (mi V (if V i = 45 then 9 else 10, 0, 0, 0) r1.2.2.1) fun s2 => .inr (r1.1, r1.2.1, s2, 0))) (mx_p0 K V P Z g0 d L ls dv oc deep q h) := by
    intro hs
    unfold gx_if
    rw [if_pos hs]
    refine mx_unary d L E0 hs (fun h3 E3 k3' hdp => ?_)
    refine mo_bD (HT _ dv oc (deep + 1) st (i + 1) g h3 q E3 (by simp) hq) ?_
    rintro ⟨a1, a2, ⟨g4, q4⟩, a4⟩ - ⟨h4, u4, e4, E4, eq4, k4'⟩
    have eq4 : q4 = q := eq4
    subst eq4
    rw [e4]
    dsimp only
    have em : mi V (if V i = 45 then 9 else 10, 0, 0, 0) (g4, q4) = mi_h (g4, q4) (mi_add (if V i = 45 then 7 else 8) 0 0 0 g4) := by
      by_cases c : V i = 45
      · simp only [if_pos c]; exact mi_9 V g4 q4
      · simp only [if_neg c]; exact mi_10 V g4 q4
    rw [em]
    refine mx_B_sign (x := (4, 0, if V i = 45 then 7 else 8)) (q := q4) d L E4 rfl (by show ¬ mp_rel (if V i = 45 then 7 else 8); unfold mp_rel; split <;> decide) hll (fun h5 u5 E5 k5 => ?_)
    exact ⟨h5, u5, rfl, E5, rfl, fun c' hc' => by rw [k5, k4' c' hc', k3', e61]⟩
  by_cases s45 : gx_sg K V 45 i
  · rw [if_neg (fun z => z s45)]; exact un (Or.inl s45)
  · rw [if_pos s45, mp_isSign (d + 6) L E0.1, p_xI]
    simp only [pB_0]
    by_cases s126 : gx_sg K V 126 i
    · rw [if_neg (fun z => z s126)]; exact un (Or.inr s126)
    · rw [if_pos s126, E0.1.nx, p_idx (by omega) (by omega), Int.toNat_natCast, E0.1.kd, if_neg (fun z => k2 (kq.2.1.mp z))]
      unfold gx_if
      rw [if_neg (fun z => z.elim s45 s126)]
      intro _
      obtain ⟨h5, e5, B5⟩ := mp_syntax (d + 5) L E0.1
      rw [e5, p_xV, p_xV, mx_L_bad d L B5]
      exact ⟨h5, rfl, B5.le (by omega)⟩
theorem mx_all : ∀ f : Nat, f ≤ 900000 → mx_HT K V P Z g0 d L f ∧ mx_H1 K V P Z g0 d L f ∧ mx_H2 K V P Z g0 d L f ∧ mx_H3 K V P Z g0 d L f
  | 0, _ => ⟨fun _ _ _ _ _ _ _ _ _ _ _ _ z => absurd z (by decide), fun _ _ _ _ _ _ _ _ _ _ _ _ _ _ _ _ z => absurd z (by decide), fun _ _ _ _ _ _ _ _ _ _ _ _ _ _ _ _ _ _ _ _ _ _ z => absurd z (by decide), fun c ls dv oc deep st i n g h u t s bs ci cj _ _ _ _ _ _ _ => by
      rw [he]; exact fun z => absurd z (by decide)⟩
  | f + 1, hf => by
    obtain ⟨a, b, c, e⟩ := mx_all f (by omega)
    exact ⟨mx_term d L (by omega) a b c, mx_more d L a b, mx_args0 d L a b e, mx_args d L a b e⟩
end
