/-! PURE LAYER, 46: the model's terms, all of them -/
section
variable {K V P : Nat → Int} {Z : Nat} {g0 : am_H} {oc : List Int} {i deep st : Nat} {g h : am_H} (d L : Nat) {ls : List (Int × Int × Int)} {nt dv : Int}
/-- isSign, if just the token at hand is known -/
theorem mp_isSign0 (h1 : h 254 10 = i) (h2 : i ≤ 1000) (h3 : h 257 i = mp_k (K i)) (h4 : 0 ≤ K i ∧ K i ≤ 7) (h5 : K i = 5 → h 260 i = V i) (c : Int) : am_D (d + 1) 17 19 [am_r (am_a 254), am_i c] (zS L, h) = pI L (pB (gx_sg K V c i)) h := by
  have hk := (mp_k_eq h4).2.2.2.2.1
  rw [D_17_19, h1, p_idx (by omega) (by omega), Int.toNat_natCast, p_idx (by omega) (by omega), Int.toNat_natCast, h3]
  by_cases k5 : K i = 5
  · rw [if_pos (hk.mpr k5), h5 k5]
    by_cases h2 : V i = c
    · rw [if_pos h2, p_bit1, pB_t (show gx_sg K V c i from ⟨k5, h2⟩)]
    · rw [if_neg h2, p_bit0, pB_f (show ¬ gx_sg K V c i from fun z => h2 z.2)]
  · rw [if_neg (fun z => k5 (hk.mp z)), p_bit0, pB_f (show ¬ gx_sg K V c i from fun z => k5 z.1)]
/-- a call without a point; the name stands at t -/
theorem mx_begin0 (dd : Nat) {f : Nat} (H2 : mx_H2 K V P Z g0 d L f) (hf : f ≤ 900000) {t : Nat} (ht : t ≤ 1001) {ty s : Int} {bs : List (Int × Int × Int × Int)} (E : mp_E K V P Z g0 ls nt dv oc i deep st g h) (hl : ls ≠ []) (hs : ¬ gx_sg K V 46 i) :
    mo L (am_xV (zS L) (am_D (dd + 6) 17 43 [am_r (am_a 254), am_i t] (zS L, h)) (am_up1 (zS L)) (mx_L d L)) g0 4950
      (gx_b (mi V (11, (t : Int), (t : Int), 0) (g, ty, s, bs, oc)) fun s1 => gx_b (hx_opens K V P 40 deep i) fun j3 => gx_b (he K V P (mi V) f 2 (deep + 1) st j3 s1) fun r => gx_b (mi V (12, (t : Int), (t : Int), (r.2.2.2 : Int)) r.2.2.1) fun s2 => .inr (r.1, r.2.1, s2, 0)) (mx_p0 K V P Z g0 d L ls dv oc deep (ty, s, bs, oc) h) := by
  have o2 := E.1.ok.2.1
  have o3 := E.1.ok.2.2.1
  show mo L _ g0 4950 (gx_b (ce_q (g 254 39 < 990) (gx_b (mi_add 9 (g 254 39) 0 0 (mi_call (-1) t g)) fun g1 => .inr (g1, ty, s, bs, g 254 39 :: oc))) _) _
  unfold ce_q
  by_cases hc : g 254 39 < 990
  · have N1 : mp_N K V P Z g0 (g 254 39 :: oc) i deep st (mi_call (-1) t g) (am_up (am_up (am_up (am_up (am_up h 254 39 (g 254 39 + 1)) 282 (g 254 39).toNat (-1)) 283 (g 254 39).toNat t) 284 (g 254 39).toNat 0) 289 (g 254 39).toNat (g 254 17 - 1)) := by
      refine E.1.call hc (by omega) (fun a k c1 c2 c3 c4 c5 => ?_) ?_ ?_ ?_ ?_
      · rw [p_up, if_neg c5, p_up, if_neg c4, p_up, if_neg c3, p_up, if_neg c2, p_up, if_neg c1]
      · simp [p_up]
      · simp [p_up]
      · simp [p_up]
      · simp [p_up]
    have E1 : mp_E K V P Z g0 ls nt dv (g 254 39 :: oc) i deep st (mi_call (-1) t g) (am_up (am_up (am_up (am_up (am_up h 254 39 (g 254 39 + 1)) 282 (g 254 39).toNat (-1)) 283 (g 254 39).toNat t) 284 (g 254 39).toNat 0) 289 (g 254 39).toNat (g 254 17 - 1)) := by
      refine ⟨N1, ?_, E.2.2.1.cell ?_ ?_ ?_, ?_, ?_, E.2.2.2.2.2⟩
      · simp [p_up]; exact E.2.1
      · funext k; simp [p_up]
      · funext k; simp [p_up]
      · funext k; simp [p_up]
      · simp [p_up]; exact E.2.2.2.1
      · simp [p_up]; exact E.2.2.2.2.1
    have hoc : g 254 39 ∉ oc := fun z => by have := (E.1.2.2.2.2.2.2.2.2.2 _ z).2.1; omega
    rw [if_pos hc, gx_b_assoc, D_17_43, E.1.eq 254 39 rfl rfl, p_idx (by omega) (by omega), p_idx (by omega) (by omega), p_idx (by omega) (by omega), p_idx (by omega) (by omega), p_w (x := g 254 39 + 1) (by omega) (by omega), E.1.eq 254 17 rfl rfl, p_w (x := g 254 17 - 1) (by omega) (by omega), mp_isSign (dd + 4) L N1, p_xI, if_pos (by rw [pB_f hs])]
    refine mo_imp (mx_b1 d L dd H2 hf (x1 := t) (t := ty) (s := s) (bs := bs) (ci := t) (cj := t) E1 hoc hl (by simp [p_up]) (by omega)) ?_
    rintro a - ⟨h6, u6, e6, E6, eq6, k6⟩
    refine ⟨h6, u6, e6, E6, eq6, fun c' hc' => ?_⟩
    have := (E.1.2.2.2.2.2.2.2.2.2 _ hc')
    rw [k6 c' hc', p_up_c _ _ _ _ _ (by decide), p_up_n _ _ _ _ _ _ (Or.inr (by omega)), p_up_c _ _ _ _ _ (by decide), p_up_c _ _ _ _ _ (by decide), p_up_c _ _ _ _ _ (by decide)]
  · rw [if_neg hc]; exact fun z => absurd z (by decide)
/-- a call with a point -/
theorem mx_begin1 (dd : Nat) {f : Nat} (H2 : mx_H2 K V P Z g0 d L f) (hf : f ≤ 900000) {t : Nat} (ht : t ≤ 1001) {ty s : Int} {bs : List (Int × Int × Int × Int)} (E : mp_E K V P Z g0 ls nt dv oc i deep st g h) (hl : ls ≠ []) (hs : gx_sg K V 46 i) :
    mo L (am_xV (zS L) (am_D (dd + 6) 17 43 [am_r (am_a 254), am_i t] (zS L, h)) (am_up1 (zS L)) (mx_L d L)) g0 4950
      (gx_b (hx_next i) fun j1 => gx_b (hx_name K P j1) fun j2 => gx_b (mi V (11, (t : Int), (j1 : Int), 1) (g, ty, s, bs, oc)) fun s1 => gx_b (hx_opens K V P 40 deep j2) fun j3 => gx_b (he K V P (mi V) f 2 (deep + 1) st j3 s1) fun r => gx_b (mi V (12, (t : Int), (j1 : Int), (r.2.2.2 : Int)) r.2.2.1) fun s2 => .inr (r.1, r.2.1, s2, 0)) (mx_p0 K V P Z g0 d L ls dv oc deep (ty, s, bs, oc) h) := by
  have lt := E.1.lt
  have o2 := E.1.ok.2.1
  have o3 := E.1.ok.2.2.1
  have hK : K i ≠ 0 ∧ K i ≠ 6 ∧ K i ≠ 7 := ⟨by rw [hs.1]; decide, by rw [hs.1]; decide, by rw [hs.1]; decide⟩
  obtain ⟨-, Eg⟩ := E.go d L hK
  have lt1 := Eg.1.lt
  -- the heap: the call is there, its names are not
  have hm : ∀ (b : Int) (k : Nat), am_up (am_up (am_up (am_up (am_up h 254 39 (g 254 39 + 1)) 282 (g 254 39).toNat (-1)) 283 (g 254 39).toNat b) 284 (g 254 39).toNat 0) 289 (g 254 39).toNat (g 254 17 - 1) 254 k = if k = 39 then g 254 39 + 1 else h 254 k := by
    intro b k; simp [p_up]
  have eD : am_D (dd + 6) 17 43 [am_r (am_a 254), am_i t] (zS L, h) = am_xI (zS L) (am_D (dd + 5) 17 24 [am_r (am_a 254)] (zS L, am_up (am_up (am_up (am_up (am_up (am_up (am_up h 254 39 (g 254 39 + 1)) 282 (g 254 39).toNat (-1)) 283 (g 254 39).toNat t) 284 (g 254 39).toNat 0) 289 (g 254 39).toNat (g 254 17 - 1)) 254 10 ((i + 1 : Nat) : Int)) 282 (g 254 39).toNat t)) (am_up1 (zS L)) fun v10 h9 => am_E (am_D (dd + 5)) m_17_43 (.inl 1) [some (am_r (am_a 254)), some (am_i t), some (am_i (g 254 39))] [] (zS L, am_up h9 283 (g 254 39).toNat v10) := by
    rw [D_17_43, E.1.eq 254 39 rfl rfl, p_idx (by omega) (by omega), p_idx (by omega) (by omega), p_idx (by omega) (by omega), p_idx (by omega) (by omega), p_w (x := g 254 39 + 1) (by omega) (by omega), E.1.eq 254 17 rfl rfl, p_w (x := g 254 17 - 1) (by omega) (by omega)]
    rw [mp_isSign0 (K := K) (V := V) (i := i) (dd + 4) L ((hm t 10).trans (show (if (10 : Nat) = 39 then g 254 39 + 1 else h 254 10) = i from E.1.nx)) lt (by simp [p_up]; exact E.1.kd) E.1.rg (by intro z; simp [p_up]; exact E.1.vl (by omega)), p_xI, if_neg (by rw [pB_t hs]; decide)]
    rw [D_17_21, (hm t 11).trans (show (if (11 : Nat) = 39 then g 254 39 + 1 else h 254 11) = 0 from E.1.fa), if_pos rfl, (hm t 10).trans (show (if (10 : Nat) = 39 then g 254 39 + 1 else h 254 10) = i from E.1.nx), p_w (by omega) (by omega), p_xV]
    simp only [p_idx (show 0 ≤ g 254 39 by omega) (show g 254 39 < ((1000 : Nat) : Int) by omega)]
    rfl
  rw [eD]
  show mo L _ g0 4950 (gx_b (hx_name K P (i + 1)) _) _
  by_cases k2 : K (i + 1) = 2
  · have en : hx_name K P (i + 1) = .inr (i + 2) := by unfold hx_name gx_if hx_next; rw [if_pos k2]
    rw [en, gx_b_inr]
    show mo L _ g0 4950 (gx_b (ce_q (g 254 39 < 990) (gx_b (mi_add 9 (g 254 39) 0 0 (mi_call t ((i + 1 : Nat) : Int) g)) fun g1 => .inr (g1, ty, s, bs, g 254 39 :: oc))) _) _
    unfold ce_q
    by_cases hc : g 254 39 < 990
    · have iz : i + 1 < Z := Eg.1.at_.2 (by rw [k2]; decide) (by rw [k2]; decide) (by rw [k2]; decide)
      have zz := E.1.tk.1
      -- first the name, then the rest
      have N0 : mp_N K V P Z g0 (g 254 39 :: oc) (i + 1) deep st (mi_call t t g) (am_up (am_up (am_up (am_up (am_up (am_up (am_up h 254 39 (g 254 39 + 1)) 282 (g 254 39).toNat (-1)) 283 (g 254 39).toNat t) 284 (g 254 39).toNat 0) 289 (g 254 39).toNat (g 254 17 - 1)) 254 10 ((i + 1 : Nat) : Int)) 282 (g 254 39).toNat t) := by
        refine Eg.1.call hc (by omega) (fun a k c1 c2 c3 c4 c5 => ?_) ?_ ?_ ?_ ?_
        · rw [p_up, if_neg c2, p_up]
          by_cases c6 : a = 254 ∧ k = 10
          · rw [if_pos c6, c6.1, c6.2, p_up_s]
          · rw [if_neg c6, p_up, if_neg c5, p_up, if_neg c4, p_up, if_neg c3, p_up, if_neg c2, p_up, if_neg c1, p_up, if_neg c6]
        · simp [p_up]
        · simp [p_up]
        · simp [p_up]
        · simp [p_up]
      rcases mp_needName (dd + 2) L N0 with ⟨-, e1, N1⟩ | ⟨n2, -⟩
      · rw [if_pos hc, gx_b_assoc, e1, p_xI]
        have N2 : mp_N K V P Z g0 (g 254 39 :: oc) (i + 2) deep st (mi_call t ((i + 1 : Nat) : Int) g) (am_up (am_up (am_up (am_up (am_up (am_up (am_up (am_up (am_up h 254 39 (g 254 39 + 1)) 282 (g 254 39).toNat (-1)) 283 (g 254 39).toNat t) 284 (g 254 39).toNat 0) 289 (g 254 39).toNat (g 254 17 - 1)) 254 10 ((i + 1 : Nat) : Int)) 282 (g 254 39).toNat t) 254 10 ((i + 1 + 1 : Nat) : Int)) 283 (g 254 39).toNat ((i + 1 : Nat) : Int)) := by
          obtain ⟨-, Eg2⟩ := Eg.go d L ⟨by rw [k2]; decide, by rw [k2]; decide, by rw [k2]; decide⟩
          refine Eg2.1.call hc (by omega) (fun a k c1 c2 c3 c4 c5 => ?_) ?_ ?_ ?_ ?_
          · rw [p_up, if_neg c3, p_up]
            by_cases c6 : a = 254 ∧ k = 10
            · rw [if_pos c6, c6.1, c6.2, p_up_s]
            · rw [if_neg c6, p_up, if_neg c2, p_up, if_neg c6, p_up, if_neg c5, p_up, if_neg c4, p_up, if_neg c3, p_up, if_neg c2, p_up, if_neg c1, p_up, if_neg c6, p_up, if_neg c6]
          · simp [p_up]
          · simp [p_up]
          · simp [p_up]
          · simp [p_up]
        have E2 : mp_E K V P Z g0 ls nt dv (g 254 39 :: oc) (i + 2) deep st (mi_call t ((i + 1 : Nat) : Int) g) (am_up (am_up (am_up (am_up (am_up (am_up (am_up (am_up (am_up h 254 39 (g 254 39 + 1)) 282 (g 254 39).toNat (-1)) 283 (g 254 39).toNat t) 284 (g 254 39).toNat 0) 289 (g 254 39).toNat (g 254 17 - 1)) 254 10 ((i + 1 : Nat) : Int)) 282 (g 254 39).toNat t) 254 10 ((i + 1 + 1 : Nat) : Int)) 283 (g 254 39).toNat ((i + 1 : Nat) : Int)) := by
          refine ⟨N2, ?_, E.2.2.1.cell ?_ ?_ ?_, ?_, ?_, E.2.2.2.2.2⟩
          · simp [p_up]; exact E.2.1
          · funext k; simp [p_up]
          · funext k; simp [p_up]
          · funext k; simp [p_up]
          · simp [p_up]; exact E.2.2.2.1
          · simp [p_up]; exact E.2.2.2.2.1
        have hoc : g 254 39 ∉ oc := fun z => by have := (E.1.2.2.2.2.2.2.2.2.2 _ z).2.1; omega
        refine mo_imp (mx_b1 d L dd H2 hf (x1 := t) (t := ty) (s := s) (bs := bs) (ci := t) (cj := ((i + 1 : Nat) : Int)) E2 hoc hl (by simp [p_up]) (by omega)) ?_
        rintro a - ⟨h6, u6, e6, E6, eq6, k6⟩
        refine ⟨h6, u6, e6, E6, eq6, fun c' hc' => ?_⟩
        have := (E.1.2.2.2.2.2.2.2.2.2 _ hc')
        rw [k6 c' hc', p_up_c _ _ _ _ _ (by decide), p_up_c _ _ _ _ _ (by decide), p_up_c _ _ _ _ _ (by decide), p_up_c _ _ _ _ _ (by decide), p_up_c _ _ _ _ _ (by decide), p_up_n _ _ _ _ _ _ (Or.inr (by omega)), p_up_c _ _ _ _ _ (by decide), p_up_c _ _ _ _ _ (by decide), p_up_c _ _ _ _ _ (by decide)]
      · exact absurd k2 n2
    · rw [if_neg hc]; exact fun z => absurd z (by decide)
  · have en : hx_name K P (i + 1) = .inl (hx_sx K P (i + 1)) := by unfold hx_name gx_if hx_next; rw [if_neg k2]
    rw [en]
    intro _
    have kq := mp_k_eq Eg.1.rg
    -- no name
    have hh : ∀ a k, a ≠ 254 → a ≠ 282 → a ≠ 283 → a ≠ 284 → a ≠ 289 → am_up (am_up (am_up (am_up (am_up (am_up (am_up h 254 39 (g 254 39 + 1)) 282 (g 254 39).toNat (-1)) 283 (g 254 39).toNat t) 284 (g 254 39).toNat 0) 289 (g 254 39).toNat (g 254 17 - 1)) 254 10 ((i + 1 : Nat) : Int)) 282 (g 254 39).toNat t a k = h a k := by
      intro a k c1 c2 c3 c4 c5
      rw [p_up_c _ _ _ _ _ c2, p_up_c _ _ _ _ _ c1, p_up_c _ _ _ _ _ c5, p_up_c _ _ _ _ _ c4, p_up_c _ _ _ _ _ c3, p_up_c _ _ _ _ _ c2, p_up_c _ _ _ _ _ c1]
    have h254 : ∀ k, am_up (am_up (am_up (am_up (am_up (am_up (am_up h 254 39 (g 254 39 + 1)) 282 (g 254 39).toNat (-1)) 283 (g 254 39).toNat t) 284 (g 254 39).toNat 0) 289 (g 254 39).toNat (g 254 17 - 1)) 254 10 ((i + 1 : Nat) : Int)) 282 (g 254 39).toNat t 254 k = if k = 10 then ((i + 1 : Nat) : Int) else if k = 39 then g 254 39 + 1 else h 254 k := by
      intro k; simp [p_up]
    have pre : mp_pre g0 (am_up (am_up (am_up (am_up (am_up (am_up (am_up h 254 39 (g 254 39 + 1)) 282 (g 254 39).toNat (-1)) 283 (g 254 39).toNat t) 284 (g 254 39).toNat 0) 289 (g 254 39).toNat (g 254 17 - 1)) 254 10 ((i + 1 : Nat) : Int)) 282 (g 254 39).toNat t) := by
      obtain ⟨b1, b2, b3, b4, b5, b6, b7, b8, b9, b10⟩ := E.1.pre
      refine ⟨((((((b1.upf _ _ _ rfl).upc _ _ _ rfl).upc _ _ _ rfl).upc _ _ _ rfl).upc _ _ _ rfl).upf _ _ _ rfl).upc _ _ _ rfl, ?_⟩
      simp only [h254]
      simp
      rw [E.1.eq 254 39 rfl rfl] at b5
      refine ⟨b2, by omega, b4, by omega, b6, b7, b8, b9, b10⟩
    have kd1 : h 257 (i + 1) = mp_k (K (i + 1)) := by have := Eg.1.kd; rwa [p_up_c _ _ _ _ _ (by decide)] at this
    have pl1 : h 258 (i + 1) = P (i + 1) := by have := Eg.1.pl; rwa [p_up_c _ _ _ _ _ (by decide)] at this
    have es : ∃ h2, am_D (dd + 4) 17 18 [am_r (am_a 254)] (zS L, am_up (am_up (am_up (am_up (am_up (am_up (am_up h 254 39 (g 254 39 + 1)) 282 (g 254 39).toNat (-1)) 283 (g 254 39).toNat t) 284 (g 254 39).toNat 0) 289 (g 254 39).toNat (g 254 17 - 1)) 254 10 ((i + 1 : Nat) : Int)) 282 (g 254 39).toNat t) = pV L h2 ∧ mp_B g0 4900 (hx_sx K P (i + 1)) h2 := by
      rw [D_17_18, h254, if_pos rfl, p_idx (by omega) (by omega), Int.toNat_natCast, hh 257 _ (by decide) (by decide) (by decide) (by decide) (by decide), kd1]
      unfold hx_sx
      by_cases c7 : K (i + 1) = 7
      · obtain ⟨h2, e2, B2⟩ := mp_wrong0 (dd + 2) L pre 2 (by decide) (i + 1) (by omega)
        rw [hh 258 _ (by decide) (by decide) (by decide) (by decide) (by decide), pl1] at B2
        rw [if_pos (kq.2.2.2.2.2.2.mpr c7), if_pos c7, e2, p_xV]; exact ⟨h2, rfl, B2⟩
      · obtain ⟨h2, e2, B2⟩ := mp_wrong0 (dd + 2) L pre 1 (by decide) (i + 1) (by omega)
        rw [hh 258 _ (by decide) (by decide) (by decide) (by decide) (by decide), pl1] at B2
        rw [if_neg (fun z => c7 (kq.2.2.2.2.2.2.mp z)), if_neg c7, e2, p_xV]; exact ⟨h2, rfl, B2⟩
    obtain ⟨h2, e2, B2⟩ := es
    have b1 := B2.2.1
    have B3 := B2.up 283 (g 254 39).toNat 0 rfl rfl
    rw [D_17_24, h254, if_pos rfl, p_idx (by omega) (by omega), Int.toNat_natCast, hh 257 _ (by decide) (by decide) (by decide) (by decide) (by decide), kd1, if_neg (fun z => k2 (kq.2.1.mp z)), e2, p_xV, if_neg (by rw [B2.2.2.1]; omega), p_xI, q_17_43_1, if_pos (by rw [B3.2.2.1]; exact b1), p_xV, mx_L_bad d L B3]
    exact ⟨_, rfl, B3.le (by omega)⟩
end
