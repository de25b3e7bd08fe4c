/-! PURE LAYER, 45: the model's calls begin; terms, all of them -/
/-- what follows the ( of a call -/
noncomputable def mx_D2 (d L : Nat) (h : am_H) : Option am_O := am_xI (zS L) (am_D (d + 5) 17 19 [am_r (am_a 254), am_i 41] (zS L, h)) (am_up1 (zS L)) fun v7 h6 => if (v7 : Int) = 0 then am_bit 1 (if (1 : Int) = 0 then am_xV (zS L) (am_D (d + 5) 17 44 [am_r (am_a 254)] (zS L, (am_up h6 254 61 (1)))) (am_up1 (zS L)) fun h9 => some (.inl none, (zS L, h9)) else some (.inl none, (zS L, (am_up h6 254 61 (1))))) else am_bit 0 (if (0 : Int) = 0 then am_xV (zS L) (am_D (d + 5) 17 44 [am_r (am_a 254)] (zS L, (am_up h6 254 61 (0)))) (am_up1 (zS L)) fun h8 => some (.inl none, (zS L, h8)) else some (.inl none, (zS L, (am_up h6 254 61 (0)))))
section
variable (K V P : Nat → Int) (Z : Nat) (g0 : am_H) (d L : Nat)
def mx_H2 (f : Nat) : Prop := ∀ (dd : Nat) (c : Int) (ls : List (Int × Int × Int)) (nt dv : Int) (oc : List Int) (deep st i : Nat) (g h : am_H) (t s : Int) (bs : List (Int × Int × Int × Int)) (ci cj : Int), mp_E K V P Z g0 ((3, 0, c) :: ls) nt dv (c :: oc) i (deep + 1) st g h → c ∉ oc → ls ≠ [] → ls.length ≤ deep + 1 → h 284 c.toNat = 0 → f ≤ 900000 →
  mo L (am_xV (zS L) (mx_D2 dd L h) (am_up1 (zS L)) (mx_L d L)) g0 4950 (gx_b (he K V P (mi V) f 2 (deep + 1) st i (g, t, s, bs, c :: oc)) fun r => gx_b (mi V (12, ci, cj, (r.2.2.2 : Int)) r.2.2.1) fun s2 => .inr (r.1, r.2.1, s2, 0)) (mx_p0 K V P Z g0 d L ls dv oc deep (t, s, bs, oc) h)
end
section
variable {K V P : Nat → Int} {Z : Nat} {g0 : am_H} {oc : List Int} {i deep st : Nat} {g h : am_H} (d L : Nat) {ls : List (Int × Int × Int)} {nt dv : Int}
theorem mx_args0 {f : Nat} (HT : mx_HT K V P Z g0 d L f) (H1 : mx_H1 K V P Z g0 d L f) (H3 : mx_H3 K V P Z g0 d L f) : mx_H2 K V P Z g0 d L (f + 1) := by
  intro dd c ls nt dv oc deep st i g h t s bs ci cj E hoc hl hll hn hf
  unfold mx_D2
  rw [mp_isSign (dd + 4) L E.1, p_xI, he]
  simp only [pB_0]
  by_cases sg : gx_sg K V 41 i
  · rw [if_neg (fun z => z sg), if_pos sg, p_bit0, if_pos trivial, p_xVV]
    show mo L _ g0 4950 (gx_b (mi V (12, ci, cj, ((0 : Nat) : Int)) (g, t, s, bs, c :: oc)) fun s2 => .inr (i + 1, st, s2, 0)) _
    rw [mi_12]
    unfold mi_add ce_q
    rw [p_up_c _ _ _ _ 254 (by decide)]
    by_cases hi : g 254 33 < 4900
    · have E1 := E.nt_ 0
      rcases mx_close dd L E1 (n := 0) (by rw [p_up_c _ _ _ _ _ (by decide)]; exact hn) hll with ⟨-, hc⟩ | ⟨hc, -⟩
      · obtain ⟨h1, e1, E2, k2⟩ := hc hi
        rw [if_pos hi, e1, p_xV, p_xV, mx_L_behind d L E2 rfl hl]
        exact ⟨h1, none, rfl, E2, rfl, fun c' hc' => by rw [k2, p_up_c _ _ _ _ _ (by decide)]⟩
      · exact absurd sg hc
    · rw [if_neg hi]; exact fun z => absurd z (by decide)
  · rw [if_pos sg, if_neg sg, p_bit1, if_neg (by decide), p_xV, gx_b_assoc]
    have E1 := E.nt_ 1
    refine mo_bD (HT ((3, 0, c) :: ls) dv (c :: oc) (deep + 1) st i g _ (t, s, bs, c :: oc) E1 (by simp) rfl) ?_
    rintro ⟨a1, a2, ⟨g2, q2⟩, a4⟩ - ⟨h2, u2, e2, E4, eq, k2⟩
    have eq : q2 = (t, s, bs, c :: oc) := eq
    subst eq
    rw [gx_b_assoc, e2]
    refine mo_bD (H1 (3, 0, c) ls dv (c :: oc) (deep + 1) a2 a1 g2 h2 u2 (t, s, bs, c :: oc) E4 (show (3 : Int) ≠ 4 by decide) rfl (fun z => absurd (show (3 : Int) = 0 from z.1) (by decide)) rfl) ?_
    rintro ⟨b1, b2, ⟨g3, q3⟩, b4⟩ - ⟨h3, u3, e3, ⟨E5, eq3, k3⟩, no3⟩
    have eq3 : q3 = (t, s, bs, c :: oc) := eq3
    subst eq3
    have k5 : ∀ c' ∈ c :: oc, h3 284 c'.toNat = h 284 c'.toNat := by
      intro c' hc'
      rw [k3 c' hc', k2 c' hc', p_up_c _ _ _ _ _ (by decide)]
    rw [gx_b_assoc, e3]
    have t3 := H3 c ls dv oc deep b2 b1 0 g3 h3 u3 t s bs ci cj E5 no3 hoc hl hll (by rw [k5 c List.mem_cons_self, hn]; rfl) (by omega)
    have ef : (gx_b (he K V P (mi V) f 3 (deep + 1) b2 b1 (g3, t, s, bs, c :: oc)) fun r3 => gx_b (.inr (r3.1, r3.2.1, r3.2.2.1, r3.2.2.2 + 1)) fun r => gx_b (mi V (12, ci, cj, (r.2.2.2 : Int)) r.2.2.1) fun s2 => (.inr (r.1, r.2.1, s2, 0) : gx_R (Nat × Nat × mi_S × Nat))) = gx_b (he K V P (mi V) f 3 (deep + 1) b2 b1 (g3, t, s, bs, c :: oc)) fun r => gx_b (mi V (12, ci, cj, ((0 : Nat) : Int) + 1 + (r.2.2.2 : Int)) r.2.2.1) fun s2 => .inr (r.1, r.2.1, s2, 0) := by
      congr 1
      funext r
      rw [gx_b_inr]
      dsimp only
      rw [show ((r.2.2.2 + 1 : Nat) : Int) = ((0 : Nat) : Int) + 1 + (r.2.2.2 : Int) by omega]
    rw [ef]
    refine mo_imp t3 ?_
    rintro a - ⟨h6, u6, e6, E6, eq6, k6⟩
    exact ⟨h6, u6, e6, E6, eq6, fun c' hc' => by rw [k6 c' hc', k5 c' (List.mem_cons_of_mem _ hc')]⟩
/-- closeCall() behind a fault -/
theorem mb_closeCall {m : Nat} {e : Int × Int} (B : mp_B g0 m e h) (hm : m ≤ 4950) (h1 : 1 ≤ h 254 51 ∧ h 254 51 ≤ 64) (hc : 0 ≤ h 292 (h 254 51 - 1).toNat ∧ h 292 (h 254 51 - 1).toNat < 1000) : ∃ h', am_D (d + 5) 17 44 [am_r (am_a 254)] (zS L, h) = pV L h' ∧ mp_B g0 (m + 2) e h' := by
  obtain ⟨h2, e2, B2, q2⟩ := mb_closeSign d L B (by omega) 41
  have b9 := B2.2.2.2.2.2.2.2.2.1
  have l2 : h2 254 51 = h 254 51 := q2 254 51 (by simp)
  have B3 := B2.lv (m2 := m + 1) (h 254 51 - 1) (by omega) (by omega)
  rw [D_17_44, e2, p_xV, l2, p_w (by omega) (by omega), p_idx (by omega) (by omega), p_idx (by omega) (by omega), q2 292 _ (by simp), p_idx (by omega) (by omega)]
  obtain ⟨h4, e4, B4, -⟩ := mb_add (d + 3) L B3 (by omega) 10 (h 292 (h 254 51 - 1).toNat) 0 (h2 283 (h 292 (h 254 51 - 1).toNat).toNat)
  rw [e4, p_xI]
  exact ⟨h4, rfl, B4⟩
/-- block 1 of beginCall: the call is there -/
theorem mx_b1 (dd : Nat) {f : Nat} (H2 : mx_H2 K V P Z g0 d L f) (hf : f ≤ 900000) {c x1 : Int} {t s : Int} {bs : List (Int × Int × Int × Int)} {ci cj : Int} (E : mp_E K V P Z g0 ls nt dv (c :: oc) i deep st g h) (hoc : c ∉ oc) (hl : ls ≠ []) (hn : h 284 c.toNat = 0) (hx : 0 ≤ x1 ∧ x1 ≤ 1001) :
    mo L (am_xV (zS L) (am_E (am_D (dd + 5)) m_17_43 (.inl 1) [some (am_r (am_a 254)), some (am_i x1), some (am_i c)] [] (zS L, h)) (am_up1 (zS L)) (mx_L d L)) g0 4950
      (gx_b (mi_add 9 c 0 0 g) fun g1 => gx_b (hx_opens K V P 40 deep i) fun j3 => gx_b (he K V P (mi V) f 2 (deep + 1) st j3 (g1, t, s, bs, c :: oc)) fun r => gx_b (mi V (12, ci, cj, (r.2.2.2 : Int)) r.2.2.1) fun s2 => .inr (r.1, r.2.1, s2, 0)) (mx_p0 K V P Z g0 d L ls dv oc deep (t, s, bs, oc) h) := by
  have lt := E.1.lt
  have bd := E.1.bd
  have hl2 := E.2.2.2.2.2
  obtain ⟨c0, c1, c2, c3⟩ := E.1.2.2.2.2.2.2.2.2.2 c (List.mem_cons_self)
  have o2 := E.1.ok.2.1
  unfold mi_add ce_q
  rcases Classical.em (¬ g 254 33 < 4900) with hi | hi
  · rw [if_neg hi]; exact fun z => absurd z (by decide)
  have hi : g 254 33 < 4900 := Classical.not_not.mp hi
  rw [if_pos hi, gx_b_inr, q_17_43_1, E.1.fa, if_neg (by decide), p_xVV]
  refine mo_bV2 (mp_openSign (dd + 2) L E.1 40) ?_ ?_
  · intro e h1 eD B
    have lv := mp_open_lv L E.1 40 (dd + 2) eD
    obtain ⟨h2, e2, B2, q2⟩ := mb_add (dd + 4) L B (by omega) 9 c 0 x1
    have lv2 : h2 254 51 ≤ 60 := by rw [q2 254 51 (by decide) (by decide) (by decide) (by decide) (by decide) (by simp), lv, E.2.1]; omega
    obtain ⟨h3, e3, B3, l3⟩ := mb_push (dd + 4) L B2 (by omega) lv2 3
    have b9 := B2.2.2.2.2.2.2.2.2.1
    have B4 := B3.up 292 (h2 254 51).toNat c rfl rfl
    obtain ⟨v, e4, hv⟩ := mb_isSign (dd + 4) L B4 41
    have ix : am_w (h3 254 51 - 1) = h2 254 51 := by rw [l3, p_w (by omega) (by omega)]; omega
    show ∃ h', am_xV (zS L) (am_xI (zS L) (am_D (dd + 5) 17 25 [am_r (am_a 254), am_i 9, am_i c, am_i 0, am_i x1] (zS L, h1)) (am_up1 (zS L)) _) (am_up1 (zS L)) (mx_L d L) = pV L h' ∧ _
    rw [e2, p_xI, e3, p_xV, ix, p_idx (by omega) (by omega), e4, p_xI]
    rcases hv with rfl | rfl
    · have B5 := B4.up 254 61 1 rfl rfl
      rw [if_pos rfl, p_bit1, if_neg (by decide), p_xV, mx_L_bad d L B5]
      exact ⟨_, rfl, B5.le (by omega)⟩
    · have B5 := B4.up 254 61 0 rfl rfl
      have l5 : am_up (am_up h3 292 (h2 254 51).toNat c) 254 61 0 254 51 = h2 254 51 + 1 := by rw [p_up_n _ _ _ _ _ _ (Or.inr (by decide)), p_up_c _ _ _ _ _ (by decide), l3]
      obtain ⟨h6, e6, B6⟩ := mb_closeCall dd L B5 (by omega) (by rw [l5]; omega) (by
        rw [l5, show h2 254 51 + 1 - 1 = h2 254 51 by omega, p_up_c _ _ _ _ _ (by decide), p_up_s]; omega)
      rw [if_neg (by decide), p_bit0, if_pos rfl, e6, p_xV, p_xV, mx_L_bad d L B6]
      exact ⟨_, rfl, B6.le (by omega)⟩
  · rintro j h1 - ⟨rfl, hdp, N1, eh⟩
    have q1 : ∀ a k, a ≠ 254 → h1 a k = h a k := fun a k ha => by rw [eh, p_up_c _ _ _ _ _ ha, p_up_c _ _ _ _ _ ha]
    have E1 : mp_E K V P Z g0 ls nt dv (c :: oc) (i + 1) (deep + 1) st g h1 := by
      refine ⟨N1, ?_, E.2.2.1.same (fun k _ => ⟨q1 290 k (by decide), q1 291 k (by decide), q1 292 k (by decide)⟩), ?_, ?_, by omega⟩
      · rw [eh, p_up_n _ _ _ _ _ _ (Or.inr (by decide)), p_up_n _ _ _ _ _ _ (Or.inr (by decide))]; exact E.2.1
      · rw [eh, p_up_n _ _ _ _ _ _ (Or.inr (by decide)), p_up_n _ _ _ _ _ _ (Or.inr (by decide))]; exact E.2.2.2.1
      · rw [eh, p_up_n _ _ _ _ _ _ (Or.inr (by decide)), p_up_n _ _ _ _ _ _ (Or.inr (by decide))]; exact E.2.2.2.2.1
    obtain ⟨h2, e2, N2, f2⟩ := mp_add (dd + 4) L N1 hi 9 c 0 0 x1 (by unfold mp_rel; omega) hx
    have E2 := E1.fr N2 f2
    obtain ⟨e3, hE3⟩ := mp_push (dd + 4) L E2 3
    have E3 := hE3 (deep + 1) N2 (by omega)
    have E4 : mp_E K V P Z g0 ((3, 0, c) :: ls) nt dv (c :: oc) (i + 1) (deep + 1) st (mi_put 9 c 0 0 g) (am_up (am_up (am_up (am_up h2 290 ls.length 3) 291 ls.length 0) 254 51 ((ls.length : Int) + 1)) 292 ls.length c) := by
      obtain ⟨t1, t2, t3, t4⟩ := E3.2.2.1
      refine ⟨E3.1.hup 292 _ _ rfl rfl rfl, ?_, ⟨?_, ?_, ?_, t4.same (fun k hk => ⟨?_, ?_, ?_⟩)⟩, ?_, ?_, by simp; omega⟩
      · rw [p_up_c _ _ _ _ _ (by decide)]; exact E3.2.1
      · rw [p_up_c _ _ _ _ _ (by decide)]; exact t1
      · rw [p_up_c _ _ _ _ _ (by decide)]; exact t2
      · exact p_up_s _ _ _ _
      · rw [p_up_c _ _ _ _ _ (by decide)]
      · rw [p_up_c _ _ _ _ _ (by decide)]
      · rw [p_up_n _ _ _ _ _ _ (Or.inr (by omega))]
      · rw [p_up_c _ _ _ _ _ (by decide)]; exact E3.2.2.2.1
      · rw [p_up_c _ _ _ _ _ (by decide)]; exact E3.2.2.2.2.1
    have e284 : ∀ k, am_up (am_up (am_up (am_up h2 290 ls.length 3) 291 ls.length 0) 254 51 ((ls.length : Int) + 1)) 292 ls.length c 284 k = h 284 k := by
      intro k
      rw [p_up_c _ _ _ _ _ (by decide), p_up_c _ _ _ _ _ (by decide), p_up_c _ _ _ _ _ (by decide), p_up_c _ _ _ _ _ (by decide), f2 284 k (by decide) (by decide) (by decide) (by decide) (by decide) (by simp), q1 284 k (by decide)]
    have t2 := H2 dd c ls nt dv oc deep st (i + 1) _ _ t s bs ci cj E4 hoc hl (by omega) (by rw [e284]; exact hn) hf
    rw [e2, p_xI, e3, p_xV, p_up_s, p_w (by omega) (by omega), show (ls.length : Int) + 1 - 1 = (ls.length : Int) by omega, p_idx (by omega) (by omega), Int.toNat_natCast]
    refine mo_imp t2 ?_
    rintro a - ⟨h6, u6, e6, E6, eq6, k6⟩
    exact ⟨h6, u6, e6, E6, eq6, fun c' hc' => by rw [k6 c' hc', e284]⟩
end
