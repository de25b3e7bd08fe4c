/-! PURE LAYER, 42: the model's calls -/
section
variable {K V P : Nat → Int} {Z : Nat} {g0 : am_H} {oc : List Int} {i deep st : Nat} {g h : am_H} (d L : Nat) {ls : List (Int × Int × Int)} {nt dv : Int}
/-- a call is through: its count is known -/
theorem mp_N.close {c n : Int} (N : mp_N K V P Z g0 (c :: oc) i deep st g h) (hn : h 284 c.toNat = n) : mp_N K V P Z g0 oc i deep st (am_up g 284 c.toNat n) h := by
  obtain ⟨f1, f2, nn, tk, it, ok, bd, a1, a2, a3⟩ := N
  obtain ⟨c0, c1, -⟩ := a3 c (List.mem_cons_self)
  have e : ∀ b, b ≠ 284 → am_up g 284 c.toNat n b = g b := fun b hb => p_up_c _ _ _ _ _ hb
  refine ⟨?_, f2.upc _ _ _ rfl, nn, ?_, it, ok.upc (by decide), bd, ?_, ?_, ?_⟩
  · intro a k ha hk
    rw [e a (fun z => by rw [z] at ha; exact absurd ha (by decide))]
    exact f1 a k ha hk
  · unfold mp_T at tk ⊢
    rw [e 257 (by decide), e 258 (by decide), e 260 (by decide)]; exact tk
  · rw [e 254 (by decide), e 277 (by decide), e 280 (by decide)]; exact a1
  · rw [e 254 (by decide)]
    intro k hk hno
    rw [p_up]
    by_cases kc : k = c.toNat
    · rw [if_pos ⟨rfl, kc⟩, kc]; exact hn
    · rw [if_neg (fun z => kc z.2)]
      refine a2 k hk (fun z => ?_)
      rcases List.mem_cons.mp z with y | y
      · exact kc (by omega)
      · exact hno y
  · rw [e 254 (by decide), e 283 (by decide)]
    exact fun c' hc' => a3 c' (List.mem_cons_of_mem _ hc')
/-- closeCall() -/
theorem mx_close {c n : Int} (E : mp_E K V P Z g0 ((3, 0, c) :: ls) nt dv (c :: oc) i (deep + 1) st g h) (hn : h 284 c.toNat = n) (hll : ls.length ≤ deep + 1) :
    (gx_sg K V 41 i ∧ (g 254 33 < 4900 → ∃ h', am_D (d + 5) 17 44 [am_r (am_a 254)] (zS L, h) = pV L h' ∧ mp_E K V P Z g0 ls nt dv oc (i + 1) deep st (mi_put 10 c 0 0 (am_up g 284 c.toNat n)) h' ∧ h' 284 = h 284)) ∨ (¬ gx_sg K V 41 i ∧ ∃ h', am_D (d + 5) 17 44 [am_r (am_a 254)] (zS L, h) = pV L h' ∧ mp_B g0 4902 (hx_sx K P i) h') := by
  have lt := E.1.lt
  have bd := E.1.bd
  obtain ⟨s1, s2, s3, s4⟩ := E.2.2.1
  have s1 : h 290 ls.length = 3 := s1
  have s3 : h 292 ls.length = c := s3
  obtain ⟨c0, c1, c2, c3⟩ := E.1.2.2.2.2.2.2.2.2.2 c (List.mem_cons_self)
  have o2 := E.1.ok.2.1
  have hl := E.2.2.2.2.2
  simp at hl
  have e283 : h 283 c.toNat = g 283 c.toNat := E.1.eq 283 _ rfl (by simp [mp_F])
  by_cases s : gx_sg K V 41 i
  · refine Or.inl ⟨s, fun hi => ?_⟩
    have hc := mp_closeSign d L E.1 41
    unfold hx_sign gx_if hx_next at hc
    rw [if_pos s] at hc
    obtain ⟨h1, e1, -, N1, eh1⟩ := hc
    have q1 : ∀ a k, a ≠ 254 → h1 a k = h a k := fun a k ha => by rw [eh1, p_up_c _ _ _ _ _ ha, p_up_c _ _ _ _ _ ha]
    have l1 : h1 254 51 = ((ls.length + 1 : Nat) : Int) := by rw [eh1, p_up_n _ _ _ _ _ _ (Or.inr (by decide)), p_up_n _ _ _ _ _ _ (Or.inr (by decide)), E.2.1]; simp
    have N2 := (N1.close (c := c) (n := n) (by rw [q1 284 _ (by decide)]; exact hn)).lvl (ls.length : Int) (by omega)
    have i2 : am_up g 284 c.toNat n 254 33 < 4900 := by rw [p_up_c _ _ _ _ _ (by decide)]; exact hi
    obtain ⟨h3, e3, N3, f⟩ := mp_add (d + 3) L N2 i2 10 c 0 0 (h 283 c.toNat) (by unfold mp_rel; omega) (by rw [e283]; exact ⟨c2, c3⟩)
    refine ⟨h3, ?_, ⟨N3, ?_, s4.same (fun k _ => ⟨?_, ?_, ?_⟩), ?_, ?_, hll⟩, funext fun k => ?_⟩
    · rw [D_17_44, e1, p_xV, l1, p_w (by omega) (by omega), show (((ls.length + 1 : Nat) : Int) - 1) = (ls.length : Int) by omega, p_idx (by omega) (by omega), p_idx (by omega) (by omega), Int.toNat_natCast, q1 292 _ (by decide), s3, p_idx (by omega) (by omega), q1 283 _ (by decide), e3, p_xI]
    · rw [f 254 51 (by decide) (by decide) (by decide) (by decide) (by decide) (by simp), p_up_s]
    · rw [f 290 k (by decide) (by decide) (by decide) (by decide) (by decide) (by simp), p_up_c _ _ _ _ _ (by decide), q1 290 k (by decide)]
    · rw [f 291 k (by decide) (by decide) (by decide) (by decide) (by decide) (by simp), p_up_c _ _ _ _ _ (by decide), q1 291 k (by decide)]
    · rw [f 292 k (by decide) (by decide) (by decide) (by decide) (by decide) (by simp), p_up_c _ _ _ _ _ (by decide), q1 292 k (by decide)]
    · rw [f 254 61 (by decide) (by decide) (by decide) (by decide) (by decide) (by simp), p_up_n _ _ _ _ _ _ (Or.inr (by decide)), eh1, p_up_n _ _ _ _ _ _ (Or.inr (by decide)), p_up_n _ _ _ _ _ _ (Or.inr (by decide))]; exact E.2.2.2.1
    · rw [f 254 62 (by decide) (by decide) (by decide) (by decide) (by decide) (by simp), p_up_n _ _ _ _ _ _ (Or.inr (by decide)), eh1, p_up_n _ _ _ _ _ _ (Or.inr (by decide)), p_up_n _ _ _ _ _ _ (Or.inr (by decide))]; exact E.2.2.2.2.1
    · rw [f 284 k (by decide) (by decide) (by decide) (by decide) (by decide) (by simp), p_up_c _ _ _ _ _ (by decide), q1 284 k (by decide)]
  · refine Or.inr ⟨s, ?_⟩
    obtain ⟨h1, e1, B1, q1, l1⟩ := mp_syn d L E.1
    have e28 : am_D (d + 4) 17 28 [am_r (am_a 254), am_i 41] (zS L, h) = pV L (am_up h1 254 48 (am_w (h1 254 48 - 1))) := by
      rw [D_17_28, D_17_22, mp_isSign (d + 1) L E.1, p_xI, if_pos (by rw [pB_f s]), e1, p_xV, p_xV]
    have b8 := B1.2.2.2.2.2.2.2.1
    have b9 := B1.2.2.2.2.2.2.2.2.1
    have B2 : mp_B g0 4901 (hx_sx K P i) (am_up (am_up h1 254 48 (h1 254 48 - 1)) 254 51 (ls.length : Int)) := by
      exact (B1.op (m2 := 4901) (h1 254 48 - 1) (by omega) (by omega)).lv (m2 := 4901) _ (by omega) (by omega)
    obtain ⟨h3, e3, B3, -⟩ := mb_add (d + 3) L B2 (by omega) 10 c 0 (h 283 c.toNat)
    refine ⟨h3, ?_, B3⟩
    rw [D_17_44, e28, p_xV, p_w (x := h1 254 48 - 1) (by omega) (by omega), p_up_n _ _ _ _ 254 51 (Or.inr (by decide)), l1, E.2.1, List.length_cons, p_w (by omega) (by omega), show (((ls.length + 1 : Nat) : Int) - 1) = (ls.length : Int) by omega, p_idx (by omega) (by omega), p_idx (by omega) (by omega), Int.toNat_natCast, p_up_c _ _ _ _ 292 (by decide), q1 292 _ (by decide), s3, p_idx (by omega) (by omega), p_up_c _ _ _ _ 283 (by decide), q1 283 _ (by decide), e3, p_xI]
theorem mi_12 (ci cj m c : Int) (g : am_H) (t s : Int) (bs : List (Int × Int × Int × Int)) (oc : List Int) : mi V (12, ci, cj, m) (g, t, s, bs, c :: oc) = gx_b (mi_add 10 c 0 0 (am_up g 284 c.toNat m)) fun g1 => .inr (g1, t, s, bs, oc) := rfl
end
section
variable (K V P : Nat → Int) (Z : Nat) (g0 : am_H) (d L : Nat)
/-- behind an e of a call -/
def mx_H3 (f : Nat) : Prop := ∀ (c : Int) (ls : List (Int × Int × Int)) (dv : Int) (oc : List Int) (deep st i n : Nat) (g h : am_H) (u : Option am_V) (t s : Int) (bs : List (Int × Int × Int × Int)) (ci cj : Int), mp_E K V P Z g0 ((3, 0, c) :: ls) 0 dv (c :: oc) i (deep + 1) st g h → ¬ gx_op K V i → c ∉ oc → ls ≠ [] → ls.length ≤ deep + 1 → h 284 c.toNat = n → n + f ≤ 1000000 →
  mo L (mx_B d L u h) g0 4950 (gx_b (he K V P (mi V) f 3 (deep + 1) st i (g, t, s, bs, c :: oc)) fun r => gx_b (mi V (12, ci, cj, (n : Int) + 1 + (r.2.2.2 : Int)) r.2.2.1) fun s2 => .inr (r.1, r.2.1, s2, 0)) (mx_p0 K V P Z g0 d L ls dv oc deep (t, s, bs, oc) h)
end
section
variable {K V P : Nat → Int} {Z : Nat} {g0 : am_H} {oc : List Int} {i deep st : Nat} {g h : am_H} (d L : Nat) {ls : List (Int × Int × Int)} {nt dv : Int}
theorem mx_args {f : Nat} (HT : mx_HT K V P Z g0 d L f) (H1 : mx_H1 K V P Z g0 d L f) (H3 : mx_H3 K V P Z g0 d L f) : mx_H3 K V P Z g0 d L (f + 1) := by
  intro c ls dv oc deep st i n g h u t s bs ci cj E no hoc hl hll hn hb
  have lt := E.1.lt
  have bd := E.1.bd
  have hl2 := E.2.2.2.2.2
  simp at hl2
  obtain ⟨s1, s2, s3, s4⟩ := E.2.2.1
  have s1 : h 290 ls.length = 3 := s1
  have s3 : h 292 ls.length = c := s3
  obtain ⟨c0, c1, c2, c3⟩ := E.1.2.2.2.2.2.2.2.2.2 c (List.mem_cons_self)
  have o2 := E.1.ok.2.1
  -- one e more
  have E1 : mp_E K V P Z g0 ((3, 0, c) :: ls) 0 dv (c :: oc) i (deep + 1) st g (am_up h 284 c.toNat ((n + 1 : Nat) : Int)) := by
    obtain ⟨⟨f1, f2, nn, tk, it, ok, bd, a1, a2, a3⟩, r⟩ := E
    refine ⟨⟨mp_fr_up f1 _ _ _ rfl, f2, ?_, tk, it, ok, bd, ?_, ?_, a3⟩, ?_, ?_, ?_, ?_, r.2.2.2.2⟩
    · rw [p_up_c _ _ _ _ 254 (by decide)]; exact nn
    · rw [p_up_c _ _ _ _ 280 (by decide)]; exact a1
    · intro k hk hno
      rw [p_up_n _ _ _ _ _ _ (Or.inr (fun z => hno (by rw [z]; exact List.mem_cons.mpr (Or.inl (by omega)))))]
      exact a2 k hk hno
    · rw [p_up_c _ _ _ _ 254 (by decide)]; exact r.1
    · exact r.2.1.cell (p_up_c _ _ _ _ _ (by decide)) (p_up_c _ _ _ _ _ (by decide)) (p_up_c _ _ _ _ _ (by decide))
    · rw [p_up_c _ _ _ _ 254 (by decide)]; exact r.2.2.1
    · rw [p_up_c _ _ _ _ 254 (by decide)]; exact r.2.2.2.1
  have eB : ∀ X, am_xI (zS L) (am_D (d + 7) 17 19 [am_r (am_a 254), am_i 44] (zS L, (am_up h 284 c.toNat ((n + 1 : Nat) : Int)))) (am_up1 (zS L)) (fun v13 h12 => if (v13 : Int) = 0 then am_xV (zS L) (am_D (d + 7) 17 44 [am_r (am_a 254)] (zS L, h12)) (am_up1 (zS L)) fun h14 => some (.inl none, (zS L, h14)) else am_xV (zS L) (am_D (d + 7) 17 21 [am_r (am_a 254)] (zS L, h12)) (am_up1 (zS L)) fun h15 => am_bit 1 (some (.inl none, (zS L, (am_up h15 254 61 (1)))))) = X → mx_B d L u h = am_xV (zS L) X (am_up1 (zS L)) (mx_L d L) := by
    intro X hX
    unfold mx_B
    rw [mx_e3 d L E (show (3 : Int) ≠ 4 by decide) rfl (fun z => absurd (show (3 : Int) = 0 from z.1) (by decide)) u, q_17_49_3, mp_isOp (d + 5) L E.1, p_xI, if_pos (by rw [pB_f no]), p_idx (by omega) (by omega), Int.toNat_natCast, s1, if_neg (by decide), if_neg (by decide), if_neg (by decide), p_idx (by omega) (by omega), p_idx (by omega) (by omega), Int.toNat_natCast, s3, p_idx (by omega) (by omega), p_idx (by omega) (by omega), hn, p_w (by omega) (by omega), show ((n : Int) + 1) = ((n + 1 : Nat) : Int) by omega]
    rw [← hX]
  rw [mp_isSign (d + 6) L E1.1] at eB
  simp only [p_xI, pB_0] at eB
  have keep : ∀ c' ∈ oc, am_up h 284 c.toNat ((n + 1 : Nat) : Int) 284 c'.toNat = h 284 c'.toNat := by
    intro c' hc'
    have := (E.1.2.2.2.2.2.2.2.2.2 c' (List.mem_cons_of_mem _ hc')).1
    refine p_up_n _ _ _ _ _ _ (Or.inr (fun z => hoc ?_))
    have : c' = c := by omega
    rw [← this]; exact hc'
  rw [he]
  · by_cases sg : gx_sg K V 41 i
    · have n44 : ¬ gx_sg K V 44 i := fun z => by have a := z.2; have b := sg.2; omega
      rw [if_pos sg]
      show mo L _ g0 4950 (gx_b (mi V (12, ci, cj, (n : Int) + 1 + ((0 : Nat) : Int)) (g, t, s, bs, c :: oc)) fun s2 => .inr (i + 1, st, s2, 0)) _
      rw [mi_12]
      unfold mi_add ce_q
      rw [p_up_c _ _ _ _ 254 (by decide)]
      by_cases hi : g 254 33 < 4900
      · rcases mx_close (d + 2) L E1 (n := ((n + 1 : Nat) : Int)) (p_up_s _ _ _ _) hll with ⟨-, hc⟩ | ⟨hc, -⟩
        · obtain ⟨h1, e1, E2, k2⟩ := hc hi
          rw [if_pos hi, eB _ rfl, if_pos n44, e1, p_xV, p_xV, mx_L_behind d L E2 rfl hl]
          refine ⟨h1, none, rfl, ?_, rfl, fun c' hc' => by rw [k2]; exact keep c' hc'⟩
          rw [show (n : Int) + 1 + ((0 : Nat) : Int) = ((n + 1 : Nat) : Int) by omega]
          exact E2
        · exact absurd sg hc
      · rw [if_neg hi]; exact fun z => absurd z (by decide)
    · rw [if_neg sg]
      by_cases n44 : gx_sg K V 44 i
      · obtain ⟨e2, E2⟩ := E1.go (d + 6) L ⟨by rw [n44.1]; decide, by rw [n44.1]; decide, by rw [n44.1]; decide⟩
        have E3 := E2.nt_ 1
        have eh : hx_sign K V P 44 i = .inr (i + 1) := by unfold hx_sign gx_if hx_next; rw [if_pos n44]
        rw [eB _ rfl, if_neg (fun z => z n44), e2, p_xV, p_bit1, p_xV, eh, gx_b_inr, gx_b_assoc]
        refine mo_bD (HT ((3, 0, c) :: ls) dv (c :: oc) (deep + 1) st (i + 1) g _ (t, s, bs, c :: oc) E3 (by simp) rfl) ?_
        rintro ⟨a1, a2, ⟨g2, q2⟩, a4⟩ - ⟨h2, u2, e2, E4, eq, k2⟩
        have eq : q2 = (t, s, bs, c :: oc) := eq
        subst eq
        rw [gx_b_assoc, e2]
        refine mo_bD (H1 (3, 0, c) ls dv (c :: oc) (deep + 1) a2 a1 g2 h2 u2 (t, s, bs, c :: oc) E4 (show (3 : Int) ≠ 4 by decide) rfl (fun z => absurd (show (3 : Int) = 0 from z.1) (by decide)) rfl) ?_
        rintro ⟨b1, b2, ⟨g3, q3⟩, b4⟩ - ⟨h3, u3, e3, ⟨E5, eq3, k3⟩, no3⟩
        have eq3 : q3 = (t, s, bs, c :: oc) := eq3
        subst eq3
        have k5 : ∀ c' ∈ c :: oc, h3 284 c'.toNat = am_up h 284 c.toNat ((n + 1 : Nat) : Int) 284 c'.toNat := by
          intro c' hc'
          rw [k3 c' hc', k2 c' hc', p_up_c _ _ _ _ _ (by decide), p_up_c _ _ _ _ _ (by decide)]
        rw [gx_b_assoc, e3]
        have t3 := H3 c ls dv oc deep b2 b1 (n + 1) g3 h3 u3 t s bs ci cj E5 no3 hoc hl hll (by rw [k5 c List.mem_cons_self, p_up_s]) (by omega)
        have ef : (gx_b (he K V P (mi V) f 3 (deep + 1) b2 b1 (g3, t, s, bs, c :: oc)) fun r3 => gx_b (.inr (r3.1, r3.2.1, r3.2.2.1, r3.2.2.2 + 1)) fun r => gx_b (mi V (12, ci, cj, (n : Int) + 1 + (r.2.2.2 : Int)) r.2.2.1) fun s2 => (.inr (r.1, r.2.1, s2, 0) : gx_R (Nat × Nat × mi_S × Nat))) = gx_b (he K V P (mi V) f 3 (deep + 1) b2 b1 (g3, t, s, bs, c :: oc)) fun r => gx_b (mi V (12, ci, cj, ((n + 1 : Nat) : Int) + 1 + (r.2.2.2 : Int)) r.2.2.1) fun s2 => .inr (r.1, r.2.1, s2, 0) := by
          congr 1
          funext r
          rw [gx_b_inr]
          dsimp only
          rw [show (n : Int) + 1 + ((r.2.2.2 + 1 : Nat) : Int) = ((n + 1 : Nat) : Int) + 1 + (r.2.2.2 : Int) by omega]
        rw [ef]
        refine mo_imp t3 ?_
        rintro a - ⟨h6, u6, e6, E6, eq6, k6⟩
        refine ⟨h6, u6, e6, E6, eq6, fun c' hc' => ?_⟩
        rw [k6 c' hc', k5 c' (List.mem_cons_of_mem _ hc'), keep c' hc']
      · have eh : hx_sign K V P 44 i = .inl (hx_sx K P i) := by unfold hx_sign gx_if hx_next; rw [if_neg n44]
        rw [eh]
        intro _
        rcases mx_close (d + 2) L E1 (n := ((n + 1 : Nat) : Int)) (p_up_s _ _ _ _) hll with ⟨hc, -⟩ | ⟨-, hc⟩
        · exact absurd hc sg
        · obtain ⟨h1, e1, B1⟩ := hc
          rw [eB _ rfl, if_pos n44, e1, p_xV, p_xV, mx_L_bad d L B1]
          exact ⟨h1, rfl, B1.le (by omega)⟩
  all_goals (intro z; omega)
end
