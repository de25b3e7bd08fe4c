/-! PURE LAYER, 51: the model's return and do -/
section
variable {K V P : Nat → Int} {Z : Nat} {g0 : am_H} {i deep st : Nat} {g h : am_H} (d L : Nat) {G : Nat}
/-- an item, and then a sign that is not there -/
theorem mp_addsyn {oc : List Int} (N : mp_N K V P Z g0 oc i deep st g h) (k a b t : Int) (c : Int) (hs : ¬ gx_sg K V c i) : ∃ h1 h2, am_D (d + 3) 17 25 [am_r (am_a 254), am_i k, am_i a, am_i b, am_i t] (zS L, h) = pI L (g 254 33) h1 ∧ am_D (d + 3) 17 22 [am_r (am_a 254), am_i c] (zS L, h1) = pV L h2 ∧ mp_B g0 4902 (hx_sx K P i) h2 := by
  have o := N.ok
  have o1 := o.1
  have o3 := o.2.2.1
  have lt := N.lt
  have kq := mp_k_eq N.rg
  refine ⟨_, ?_, by rw [D_17_25, N.eq 254 33 rfl rfl, p_idx (by omega) (by omega), p_idx (by omega) (by omega), p_idx (by omega) (by omega), p_idx (by omega) (by omega), p_idx (by omega) (by omega), N.eq 254 17 rfl rfl, p_w (x := g 254 33 + 1) (by omega) (by omega), p_w (x := g 254 17 - 1) (by omega) (by omega), p_w (by omega) (by omega), show g 254 33 + 1 - 1 = g 254 33 by omega], ?_⟩
  · exact (fun c' : Int => am_up (am_up (am_up (am_up (am_up (am_up (am_up (am_up h 277 (g 254 33).toNat k) 278 (g 254 33).toNat a) 279 (g 254 33).toNat b) 280 (g 254 33).toNat t) 281 (g 254 33).toNat (g 254 17 - 1)) 254 33 (g 254 33 + 1)) 254 11 c') 254 12 (P i)) (if K i = 7 then 2 else 1)
  have q : ∀ b' j, b' ≠ 277 → b' ≠ 278 → b' ≠ 279 → b' ≠ 280 → b' ≠ 281 → ¬ (b' = 254 ∧ j = 33) → am_up (am_up (am_up (am_up (am_up (am_up h 277 (g 254 33).toNat k) 278 (g 254 33).toNat a) 279 (g 254 33).toNat b) 280 (g 254 33).toNat t) 281 (g 254 33).toNat (g 254 17 - 1)) 254 33 (g 254 33 + 1) b' j = h b' j := by
    intro b' j c1 c2 c3 c4 c5 c6
    rw [p_up_n _ _ _ _ _ _ (by by_cases e : b' = 254; exact Or.inr (fun z => c6 ⟨e, z⟩); exact Or.inl e), p_up_c _ _ _ _ _ c5, p_up_c _ _ _ _ _ c4, p_up_c _ _ _ _ _ c3, p_up_c _ _ _ _ _ c2, p_up_c _ _ _ _ _ c1]
  have q254 : ∀ j, j ≠ 33 → am_up (am_up (am_up (am_up (am_up (am_up h 277 (g 254 33).toNat k) 278 (g 254 33).toNat a) 279 (g 254 33).toNat b) 280 (g 254 33).toNat t) 281 (g 254 33).toNat (g 254 17 - 1)) 254 33 (g 254 33 + 1) 254 j = h 254 j := fun j hj => q 254 j (by decide) (by decide) (by decide) (by decide) (by decide) (fun z => hj z.2)
  have i33 : am_up (am_up (am_up (am_up (am_up (am_up h 277 (g 254 33).toNat k) 278 (g 254 33).toNat a) 279 (g 254 33).toNat b) 280 (g 254 33).toNat t) 281 (g 254 33).toNat (g 254 17 - 1)) 254 33 (g 254 33 + 1) 254 33 = g 254 33 + 1 := p_up_s _ _ _ _
  have fr : p_fr mp_C2 mp_F2 g0 (am_up (am_up (am_up (am_up (am_up (am_up h 277 (g 254 33).toNat k) 278 (g 254 33).toNat a) 279 (g 254 33).toNat b) 280 (g 254 33).toNat t) 281 (g 254 33).toNat (g 254 17 - 1)) 254 33 (g 254 33 + 1)) := ((((((N.all.upc _ _ _ rfl).upc _ _ _ rfl).upc _ _ _ rfl).upc _ _ _ rfl).upc _ _ _ rfl).upf _ _ _ rfl)
  generalize am_up (am_up (am_up (am_up (am_up (am_up h 277 (g 254 33).toNat k) 278 (g 254 33).toNat a) 279 (g 254 33).toNat b) 280 (g 254 33).toNat t) 281 (g 254 33).toNat (g 254 17 - 1)) 254 33 (g 254 33 + 1) = h1 at q q254 i33 fr
  have kd : h1 257 i = mp_k (K i) := by rw [q 257 i (by decide) (by decide) (by decide) (by decide) (by decide) (by simp)]; exact N.kd
  have pl : h1 258 i = P i := by rw [q 258 i (by decide) (by decide) (by decide) (by decide) (by decide) (by simp)]; exact N.pl
  have nx : h1 254 10 = i := by rw [q254 10 (by decide)]; exact N.nx
  have w : ∀ c : Int, 0 < c → am_D (d + 1) 17 17 [am_r (am_a 254), am_i c, am_i i] (zS L, h1) = pV L (am_up (am_up h1 254 11 c) 254 12 (P i)) := by
    intro c hc
    rw [D_17_17, q254 11 (by decide), N.fa, if_neg (by omega), p_idx (by omega) (by omega), Int.toNat_natCast, pl]
  have B : ∀ c : Int, 0 < c → mp_B g0 4902 (c, P i) (am_up (am_up h1 254 11 c) 254 12 (P i)) := by
    intro c hc
    refine ⟨(fr.upf _ _ _ rfl).upf _ _ _ rfl, hc, ?_, ?_, ?_, ?_, ?_, ?_, ?_, ?_, ?_, ?_⟩
    · simp [p_up]
    · simp [p_up]
    · simp [p_up, nx]; omega
    · simp [p_up, i33]; omega
    · simp [p_up, q254 39]; rw [N.eq 254 39 rfl rfl]; have := o.2.1; omega
    · simp [p_up, q254 48]; rw [N.op]; have := N.bd; omega
    · simp [p_up, q254 51]; have := N.lv; omega
    · simp [p_up, q254 17]; rw [N.eq 254 17 rfl rfl]; exact o3
    · simp [p_up, q254 14]; rw [N.eq 254 14 rfl rfl]; exact o.2.2.2.1
    · simp [p_up, q254 25]; rw [N.eq 254 25 rfl rfl]; have := o.2.2.2.2.1; omega
  rw [D_17_22, mp_isSign0 (K := K) (V := V) (i := i) (d + 1) L nx lt kd N.rg (by intro z; rw [q 260 i (by decide) (by decide) (by decide) (by decide) (by decide) (by simp)]; exact N.vl (by omega)), p_xI, if_pos (by rw [pB_f hs]), D_17_18, nx, p_idx (by omega) (by omega), Int.toNat_natCast, kd]
  unfold hx_sx
  by_cases c7 : K i = 7
  · rw [if_pos (kq.2.2.2.2.2.2.mpr c7), if_pos c7, w 2 (by decide), p_xV, p_xV]
    exact ⟨rfl, B 2 (by decide)⟩
  · rw [if_neg (fun z => c7 (kq.2.2.2.2.2.2.mp z)), if_neg c7, w 1 (by decide), p_xV, p_xV]
    exact ⟨rfl, B 1 (by decide)⟩
/-- return: behind the word -/
theorem mq_ret (hG : G ≤ 900000) (N : mp_N K V P Z g0 [] i deep st g h) (ty so : Int) (bs : List (Int × Int × Int × Int)) (t0 : Int) (ht : 0 ≤ t0 ∧ t0 ≤ 1001) (u2 u3 : Option am_V) : mo L (am_xI (zS L) (am_D (d + 11) 17 19 [am_r (am_a 254), am_i 59] (zS L, h)) (am_up1 (zS L)) fun v20 h19 => if (v20 : Int) = 0 then am_E (am_D (d + 11)) m_17_38 (.inl 7) [some (am_r (am_a 254)), some (am_i t0), u2, u3] [am_i 1] (zS L, h19) else am_E (am_D (d + 11)) m_17_38 (.inl 7) [some (am_r (am_a 254)), some (am_i t0), u2, u3] [am_i 0] (zS L, h19)) g0 4970 (he_ret K V P (mi V) G deep st i (g, ty, so, bs, []))
    (fun a D => ∃ h', D = pV L h' ∧ (mp_N K V P Z g0 [] a.1 deep a.2.1 a.2.2.1 h' ∧ a.2.2.2 = (ty, so, bs, []) ∧ mk_kp g a.2.2.1)) := by
  rw [mp_isSign (d + 10) L N, p_xI]
  unfold he_ret
  -- the end: an item, and the sign
  have fin : ∀ (g1 h1 : am_H) (j st1 : Nat), mp_N K V P Z g0 [] j deep st1 g1 h1 → mk_kp g g1 → mo L (am_xI (zS L) (am_D (d + 11) 17 25 [am_r (am_a 254), am_i 18, am_i 0, am_i 0, am_i t0] (zS L, h1)) (am_up1 (zS L)) fun v8 h7 => am_xV (zS L) (am_D (d + 11) 17 22 [am_r (am_a 254), am_i 59] (zS L, h7)) (am_up1 (zS L)) fun h9 => some (.inl none, (zS L, h9))) g0 4970 (gx_b (hx_sign K V P 59 j) fun j' => gx_b (mi V (33, 0, 0, 0) (g1, ty, so, bs, [])) fun s2 => .inr (j', st1, s2)) (fun a D => ∃ h', D = pV L h' ∧ (mp_N K V P Z g0 [] a.1 deep a.2.1 a.2.2.1 h' ∧ a.2.2.2 = (ty, so, bs, []) ∧ mk_kp g a.2.2.1)) := by
    intro g1 h1 j st1 N1 kp1
    by_cases s : gx_sg K V 59 j
    · rw [hx_sign_t s, gx_b_inr, mi_33]
      refine mn_add (d + 10) L N1 18 0 0 0 t0 (by unfold mp_rel; omega) ht (fun h2 N2 _ => ?_)
      have t := mp_needSign (d + 8) L N2 59
      rw [hx_sign_t s] at t
      obtain ⟨h3, e3, -, N3, -⟩ := t
      rw [e3, p_xV]
      exact ⟨h3, rfl, N3, rfl, kp1.trans (mk_kp_put _ _ _ _ _)⟩
    · rw [hx_sign_f s]
      intro _
      obtain ⟨h2, h3, e2, e3, B⟩ := mp_addsyn (d + 8) L N1 18 0 0 t0 59 s
      rw [e2, p_xI, e3, p_xV]
      exact ⟨h3, rfl, B.le (by omega)⟩
  by_cases s : gx_sg K V 59 i
  · rw [if_neg (by rw [pB_t s]; decide), if_pos s, q_17_38_7, if_pos rfl, mi_1]
    exact mn_add (d + 10) L N 0 0 0 0 t0 (by unfold mp_rel; omega) ht (fun h2 N2 _ => fin _ h2 i st N2 (mk_kp_put _ _ _ _ _))
  · rw [if_pos (by rw [pB_f s]), if_neg s, q_17_38_7, if_neg (by decide)]
    have b : mb L g0 4950 4970 (fun h6 => am_xI (zS L) (am_D (d + 11) 17 25 [am_r (am_a 254), am_i 18, am_i 0, am_i 0, am_i t0] (zS L, h6)) (am_up1 (zS L)) fun v8 h7 => am_xV (zS L) (am_D (d + 11) 17 22 [am_r (am_a 254), am_i 59] (zS L, h7)) (am_up1 (zS L)) fun h9 => some (.inl none, (zS L, h9))) := mbk_add (t := fun _ => t0) (d + 10) L (by omega) (fun _ => mb_V (mbk_sign (d + 8) L 59) (mbk_ret L (by omega)))
    exact mn_exp (d + 1) L hG N b (fun j1 st1 g1 n1 h1 N1 kp1 => fin g1 h1 j1 st1 N1 kp1)
/-- do: behind the word -/
theorem mq_do (hG : G ≤ 900000) (N : mp_N K V P Z g0 [] i deep st g h) (ty so : Int) (bs : List (Int × Int × Int × Int)) (t0 : Int) (ht : 0 ≤ t0 ∧ t0 ≤ 1001) : mo L (am_xV (zS L) (am_D (d + 11) 17 41 [am_r (am_a 254)] (zS L, h)) (am_up1 (zS L)) fun h13 => am_xI (zS L) (am_D (d + 11) 17 25 [am_r (am_a 254), am_i 19, am_i 0, am_i 0, am_i t0] (zS L, h13)) (am_up1 (zS L)) fun v15 h14 => am_xV (zS L) (am_D (d + 11) 17 22 [am_r (am_a 254), am_i 59] (zS L, h14)) (am_up1 (zS L)) fun h16 => am_xI (zS L) (am_D (d + 11) 17 25 [am_r (am_a 254), am_i 12, am_i 0, am_i 0, am_i t0] (zS L, h16)) (am_up1 (zS L)) fun v18 h17 => some (.inl none, (zS L, h17))) g0 4970 (he_do K V P (mi V) G deep st i (g, ty, so, bs, []))
    (fun a D => ∃ h', D = pV L h' ∧ (mp_N K V P Z g0 [] a.1 deep a.2.1 a.2.2.1 h' ∧ a.2.2.2 = (ty, so, bs, []))) := by
  have b1 : mb L g0 4960 4970 (fun h16 => am_xI (zS L) (am_D (d + 11) 17 25 [am_r (am_a 254), am_i 12, am_i 0, am_i 0, am_i t0] (zS L, h16)) (am_up1 (zS L)) fun v18 h17 => some (.inl none, (zS L, h17))) := mbk_add (t := fun _ => t0) (d + 10) L (by omega) (fun _ => mbk_ret L (by omega))
  have b2 := mb_V (mbk_sign (g0 := g0) (m := 4960) (d + 8) L 59) b1
  have b3 : mb L g0 4950 4970 (fun h13 => am_xI (zS L) (am_D (d + 11) 17 25 [am_r (am_a 254), am_i 19, am_i 0, am_i 0, am_i t0] (zS L, h13)) (am_up1 (zS L)) fun v15 h14 => am_xV (zS L) (am_D (d + 11) 17 22 [am_r (am_a 254), am_i 59] (zS L, h14)) (am_up1 (zS L)) fun h16 => am_xI (zS L) (am_D (d + 11) 17 25 [am_r (am_a 254), am_i 12, am_i 0, am_i 0, am_i t0] (zS L, h16)) (am_up1 (zS L)) fun v18 h17 => some (.inl none, (zS L, h17))) := mbk_add (t := fun _ => t0) (d + 10) L (by omega) (fun _ => b2.le (by omega))
  have e : he_do K V P (mi V) G deep st i (g, ty, so, bs, []) = gx_b (gx_b (hx_name K P i) fun j => if gx_sg K V 46 j then gx_b (hx_next j) fun j1 => gx_b (hx_name K P j1) fun j2 => gx_b (mi V (11, (i : Int), (j1 : Int), 1) (g, ty, so, bs, [])) fun s1 => gx_b (hx_opens K V P 40 deep j2) fun j3 => gx_b (he K V P (mi V) G 2 (deep + 1) st j3 s1) fun r => gx_b (mi V (12, (i : Int), (j1 : Int), (r.2.2.2 : Int)) r.2.2.1) fun s2 => (.inr (r.1, r.2.1, s2, 0) : gx_R (Nat × Nat × mi_S × Nat))
      else if gx_sg K V 40 j then gx_b (mi V (11, (i : Int), (i : Int), 0) (g, ty, so, bs, [])) fun s1 => gx_b (hx_open P deep j) fun j3 => gx_b (he K V P (mi V) G 2 (deep + 1) st j3 s1) fun r => gx_b (mi V (12, (i : Int), (i : Int), (r.2.2.2 : Int)) r.2.2.1) fun s2 => .inr (r.1, r.2.1, s2, 0)
      else .inl (hx_sx K P j)) fun r => gx_b (mi V (34, 0, 0, 0) r.2.2.1) fun s3 => gx_b (hx_sign K V P 59 r.1) fun j4 => .inr (j4, r.2.1, s3) := by
    unfold he_do
    rw [gx_b_assoc]
    congr 1
    funext j
    split
    · simp only [gx_b_assoc, gx_b_inr]
    · split
      · simp only [gx_b_assoc, gx_b_inr]
      · rfl
  rw [e]
  refine mo_bV (Po := fun (a : Nat × Nat × mi_S × Nat) (h' : am_H) => mp_N K V P Z g0 [] a.1 deep a.2.1 a.2.2.1.1 h' ∧ a.2.2.1.2 = (ty, so, bs, [])) (mq_call (d + 1) L hG N ty so bs) b3 ?_
  rintro ⟨a1, a2, ⟨g2, q2⟩, a4⟩ h1 - ⟨N1, eq⟩
  have eq : q2 = (ty, so, bs, []) := eq
  subst eq
  have N1 : mp_N K V P Z g0 [] a1 deep a2 g2 h1 := N1
  show mo L _ g0 4970 (gx_b (mi V (34, 0, 0, 0) (g2, ty, so, bs, [])) fun s3 => gx_b (hx_sign K V P 59 a1) fun j4 => .inr (j4, a2, s3)) _
  rw [mi_34, gx_b_assoc]
  refine mn_add (d + 10) L N1 19 0 0 0 t0 (by unfold mp_rel; omega) ht (fun h2 N2 _ => ?_)
  dsimp only
  unfold mi_add ce_q
  by_cases hi : mi_put 19 0 0 0 g2 254 33 < 4900
  · rw [if_pos hi]
    show mo L _ g0 4970 (gx_b (hx_sign K V P 59 a1) fun j4 => .inr (j4, a2, (mi_put 12 0 0 0 (mi_put 19 0 0 0 g2), ty, so, bs, []))) _
    refine mn_sign (m := 4960) (d + 8) L N2 59 (by omega) b1 (fun h3 N3 => ?_)
    obtain ⟨h4, e4, N4, -⟩ := mp_add (d + 10) L N3 hi 12 0 0 0 t0 (by unfold mp_rel; omega) ht
    rw [e4, p_xI]
    exact ⟨h4, rfl, N4, rfl⟩
  · rw [if_neg hi]; exact fun z => absurd z (by decide)
end
