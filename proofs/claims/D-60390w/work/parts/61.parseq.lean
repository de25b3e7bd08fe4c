/-! PURE LAYER, 31: subs -/
section
variable (K V P : Nat → Int) (sy w : Bool) (Z : Nat) (g0 : am_H) (L : Nat)
/-- how a sub ends -/
def pc_posts (g1 : am_H) (a : Nat × Nat × ce_S) (D : Option am_O) : Prop := ∃ h1, D = pV L h1 ∧ (pc_N K V P sy w Z g0 a.1 1 a.2.1 a.2.2.1 h1 ∧ (∀ k, k ≠ 14 → k ≠ 16 → a.2.2.1 212 k = g1 212 k) ∧ a.2.2.1 212 16 = g1 212 16 + 1 ∧ a.2.2.1 212 16 ≤ 1000)
end
/-- from a sub's body to its end, as a text -/
def pc_bd (K V P : Nat → Int) (sy w : Bool) (G st : Nat) (i : Nat) (s2 : ce_S) : gx_R (Nat × Nat × ce_S) := gx_b (gx_opens sy K V P 123 1 i) fun j4 => gx_b (gp_locs sy K V P (ce w sy K V P) G G j4 0 s2) fun r3 => gx_b (ce w sy K V P (48, 0, 0, 0) r3.2) fun s3 => gx_b (gs sy K V P (ce w sy K V P) G G 0 2 st r3.1 s3) fun r4 => gx_b (gx_sign sy K V P 125 r4.1) fun j5 => gx_b (ce w sy K V P (49, 0, 0, 0) r4.2.2) fun s4 => .inr (j5, r4.2.1, s4)
section
variable {K V P : Nat → Int} {sy w : Bool} {Z : Nat} {g0 : am_H} {i st : Nat} {g h : am_H} (d L : Nat) {G : Nat}
/-- behind the parameters of a sub -/
theorem pn_k38 (HS : pc_HS K V P sy w Z g0 L G G) (hd : pc_ds 2 ≤ d + 5) (hG : G ≤ 20000) (g1 : am_H) {t a b e : Int} {n : Nat} {l : List (Int × Int × Int × Int)} (N : pc_N K V P sy w Z g0 i 1 st g h) (e1 : ∀ k, k ≠ 14 → g 212 k = g1 212 k) :
    pc_o L (pc_k38 (d + 7) L n h) g0 (gx_b (ce w sy K V P (47, 0, 0, 0) (g, t, a, b, (n : Int), e, l)) fun s2 => pc_bd K V P sy w G st i s2) (pc_posts K V P sy w Z g0 L g1) := by
  unfold pc_k38
  show pc_o L _ g0 (gx_b (ce_q (0 ≤ g 212 21 ∧ g 212 21 ≤ g 212 16 ∧ g 212 16 < 130) (.inr (am_up g 221 (g 212 16).toNat n, t, a, b, (n : Int), 0, l))) _) _
  unfold ce_q
  by_cases hq : 0 ≤ g 212 21 ∧ g 212 21 ≤ g 212 16 ∧ g 212 16 < 130
  · rw [if_pos hq, gx_b_inr, N.R.eq 212 16 rfl, p_idx (by omega) (by omega)]
    have N1 := N.up 221 (g 212 16).toNat n rfl rfl rfl (by omega) (by omega) (N.R.ok.upc rfl)
    have c1 : am_up g 221 (g 212 16).toNat n 212 = g 212 := p_up_c _ _ _ _ _ (by decide)
    have eb : pc_bd K V P sy w G st i (am_up g 221 (g 212 16).toNat n, t, a, b, (n : Int), 0, l) = gx_b (gx_b (gx_opens sy K V P 123 1 i) fun j4 => gx_b (gp_locs sy K V P (ce w sy K V P) G G j4 0 (am_up g 221 (g 212 16).toNat n, t, a, b, (n : Int), 0, l)) fun r3 => gx_b (ce w sy K V P (48, 0, 0, 0) r3.2) fun s3 => gx_b (gs sy K V P (ce w sy K V P) G G 0 2 st r3.1 s3) fun r4 => gx_b (gx_sign sy K V P 125 r4.1) fun j5 => gx_b (ce_h r4.2.2 (ce_e49 w sy r4.2.2.1)) fun s4 => (.inr (j5, r4.2.1, s4) : gx_R (Nat × Nat × ce_S))) fun r => gx_b (ce_h r.2.2 (ce_q (r.2.2.1 212 16 < 1000) (.inr (am_up r.2.2.1 212 16 (r.2.2.1 212 16 + 1))))) fun s4 => .inr (r.1, r.2.1, s4) := by
      unfold pc_bd
      simp only [ce_e49_eq, gx_b_assoc, gx_b_inr]
    rw [eb]
    refine pc_bV (Po := fun (a : Nat × Nat × ce_S) (h1 : am_H) => pc_N K V P sy w Z g0 a.1 1 a.2.1 a.2.2.1 h1 ∧ a.2.2.1 212 = am_up g 221 (g 212 16).toNat n 212) (pn_body d L HS hd hG (am_up g 221 (g 212 16).toNat n) N1 rfl) ?_
    rintro ⟨a1, a2, g2, q2⟩ h2 - ⟨N2, eq⟩
    have N2 : pc_N K V P sy w Z g0 a1 1 a2 g2 h2 := N2
    have eq : g2 212 = g 212 := by
      have : g2 212 = am_up g 221 (g 212 16).toNat n 212 := eq
      rw [this, c1]
    dsimp only
    refine pn_q L (fun hq2 => ?_)
    have e16 : g2 212 16 = g 212 16 := by rw [eq]
    refine ⟨_, rfl, ?_, ?_, ?_, ?_⟩
    · have N3 := N2.up 212 16 (g2 212 16 + 1) rfl rfl rfl (by omega) (by omega) (N2.R.ok.upc rfl)
      rw [N2.R.eq 212 16 rfl, p_w (by omega) (by omega)]
      exact N3
    · intro k h14 h16
      show am_up g2 212 16 (g2 212 16 + 1) 212 k = g1 212 k
      rw [p_up_n _ _ _ _ _ _ (Or.inr h16), eq]
      exact e1 k h14
    · show am_up g2 212 16 (g2 212 16 + 1) 212 16 = g1 212 16 + 1
      rw [p_up_s, e16, e1 16 (by decide)]
    · show am_up g2 212 16 (g2 212 16 + 1) 212 16 ≤ 1000
      rw [p_up_s]
      have : g2 212 16 < 1000 := hq2
      omega
  · rw [if_neg hq]; exact fun z => absurd z (by decide)
/-- behind the name of a sub -/
theorem pn_sub13 (HS : pc_HS K V P sy w Z g0 L G G) (hd : pc_ds 2 ≤ d + 5) (hG : G ≤ 20000) (g1 : am_H) {t a b c e : Int} {l : List (Int × Int × Int × Int)} (u1 u2 : Option am_V) (N : pc_N K V P sy w Z g0 i 1 st g h) (hK : K i = 2) (e1 : ∀ k, k ≠ 14 → g 212 k = g1 212 k) :
    pc_o L (am_xV (zS L) (am_D (d + 7) 7 10 [am_r (am_a 212)] (zS L, h)) (am_up1 (zS L)) fun h4 => am_xV (zS L) (am_D (d + 7) 7 11 [am_r (am_a 212), am_i 40] (zS L, (am_up h4 229 5 (0)))) (am_up1 (zS L)) fun h5 => am_E (am_D (d + 7)) m_7_38 (.inl 13) [some (am_r (am_a 212)), some (am_i 0), u2] [] (zS L, h5)) g0
      (gx_b (gx_next sy K P i) fun j2 => gx_b (ce w sy K V P (51, 0, 0, 0) (g, t, a, b, c, e, l)) fun s1 => gx_b (gx_sign sy K V P 40 j2) fun j3 => gx_b (gp_pars sy K V P (ce w sy K V P) G j3 0 s1) fun r2 => gx_b (ce w sy K V P (47, 0, 0, 0) r2.2) fun s2 => pc_bd K V P sy w G st r2.1 s2) (pc_posts K V P sy w Z g0 L g1) := by
  refine pn_next (d + 4) L N ⟨by rw [hK]; decide, by rw [hK]; decide⟩ (fun j h2 _ N2 => ?_)
  show pc_o L _ g0 (gx_b (gx_sign sy K V P 40 j) fun j3 => gx_b (gp_pars sy K V P (ce w sy K V P) G j3 0 (am_up g 229 5 0, t, a, b, 0, e, l)) fun r2 => gx_b (ce w sy K V P (47, 0, 0, 0) r2.2) fun s2 => pc_bd K V P sy w G st r2.1 s2) _
  have N3 : pc_N K V P sy w Z g0 j 1 st (am_up g 229 5 0) (am_up h2 229 5 0) := by
    refine N2.up 229 5 0 rfl rfl rfl (by omega) (by omega) ?_
    have o := N2.R.ok
    unfold ce_ok at o ⊢
    rw [p_up_c _ _ _ _ 8 (by decide), p_up_c _ _ _ _ 213 (by decide), p_up_c _ _ _ _ 217 (by decide), p_up_c _ _ _ _ 223 (by decide), p_up_c _ _ _ _ 235 (by decide), p_up_s]
    exact ⟨o.1, o.2.1, o.2.2.1, o.2.2.2.1, o.2.2.2.2.1, o.2.2.2.2.2.1, o.2.2.2.2.2.2.1, by omega⟩
  refine pn_sign (d + 3) L N3 40 (fun j3 h3 N4 => ?_)
  have t := pn_pars (d + 1) L (F := fun r2 : Nat × ce_S => gx_b (ce w sy K V P (47, 0, 0, 0) r2.2) fun s2 => pc_bd K V P sy w G st r2.1 s2) (ok := pc_posts K V P sy w Z g0 L g1) (a := a) (b := b) (e := e) (l := l) (k := pc_k38 (d + 7) L) (am_up g 229 5 0) (fun h x1 u2 => q_7_38_13' (d + 7) L h x1 u2)
    (fun j n t g3 h3 N3 hv _ => pn_k38 d L HS hd hG g1 N3 (fun k hk => by rw [hv 212 (by omega), p_up_c _ _ _ _ 212 (by decide)]; exact e1 k hk)) G j3 0 t _ h3 u2 N4 (ce_vv.refl _) (by omega)
  exact t
/-- oneSub() -/
theorem pn_sub (HS : pc_HS K V P sy w Z g0 L G G) (hd : pc_ds 2 ≤ d + 5) (hG : G ≤ 20000) (q : Int × Int × Int × Int × Int × List (Int × Int × Int × Int)) (sn : Nat) (hsn : sn ≤ 1000000) (N : pc_N K V P sy w Z g0 i 1 st g h) (e16 : g 212 16 = g 212 21 + sn) (hK0 : K i ≠ 0 ∧ K i ≠ 6) :
    pc_o L (am_D (d + 8) 7 38 [am_r (am_a 212)] (zS L, h)) g0 (gp_sub sy K V P (ce w sy K V P) G st i sn (g, q)) (pc_posts K V P sy w Z g0 L g) := by
  obtain ⟨t, a, b, c, e, l⟩ := q
  rw [D_7_38, pc_value (d + 6) L N.R N.lt, p_xI]
  unfold gp_sub
  show pc_o L _ g0 (gx_b (.inr (am_up g 212 14 (V ((i : Int)).toNat), t, a, b, c, e, l)) _) _
  rw [gx_b_inr, Int.toNat_natCast]
  have N1 : pc_N K V P sy w Z g0 i 1 st (am_up g 212 14 (V i)) (am_up h 212 14 (V i)) := N.up 212 14 (V i) rfl rfl rfl (by omega) (by omega) (N.R.ok.upc rfl)
  have e1 : ∀ k, k ≠ 14 → am_up g 212 14 (V i) 212 k = g 212 k := fun k hk => p_up_n _ _ _ _ _ _ (Or.inr hk)
  generalize am_up g 212 14 (V i) = g3 at N1 e1
  refine pn_next (d + 4) L N1 hK0 (fun j h2 _ N2 => ?_)
  -- the name
  have mid : ∀ (j : Nat) (t : Int) (h2 : am_H), pc_N K V P sy w Z g0 j 1 st g3 h2 → pc_o L (am_E (am_D (d + 7)) m_7_38 (.inl 4) [some (am_r (am_a 212)), none, none] [am_i (pB (K j = 2)), am_r (am_a 212)] (zS L, h2)) g0
      (gx_if (K j = 2) (1, P j) (gx_if (sy = true ∨ sn < 60) (2, P j) (gx_b (ce w sy K V P (45, (j : Int), 0, 0) (g3, t, a, b, c, e, l)) fun s1 => gx_b (gx_next sy K P j) fun j2 => gx_b (ce w sy K V P (51, 0, 0, 0) s1) fun s1 => gx_b (gx_sign sy K V P 40 j2) fun j3 => gx_b (gp_pars sy K V P (ce w sy K V P) G j3 0 s1) fun r2 => gx_b (ce w sy K V P (47, 0, 0, 0) r2.2) fun s2 => pc_bd K V P sy w G st r2.1 s2))) (pc_posts K V P sy w Z g0 L g) := by
    intro j t h2 N2
    rw [q_7_38_4]
    refine pn_need (d + 5) L N2 _ (fun hK => ?_)
    rw [N2.R.syq, N2.R.eq 212 16 rfl, N2.R.eq 212 21 rfl, e1 16 (by decide), e1 21 (by decide), e16, show g 212 21 + (sn : Int) - g 212 21 = sn by omega, p_w (by omega) (by omega)]
    simp only [pB_0]
    have e7 : (if ¬sy = true then if (sn : Int) < 60 then am_E (am_D (d + 7)) m_7_38 (.inl 7) [some (am_r (am_a 212)), none, none] [am_i 1, am_r (am_a 212)] (zS L, h2) else am_E (am_D (d + 7)) m_7_38 (.inl 7) [some (am_r (am_a 212)), none, none] [am_i 0, am_r (am_a 212)] (zS L, h2) else am_E (am_D (d + 7)) m_7_38 (.inl 7) [some (am_r (am_a 212)), none, none] [am_i 1, am_r (am_a 212)] (zS L, h2)) = am_E (am_D (d + 7)) m_7_38 (.inl 7) [some (am_r (am_a 212)), none, none] [am_i (pB (sy = true ∨ sn < 60)), am_r (am_a 212)] (zS L, h2) := by
      by_cases hs : sy = true
      · rw [if_neg (fun z => z hs), pB_t (Or.inl hs)]
      · rw [if_pos hs]
        by_cases c : sn < 60
        · rw [if_pos (by omega), pB_t (Or.inr c)]
        · rw [if_neg (by omega), pB_f (fun z => z.elim hs c)]
    rw [e7, q_7_38_7]
    refine pn_room (d + 5) L N2 _ (fun _ => ?_)
    rw [pc_value (d + 6) L N2.R N2.lt, p_xI, fi_sub (d + 6) L _ _ N2.R.okh.2.2.2.2.2.1, p_xI, N2.R.sub, N2.R.eq 212 13 rfl, N2.R.eq 212 16 rfl]
    have e9 : (if ce_sub g3 (g3 212 13) (V j) = g3 212 16 then am_E (am_D (d + 7)) m_7_38 (.inl 9) [some (am_r (am_a 212)), none, none] [am_i 1, am_r (am_a 212)] (zS L, h2) else am_E (am_D (d + 7)) m_7_38 (.inl 9) [some (am_r (am_a 212)), none, none] [am_i 0, am_r (am_a 212)] (zS L, h2)) = am_E (am_D (d + 7)) m_7_38 (.inl 9) [some (am_r (am_a 212)), none, none] [am_i (pB (ce_sub g3 (g3 212 13) (V j) = g3 212 16)), am_r (am_a 212)] (zS L, h2) := by
      by_cases c : ce_sub g3 (g3 212 13) (V j) = g3 212 16
      · rw [if_pos c, pB_t c]
      · rw [if_neg c, pB_f c]
    rw [e9, q_7_38_9, pc_here (d + 6) L N2.R N2.lt, p_xI]
    show pc_o L _ g0 (gx_b (ce_h (g3, t, a, b, c, e, l) (ce_chk w (ce_sub g3 (g3 212 13) (V ((j : Int)).toNat) = g3 212 16) (3, P ((j : Int)).toNat) (if w = true then .inr g3 else ce_q (g3 217 5 < 130 ∧ 0 ≤ g3 212 21 ∧ g3 212 21 ≤ g3 217 5 ∧ g3 212 21 ≤ g3 212 16 ∧ g3 212 16 < 130)
      (.inr (am_up (am_up (am_up (am_up (am_up (am_up g3 218 (g3 217 5).toNat (g3 212 13)) 219 (g3 217 5).toNat (V ((j : Int)).toNat)) 220 (g3 217 5).toNat (g3 212 14)) 221 (g3 217 5).toNat 0) 217 5 (g3 217 5 + 1)) 222 (g3 212 16).toNat (if sy = true then 0 else am_w (am_w (am_w (100 * am_w (am_w (8 + g3 212 13) - g3 212 20)) + g3 212 16) - g3 212 18))))))) _) _
    rw [Int.toNat_natCast]
    refine pn_chk (d + 5) L N2 _ _ (fun _ => ?_)
    rw [N2.wr]
    simp only [pB_0]
    by_cases hw : w = true
    · rw [if_neg (fun z => z hw), if_pos hw]
      exact pn_sub13 d L HS hd hG g none none N2 hK e1
    · rw [if_pos hw, if_neg hw]
      refine pn_q L (fun hq => ?_)
      have a5 : (0 : Int) ≤ g3 217 5 := N2.R.ok.2.2.2.2.2.1.1
      rw [pc_value (d + 6) L N2.R N2.lt, p_xI, N2.R.eq 212 13 rfl, N2.R.eq 212 14 rfl, D_12_2, N2.R.eq 217 5 rfl, p_idx (by omega) (by omega), p_idx (by omega) (by omega), p_idx (by omega) (by omega), p_idx (by omega) (by omega), p_w (by omega) (by omega), p_xV]
      have o := N2.R.ok
      have n1 := N2.up 218 (g3 217 5).toNat (g3 212 13) rfl rfl rfl (by omega) (by omega) (o.upc rfl)
      have n2 := n1.up 219 (g3 217 5).toNat (V j) rfl rfl rfl (by omega) (by intro _; rw [p_up_c _ _ _ _ 212 (by decide)]; omega) ((o.upc rfl).upc rfl)
      have n3 := n2.up 220 (g3 217 5).toNat (g3 212 14) rfl rfl rfl (by omega) (by intro _; rw [p_up_c _ _ _ _ 212 (by decide), p_up_c _ _ _ _ 212 (by decide)]; omega) (((o.upc rfl).upc rfl).upc rfl)
      have n4 := n3.up 221 (g3 217 5).toNat 0 rfl rfl rfl (by omega) (by intro _; rw [p_up_c _ _ _ _ 212 (by decide), p_up_c _ _ _ _ 212 (by decide), p_up_c _ _ _ _ 212 (by decide)]; omega) ((((o.upc rfl).upc rfl).upc rfl).upc rfl)
      have o4 := n4.R.ok
      have n5 := n4.up 217 5 (g3 217 5 + 1) rfl rfl rfl (by omega) (by omega) (by
        unfold ce_ok at o4 ⊢
        rw [p_up_c _ 217 _ _ 8 (by decide), p_up_c _ 217 _ _ 213 (by decide), p_up_c _ 217 _ _ 229 (by decide), p_up_c _ 217 _ _ 223 (by decide), p_up_c _ 217 _ _ 235 (by decide), p_up_s]
        exact ⟨o4.1, o4.2.1, o4.2.2.1, o4.2.2.2.1, o4.2.2.2.2.1, by omega, o4.2.2.2.2.2.2.1, o4.2.2.2.2.2.2.2⟩)
      have c5 : am_up (am_up (am_up (am_up (am_up g3 218 (g3 217 5).toNat (g3 212 13)) 219 (g3 217 5).toNat (V j)) 220 (g3 217 5).toNat (g3 212 14)) 221 (g3 217 5).toNat 0) 217 5 (g3 217 5 + 1) 212 = g3 212 := by
        rw [p_up_c _ _ _ _ _ (by decide), p_up_c _ _ _ _ _ (by decide), p_up_c _ _ _ _ _ (by decide), p_up_c _ _ _ _ _ (by decide), p_up_c _ _ _ _ _ (by decide)]
      have r5 := n5.R
      rw [r5.syq, r5.eq 212 13 rfl, r5.eq 212 20 rfl, r5.eq 212 16 rfl, r5.eq 212 18 rfl, c5]
      simp only [pB_0]
      have a1 : (zS L)[222]? = some (1, 130, []) := rfl
      have go : ∀ v : Int, pc_o L (am_E (am_D (d + 7)) m_7_38 (.inl 11) [some (am_r (am_a 212)), none, none] [am_i v, am_i (g3 212 16), am_r (am_a 222)] (zS L, am_up (am_up (am_up (am_up (am_up h2 218 (g3 217 5).toNat (g3 212 13)) 219 (g3 217 5).toNat (V j)) 220 (g3 217 5).toNat (g3 212 14)) 221 (g3 217 5).toNat 0) 217 5 (g3 217 5 + 1))) g0
          (gx_b (ce_h (g3, t, a, b, c, e, l) (.inr (am_up (am_up (am_up (am_up (am_up (am_up g3 218 (g3 217 5).toNat (g3 212 13)) 219 (g3 217 5).toNat (V j)) 220 (g3 217 5).toNat (g3 212 14)) 221 (g3 217 5).toNat 0) 217 5 (g3 217 5 + 1)) 222 (g3 212 16).toNat v))) fun s1 => gx_b (gx_next sy K P j) fun j2 => gx_b (ce w sy K V P (51, 0, 0, 0) s1) fun s1 => gx_b (gx_sign sy K V P 40 j2) fun j3 => gx_b (gp_pars sy K V P (ce w sy K V P) G j3 0 s1) fun r2 => gx_b (ce w sy K V P (47, 0, 0, 0) r2.2) fun s2 => pc_bd K V P sy w G st r2.1 s2) (pc_posts K V P sy w Z g0 L g) := by
        intro v
        have n6 := n5.up 222 (g3 212 16).toNat v rfl rfl rfl (by omega) (by intro _; rw [c5]; omega) (n5.R.ok.upc rfl)
        rw [q_7_38_11, p_arr a1, p_idx (by omega) (by omega)]
        exact pn_sub13 d L HS hd hG g none none n6 hK (fun k hk => by rw [p_up_c _ _ _ _ 212 (by decide), c5]; exact e1 k hk)
      by_cases hs : sy = true
      · rw [if_neg (fun z => z hs), if_pos hs]; exact go 0
      · rw [if_pos hs, if_neg hs]; exact go _
  have fin : ∀ (j : Nat) (t : Int) (h2 : am_H), pc_N K V P sy w Z g0 j 1 st g3 h2 → pc_o L (am_xI (zS L) (am_D (d + 7) 7 1 [am_r (am_a 212)] (zS L, h2)) (am_up1 (zS L)) fun v9 h8 => if (v9 : Int) = 2 then am_E (am_D (d + 7)) m_7_38 (.inl 4) [some (am_r (am_a 212)), none, none] [am_i 1, am_r (am_a 212)] (zS L, h8) else am_E (am_D (d + 7)) m_7_38 (.inl 4) [some (am_r (am_a 212)), none, none] [am_i 0, am_r (am_a 212)] (zS L, h8)) g0
      (gx_if (K j = 2) (1, P j) (gx_if (sy = true ∨ sn < 60) (2, P j) (gx_b (ce w sy K V P (45, (j : Int), 0, 0) (g3, t, a, b, c, e, l)) fun s1 => gx_b (gx_next sy K P j) fun j2 => gx_b (ce w sy K V P (51, 0, 0, 0) s1) fun s1 => gx_b (gx_sign sy K V P 40 j2) fun j3 => gx_b (gp_pars sy K V P (ce w sy K V P) G j3 0 s1) fun r2 => gx_b (ce w sy K V P (47, 0, 0, 0) r2.2) fun s2 => pc_bd K V P sy w G st r2.1 s2))) (pc_posts K V P sy w Z g0 L g) := by
    intro j t h2 N2
    have m := mid j t h2 N2
    rw [pc_token (d + 6) L N2.R N2.lt, p_xI]
    by_cases c : K j = 2
    · rw [if_pos c]; rw [pB_t c] at m; exact m
    · rw [if_neg c]; rw [pB_f c] at m; exact m
  rw [pc_isWord (d + 5) L N2.R N2.lt, p_xI]
  simp only [pB_0]
  by_cases c10 : gx_wd K V 10 j
  · rw [if_neg (fun z => z c10), if_pos c10, gx_b_assoc]
    exact pn_next (d + 4) L N2 ⟨by rw [c10.1]; decide, by rw [c10.1]; decide⟩ (fun j3 h3 _ N3 => fin j3 t h3 N3)
  · rw [if_pos c10, if_neg c10]
    exact pn_type (d + 2) L N2 (fun j3 t3 h3 N3 => fin j3 t3 h3 N3)
end
