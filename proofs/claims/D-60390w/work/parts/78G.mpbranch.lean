/-! PURE LAYER, 55: the model's if, else, while -/
section
variable {K V P : Nat → Int} {Z : Nat} {g0 : am_H} {i deep st : Nat} {g h : am_H} (d L : Nat) {G : Nat} {bs : List (Int × Int × Int × Int)} {ty so : Int}
/-- else -/
theorem mq_else {b : Int × Int × Int × Int} {α : Type} {F : Nat → mi_S → gx_R α} {ok : α → Option am_O → Prop} (Q : mp_Q K V P Z g0 (b :: bs) i deep st g h) (hb : b.1 = 1) (hw : gx_wd K V 18 i)
    (hk : ∀ g2 h2 b2, b2.1 = 2 → mp_Q K V P Z g0 (b2 :: bs) (i + 2) (deep + 1) st g2 h2 → mo L (ms_L d L h2) g0 4980 (F (i + 2) (g2, ty, so, b2 :: bs, [])) ok) : mo L (am_xV (zS L) (am_D (d + 12) 17 37 [am_r (am_a 254)] (zS L, h)) (am_up1 (zS L)) (ms_L d L)) g0 4980 (gx_b (mi V (26, 0, 0, 0) (g, ty, so, b :: bs, [])) fun s4 => gx_b (hx_next i) fun j3 => gx_b (hx_opens K V P 123 deep j3) fun j4 => F j4 s4) ok := by
  have N1 := mq_down Q
  obtain ⟨⟨s1, s2, s3, s4⟩, ⟨b1, b2, b3, b4⟩, Bs⟩ := Q.2.2.1
  have ll := Q.2.2.2
  simp at ll
  have hK : K i ≠ 0 ∧ K i ≠ 6 ∧ K i ≠ 7 := ⟨by rw [hw.1]; decide, by rw [hw.1]; decide, by rw [hw.1]; decide⟩
  obtain ⟨e2, N2⟩ := mp_go (d + 10) L N1 hK
  have lt2 := N2.lt
  rw [mq_ends0 d L Q, if_pos hb, mp_isWord (d + 10) L N1, p_xI, if_neg (by rw [pB_t hw]; decide), e2, p_xV, N2.nx, p_xVI, p_w (by omega) (by omega), mi_26, gx_b_assoc]
  refine mn_add0 (d + 10) L N2 16 0 (b.2.1 + 1) 0 _ (by unfold mp_rel; omega) (by omega) (fun h3 N3 c3 => ?_)
  rw [p_xVI, N3.nx, gx_b_assoc]
  refine mn_add0 (d + 10) L N3 20 b.2.1 0 0 _ (by unfold mp_rel; omega) (by omega) (fun h4 N4 c4 => ?_)
  have N5 := N4.hole b.2.2.1.toNat (mi_put 16 0 (b.2.1 + 1) 0 (am_up g 254 55 (bs.length : Int)) 254 33)
  rw [p_idx b3 (by omega), p_xVV]
  simp only [p_xV]
  have e33 : am_up g 254 55 (bs.length : Int) 254 33 = g 254 33 := p_up_n _ _ _ _ _ _ (Or.inr (by decide))
  have o1 := Q.1.ok.1
  have kp : mk_kp (am_up g 254 55 (bs.length : Int)) (am_up (mi_put 20 b.2.1 0 0 (mi_put 16 0 (b.2.1 + 1) 0 (am_up g 254 55 (bs.length : Int)))) 278 b.2.2.1.toNat (mi_put 16 0 (b.2.1 + 1) 0 (am_up g 254 55 (bs.length : Int)) 254 33)) := (mk_kp_put _ _ _ _ _).trans ((mk_kp_put _ _ _ _ _).trans (mk_kp_up (by omega)))
  rw [e33] at c3
  show mo L _ g0 4980 (gx_b (hx_opens K V P 123 deep (i + 1)) fun j4 => F j4 (mi_blk bs.length 2 b.2.1 (g 254 33) 0 _, ty, so, (2, b.2.1, g 254 33, 0) :: bs, [])) ok
  rw [e33]
  refine mq_begins (d + 7) L N5 (mk_bs (mk_bs Bs (fun a ha => p_up_c _ _ _ _ _ (by omega))) kp.1) (by rw [kp.2.1, p_up_s]) (by omega) 2 b.2.1 (g 254 33) 0 ⟨b1, b2, o1.1, c3⟩ (mb_ms d L (by omega)) (fun h6 Q6 => ?_)
  exact hk _ h6 (2, b.2.1, g 254 33, 0) rfl Q6
theorem mi_25 (b : Int × Int × Int × Int) (g : am_H) : mi V (25, 0, 0, 0) (g, ty, so, b :: bs, []) = ce_q (bs.length < 40) (gx_b (mi_add 15 0 b.2.1 0 g) fun g1 => .inr (mi_blk bs.length 1 b.2.1 (g 254 33) b.2.2.2 g1, ty, so, (1, b.2.1, g 254 33, b.2.2.2) :: bs, [])) := rfl
theorem mi_31 (b : Int × Int × Int × Int) (g : am_H) : mi V (31, 0, 0, 0) (g, ty, so, b :: bs, []) = ce_q (bs.length < 40) (gx_b (mi_add 15 0 (b.2.1 + 1) 0 g) fun g1 => .inr (mi_blk bs.length 3 b.2.1 (g 254 33) b.2.2.2 g1, ty, so, (3, b.2.1, g 254 33, b.2.2.2) :: bs, [])) := rfl
/-- behind the word: the condition, the { -/
theorem mq_br1 {α : Type} {F : Nat → Nat → mi_S → gx_R α} {ok : α → Option am_O → Prop} (hG : G ≤ 900000) (ag : Bool) (n from_ t0 : Int) (hn : 0 ≤ n ∧ n ≤ 99990) (ht : 0 ≤ t0 ∧ t0 ≤ 1001) (N : mp_N K V P Z g0 [] i deep st g h) (e55 : g 254 55 = bs.length) (Bs : mp_Bs bs g) (u5 : Option am_V)
    (hk : ∀ st2 j g2 h2 b2, b2.1 = (if ag = true then 3 else 1) → mp_Q K V P Z g0 (b2 :: bs) j (deep + 1) st2 g2 h2 → mo L (ms_L d L h2) g0 4980 (F st2 j (g2, ty, so, b2 :: bs, [])) ok) :
    mo L (am_xV (zS L) (am_E (am_D (d + 10)) m_17_40 (.inl 1) [some (am_r (am_a 254)), some (am_i (pB (ag = true))), some (am_i t0), some (am_i n), some (am_i from_), u5] [] (zS L, h)) (am_up1 (zS L)) (ms_L d L)) g0 4980 (gx_b (he_c K V P (mi V) G deep st i (g, ty, so, ((if ag = true then 3 else 1), n, 0, from_) :: bs, [])) fun r => gx_b (mi V (if ag = true then 31 else 25, 0, 0, 0) r.2.2) fun s3 => gx_b (hx_opens K V P 123 deep r.1) fun j1 => F r.2.1 j1 s3) ok := by
  -- behind the )
  have bE : ∀ s0 : Int, mb L g0 4960 4980 (fun h3 => am_xV (zS L) (am_E (am_D (d + 10)) m_17_40 (.inl 3) [some (am_r (am_a 254)), some (am_i (pB (ag = true))), some (am_i t0), some (am_i n), some (am_i from_), u5] [am_i s0, am_i 0, am_i 15, am_r (am_a 254)] (zS L, h3)) (am_up1 (zS L)) (ms_L d L)) := by
    intro s0
    simp only [q_17_40_3, p_xVI]
    refine mbk_add (t := fun _ => t0) (d + 9) L (by omega) (fun v => ?_)
    have bb : ∀ sort : Int, mb L g0 4961 4980 (fun h1 => am_xV (zS L) (am_xV (zS L) (am_D (d + 10) 17 35 [am_r (am_a 254), am_i sort, am_i n, am_i v, am_i from_] (zS L, h1)) (am_up1 (zS L)) fun h3 => some (.inl none, (zS L, h3))) (am_up1 (zS L)) (ms_L d L)) := by
      intro sort
      simp only [p_xVV, p_xV]
      refine mb_V (m2 := 4962) (fun e h1 B => ?_) (mb_ms d L (by omega))
      obtain ⟨h2, e2, B2⟩ := mb_begins (d + 6) L B (by omega) sort n v from_
      exact ⟨h2, e2, B2⟩
    by_cases c : pB (ag = true) = 0
    · simp only [if_pos c]; exact bb 1
    · simp only [if_neg c]; exact bb 3
  have bC : mb L g0 4950 4980 (fun h2 => am_xV (zS L) (am_D (d + 10) 17 28 [am_r (am_a 254), am_i 41] (zS L, h2)) (am_up1 (zS L)) fun h3 => am_xV (zS L) (if (pB (ag = true) : Int) = 0 then am_E (am_D (d + 10)) m_17_40 (.inl 3) [some (am_r (am_a 254)), some (am_i (pB (ag = true))), some (am_i t0), some (am_i n), some (am_i from_), u5] [am_i n, am_i 0, am_i 15, am_r (am_a 254)] (zS L, h3) else am_E (am_D (d + 10)) m_17_40 (.inl 3) [some (am_r (am_a 254)), some (am_i (pB (ag = true))), some (am_i t0), some (am_i n), some (am_i from_), u5] [am_i (am_w (n + 1)), am_i 0, am_i 15, am_r (am_a 254)] (zS L, h3)) (am_up1 (zS L)) (ms_L d L)) := by
    refine mb_V (mbk_close (d + 6) L (by omega) 41) ?_
    by_cases c : pB (ag = true) = 0
    · simp only [if_pos c]; exact (bE _).le (by omega)
    · simp only [if_neg c]; exact (bE _).le (by omega)
  rw [q_17_40_1]
  simp only [p_xVV]
  unfold he_c
  simp only [gx_b_assoc, gx_b_inr]
  refine mo_bV (m := 4900) (mp_openSign (d + 7) L N 40) ((mb_V (mbk_exp (d + 9) L) bC).le (by omega)) ?_
  rintro j h1 - ⟨rfl, hdp, N1, -⟩
  refine mn_exp d L hG N1 bC (fun j2 st2 g2 n2 h2 N2 kp2 => ?_)
  have bD : mb L g0 4951 4980 (fun h3 => am_xV (zS L) (if (pB (ag = true) : Int) = 0 then am_E (am_D (d + 10)) m_17_40 (.inl 3) [some (am_r (am_a 254)), some (am_i (pB (ag = true))), some (am_i t0), some (am_i n), some (am_i from_), u5] [am_i n, am_i 0, am_i 15, am_r (am_a 254)] (zS L, h3) else am_E (am_D (d + 10)) m_17_40 (.inl 3) [some (am_r (am_a 254)), some (am_i (pB (ag = true))), some (am_i t0), some (am_i n), some (am_i from_), u5] [am_i (am_w (n + 1)), am_i 0, am_i 15, am_r (am_a 254)] (zS L, h3)) (am_up1 (zS L)) (ms_L d L)) := by
    by_cases c : pB (ag = true) = 0
    · simp only [if_pos c]; exact (bE _).le (by omega)
    · simp only [if_neg c]; exact (bE _).le (by omega)
  refine mo_bV (m := 4901) (mp_closeSign (d + 6) L N2 41) (bD.le (by omega)) ?_
  rintro j3 h3 - ⟨rfl, N3, -⟩
  have o1 := N3.ok.1
  have B3 : mp_Bs bs g2 := mk_bs Bs kp2.1
  have e3 : g2 254 55 = bs.length := by rw [kp2.2.1]; exact e55
  -- the hole, the block
  have fin : ∀ (sort n2 : Int), mo L (am_xV (zS L) (am_xI (zS L) (am_D (d + 10) 17 25 [am_r (am_a 254), am_i 15, am_i 0, am_i n2, am_i t0] (zS L, h3)) (am_up1 (zS L)) fun v2 h1 => am_xV (zS L) (am_D (d + 10) 17 35 [am_r (am_a 254), am_i sort, am_i n, am_i v2, am_i from_] (zS L, h1)) (am_up1 (zS L)) fun h3 => some (.inl none, (zS L, h3))) (am_up1 (zS L)) (ms_L d L)) g0 4980 (gx_b (ce_q (bs.length < 40) (gx_b (mi_add 15 0 n2 0 g2) fun g1 => (.inr (mi_blk bs.length sort n (g2 254 33) from_ g1, ty, so, (sort, n, g2 254 33, from_) :: bs, []) : gx_R mi_S))) fun s3 => gx_b (hx_opens K V P 123 deep (j2 + 1)) fun j1 => F st2 j1 s3) ok ∨ sort ≠ (if ag = true then 3 else 1) := by
    intro sort n2
    by_cases hs : sort = (if ag = true then 3 else 1)
    · left
      unfold ce_q
      by_cases hl : bs.length < 40
      · rw [if_pos hl, gx_b_assoc, p_xVI]
        refine mn_add0 (d + 9) L N3 15 0 n2 0 t0 (by unfold mp_rel; omega) ht (fun h4 N4 c4 => ?_)
        rw [p_xVV]
        simp only [p_xV]
        have kp4 := mk_kp_put 15 0 n2 0 g2
        refine mq_begins (d + 6) L N4 (mk_bs B3 kp4.1) (by rw [kp4.2.1]; exact e3) hl sort n (g2 254 33) from_ ⟨hn.1, by omega, o1.1, c4⟩ (mb_ms d L (by omega)) (fun h5 Q5 => ?_)
        exact hk _ _ _ h5 (sort, n, g2 254 33, from_) hs Q5
      · rw [if_neg hl]; exact fun z => absurd z (by decide)
    · exact Or.inr hs
  cases ag with
  | false =>
    rw [if_pos (by rw [pB_f (by simp)]), q_17_40_3, pB_f (by simp)]
    show mo L _ g0 4980 (gx_b (mi V (25, 0, 0, 0) (g2, ty, so, (1, n, 0, from_) :: bs, [])) fun s3 => gx_b (hx_opens K V P 123 deep (j2 + 1)) fun j1 => F st2 j1 s3) ok
    rw [mi_25]
    rcases fin 1 n with t | t
    · exact t
    · exact absurd rfl t
  | true =>
    rw [if_neg (by rw [pB_t rfl]; decide), q_17_40_3, pB_t rfl, p_w (by omega) (by omega)]
    show mo L _ g0 4980 (gx_b (mi V (31, 0, 0, 0) (g2, ty, so, (3, n, 0, from_) :: bs, [])) fun s3 => gx_b (hx_opens K V P 123 deep (j2 + 1)) fun j1 => F st2 j1 s3) ok
    rw [mi_31]
    rcases fin 3 (n + 1) with t | t
    · exact t
    · exact absurd rfl t
end
