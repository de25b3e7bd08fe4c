/-! PURE LAYER, 117: the component's read(): faults, success -/
theorem pr_body9 {w : Nat → Nat → Nat} {K V : Nat → Int} {e : gx_V} {p p' : pr_S} (he : e.1 ≤ 34) (h : pr w K V e p = .inr p') : p.1 9 = 6 := by
  obtain ⟨n, x, y, z⟩ := e
  dsimp only at he
  by_cases h12 : n = 12
  · subst h12
    cases hq : p.2.2.1 with
    | nil => unfold pr at h; dsimp only at h; rw [hq] at h; cases h
    | cons q l => unfold pr at h; dsimp only at h; rw [hq] at h; obtain ⟨hc, -, -⟩ := pr_q_in h; exact hc.1.1
  unfold pr at h
  split at h
  all_goals first
    | (cases h; done)
    | (rename_i hn; have hn : n = _ := hn; subst hn; exfalso; revert he; decide)
    | (rename_i hn; have hn : n = _ := hn; subst hn; exfalso; revert h12; decide)
    | (rename_i hn; have hn : n = _ := hn; subst hn)
  all_goals (obtain ⟨hc, -, -⟩ := pr_q_in h)
  all_goals first
    | (exact hc.1.1)
    | (exact hc.1)
/-- what a reading keeps -/
def cQ (b20 b21 bv : Nat) (g g' : am_H) : Prop := p_fr pc_C ((212, 24) :: pc_P) g g' ∧ (∀ k, k < bv → g' 9 k = g 9 k ∧ g' 10 k = g 10 k ∧ g' 11 k = g 11 k) ∧ (∀ k, k < b20 → g' 214 k = g 214 k ∧ g' 215 k = g 215 k ∧ g' 216 k = g 216 k) ∧ (∀ k, k < b21 → g' 218 k = g 218 k ∧ g' 219 k = g 219 k ∧ g' 220 k = g 220 k ∧ g' 221 k = g 221 k ∧ g' 222 k = g 222 k)
section
variable {b20 b21 bv : Nat} {g g' g2 : am_H}
theorem cQ.trans (A : cQ b20 b21 bv g g') (B : cQ b20 b21 bv g' g2) : cQ b20 b21 bv g g2 := by
  obtain ⟨a1, a2, a3, a4⟩ := A
  obtain ⟨c1, c2, c3, c4⟩ := B
  refine ⟨a1.trans c1, fun k hk => ?_, fun k hk => ?_, fun k hk => ?_⟩
  · obtain ⟨x1, x2, x3⟩ := a2 k hk
    obtain ⟨y1, y2, y3⟩ := c2 k hk
    exact ⟨y1.trans x1, y2.trans x2, y3.trans x3⟩
  · obtain ⟨x1, x2, x3⟩ := a3 k hk
    obtain ⟨y1, y2, y3⟩ := c3 k hk
    exact ⟨y1.trans x1, y2.trans x2, y3.trans x3⟩
  · obtain ⟨x1, x2, x3, x4, x5⟩ := a4 k hk
    obtain ⟨y1, y2, y3, y4, y5⟩ := c4 k hk
    exact ⟨y1.trans x1, y2.trans x2, y3.trans x3, y4.trans x4, y5.trans x5⟩
theorem cQ_of {v : Int} (q : ce_Q (pc_start (am_up g 212 24 v)) g') (h20 : g 212 20 = (b20 : Int)) (h21 : g 212 21 = (b21 : Int)) (h8 : (bv : Int) ≤ g 8 3) : cQ b20 b21 bv g g' := by
  obtain ⟨q1, q2, q3, q4, q5⟩ := q
  have st : ∀ a, a ≠ 212 → a ≠ 235 → pc_start (am_up g 212 24 v) a = g a := fun a h1 h2 => by rw [pc_start_c _ _ h1 h2, p_up_c _ _ _ _ _ h1]
  rw [pc_start_f _ _ (by decide) (by decide) (by decide), p_up_n _ _ _ _ _ _ (Or.inr (by decide)), h20] at q4
  rw [pc_start_f _ _ (by decide) (by decide) (by decide), p_up_n _ _ _ _ _ _ (Or.inr (by decide)), h21] at q5
  rw [st 8 (by decide) (by decide), st 9 (by decide) (by decide), st 10 (by decide) (by decide), st 11 (by decide) (by decide)] at q3
  rw [st 214 (by decide) (by decide), st 215 (by decide) (by decide), st 216 (by decide) (by decide)] at q4
  rw [st 218 (by decide) (by decide), st 219 (by decide) (by decide), st 220 (by decide) (by decide), st 221 (by decide) (by decide), st 222 (by decide) (by decide)] at q5
  refine ⟨fun a k h1 h2 => ?_, fun k hk => q3 k (by omega), fun k hk => q4 k (by omega), fun k hk => q5 k (by omega)⟩
  have h2' : pc_P.contains (a, k) = false := by
    rw [List.contains_cons] at h2
    exact (Bool.or_eq_false_iff.1 h2).2
  rw [q1 a k h1 h2']
  have nd : ∀ b j, pc_P.contains (b, j) = true → ¬ (a = b ∧ k = j) := fun b j hb z => by rw [z.1, z.2, hb] at h2'; cases h2'
  have n24 : ¬ (a = 212 ∧ k = 24) := fun z => by rw [z.1, z.2] at h2; cases h2
  unfold pc_start
  rw [p_up, if_neg (nd 212 17 rfl), p_up, if_neg (nd 212 16 rfl), p_up, if_neg (nd 212 15 rfl), p_up, if_neg (nd 235 3 rfl), p_up, if_neg n24]
end
section
variable {K K' P V sc ss n6 : Nat → Int} {cc cs : Nat → Nat} {b20 b21 b15 bv bl : Nat} {hm : am_H} (d L : Nat) {Z G : Nat}
theorem cS.w {g : am_H} (C : cS b20 b21 b15 bv bl n6 g) (v : Int) : cS b20 b21 b15 bv bl n6 (am_up g 212 24 v) := by
  unfold cS at *
  rw [p_up_n _ _ _ _ 212 20 (Or.inr (by decide)), p_up_n _ _ _ _ 212 21 (Or.inr (by decide)), p_up_n _ _ _ _ 212 22 (Or.inr (by decide)), p_up_c _ _ _ _ 213 (by decide), p_up_c _ _ _ _ 217 (by decide), p_up_c _ _ _ _ 6 (by decide), p_up_c _ _ _ _ 8 (by decide), p_up_c _ _ _ _ 235 (by decide)]
  exact C
theorem ce_ok.w {g : am_H} (ok : ce_ok g) (v : Int) : ce_ok (am_up g 212 24 v) := ce_ok.upc ok rfl
theorem fr24 {g h : am_H} (f : p_fr [] pc_ps g h) (v : Int) : p_fr [] pc_ps (am_up g 212 24 v) (am_up h 212 24 v) := fun a k h1 h2 => by
  rw [p_up, p_up]
  split
  · rfl
  · exact f a k h1 h2
/-- what the reading is given -/
def cG (K V P : Nat → Int) (Z : Nat) (g h : am_H) : Prop := p_fr [] pc_ps g h ∧ g 212 23 = 0 ∧ g 241 = K ∧ g 242 = V ∧ g 243 = P ∧ ce_ok g ∧ pc_Z K V false Z ∧ pc_I K Z 0
/-- the text breaks the grammar -/
theorem cr_fault (hd : pc_ds 2 ≤ d + 5) (hG : G ≤ 20000) {g h : am_H} (A : cG K V P Z g h) (C : cS b20 b21 b15 bv bl n6 g) (T : tkc K K' V P n6) {e : Int × Int} (he : e.1 < 8) (HF : ∀ {σ : Type} (C : gx_V → σ → gx_R σ) (s : σ), ∃ es p, gx_fold (pr pw K' V) es pr_0 = .inr p ∧ gp false K V P C G s = gx_b (gx_fold C es s) fun _ => .inl e) (u1 : Option am_V) :
    ∃ h' g', am_E (am_D (d + 10)) m_7_26 (.inl 3) [some (am_r (am_a 212)), u1, some (am_i 0), some (am_i 0)] [] (zS L, h) = pI L e.1 h' ∧ h' 212 9 = e.1 ∧ h' 212 10 = e.2 ∧ p_fr [] pc_pf g' h' ∧ (cQ b20 b21 bv g g' ∧ ce_ok g') := by
  obtain ⟨f, hs, hK, hV, hP, ok, HZ, hI⟩ := A
  have c0 := C
  obtain ⟨⟨c1, c2, c3, c4, c5, c6⟩, ⟨c7, c8⟩, ⟨c9, c10⟩, c11, c12, c13, c14, c15⟩ := C
  have N := pn_prog (K := K) (V := V) (P := P) (sy := false) (w := false) (Z := Z) (G := G) d L hd hG (am_up g 212 24 0) (am_up h 212 24 0) (0, 0, 0, 0, 0, []) (fr24 f 0) (by rw [p_up_n _ _ _ _ _ _ (Or.inr (by decide))]; exact hs) (by rw [p_up_s]; rfl) (by rw [p_up_c _ _ _ _ _ (by decide)]; exact hK) (by rw [p_up_c _ _ _ _ _ (by decide)]; exact hV) (by rw [p_up_c _ _ _ _ _ (by decide)]; exact hP) (ok.w 0) HZ hI (by rw [p_up_n _ _ _ _ _ _ (Or.inr (by decide))]; omega) (by rw [p_up_n _ _ _ _ _ _ (Or.inr (by decide))]; omega) (by rw [p_up_n _ _ _ _ _ _ (Or.inr (by decide))]; omega)
  obtain ⟨es, p, w1, w2⟩ := HF (ce false false K V P) (pc_start (am_up g 212 24 0), 0, 0, 0, 0, 0, [])
  obtain ⟨c', w3, -⟩ := ce_run0 T es w1 po_0 (rc_0 (c0.w 0) (0, 0, 0, 0, 0, []) rfl)
  rw [w2, w3] at N
  have t : pc_thr L _ e _ := N he
  rw [q_7_26_3, if_pos (by decide), if_neg (by decide), p_bit0]
  obtain ⟨h', g', r1, r2, r3, r4, r5⟩ := cr_caught (d := d + 10) (L := L) (u1 := u1) (x2 := some (am_i 0)) (x3 := some (am_i 0)) (k := fun h6 => am_E (am_D (d + 10)) m_7_26 (.inl 3) [some (am_r (am_a 212)), u1, some (am_i 0), some (am_i (am_w (0 + 1)))] [] (zS L, h6)) t
  exact ⟨h', g', r1, r2, r3, r4, cQ_of r5.1 c1 c3 (by omega), r5.2⟩
/-- the text is read: its notes, its main, or all is well -/
theorem cr_events (hd : pc_ds 2 ≤ d + 5) (hG : G ≤ 20000) {g h : am_H} (A : cG K V P Z g h) (C : cS b20 b21 b15 bv bl n6 g) (T : tkc K K' V P n6) (tp : tkP K' P) (Y : SY b20 b21 sc ss cc cs hm g) (Sk : SKn g) {es : List gx_V} {pE : pr_S} {S : mi_S} (h1 : gx_fold (pr pw K' V) es pr_0 = .inr pE) (hE14 : pE.1 14 = 0) (hE9 : pE.1 9 = 0 ∨ pE.1 9 = 3) (HS : ∀ {σ : Type} (C : gx_V → σ → gx_R σ) (s : σ), gp false K V P C G s = gx_fold C es s) (m1 : gx_fold (mi V) es (mt_0 hm, -1, 0, [], []) = .inr S) (hrm : rm pr_0 (mt_0 hm, -1, 0, [], [])) (s297 : S.1 297 = hm 297) (s300 : S.1 300 = hm 300) (s301 : S.1 301 = hm 301) (u1 : Option am_V) :
    ∃ c0 : am_H, FT b20 b21 V S.1 c0 (pE.1 0) (pE.1 3) ∧ SY b20 b21 sc ss cc cs S.1 c0 ∧ SKn c0 ∧ rU b20 b21 g (am_up c0 212 24 (g 212 24)) ∧
    ((∃ x, x ∈ ml_n K' P V sc ss S.1 ∧ (∀ q ∈ ml_n K' P V sc ss S.1, nle x q) ∧ ∃ h' g', am_E (am_D (d + 10)) m_7_26 (.inl 3) [some (am_r (am_a 212)), u1, some (am_i 0), some (am_i 0)] [] (zS L, h) = pI L x.1 h' ∧ h' 212 9 = x.1 ∧ h' 212 10 = x.2 ∧ p_fr [] pc_pf g' h' ∧ (cQ b20 b21 bv g g' ∧ ce_ok g')) ∨
    (ml_n K' P V sc ss S.1 = [] ∧ ∃ c', r2 K' P V sc ss cc b20 b21 b15 bv bl S.1 c0 pE S c' ∧ TR K' P V sc ss cs b21 b15 S.1 c0 es pr_0 (mt_0 hm, -1, 0, [], []) (c0, 0, 0, 0, 0, 0, []) c' ∧ c0 8 3 = (bv : Int) ∧ c0 8 4 = (bl : Int) ∧ c0 235 3 = 0 ∧ cQ b20 b21 bv g c'.1 ∧
      ((¬ mainOK c0 ∧ ∃ h' g', am_E (am_D (d + 10)) m_7_26 (.inl 3) [some (am_r (am_a 212)), u1, some (am_i 0), some (am_i 0)] [] (zS L, h) = pI L 7 h' ∧ h' 212 9 = 7 ∧ h' 212 10 = g 240 6 ∧ p_fr [] pc_pf g' h' ∧ (cQ b20 b21 bv g g' ∧ ce_ok g')) ∨
       (mainOK c0 ∧ ∃ h', am_E (am_D (d + 10)) m_7_26 (.inl 3) [some (am_r (am_a 212)), u1, some (am_i 0), some (am_i 0)] [] (zS L, h) = pI L 0 h' ∧ (p_fr [] pc_ps c'.1 h' ∧ ce_ok c'.1))))) := by
  obtain ⟨f, hs, hK, hV, hP, ok, HZ, hI⟩ := A
  have cS0 := C
  obtain ⟨⟨c1, c2, c3, c4, c5, c6⟩, ⟨c7, c8⟩, ⟨c9, c10⟩, hb⟩ := C
  -- the first reading
  have N := pn_prog (K := K) (V := V) (P := P) (sy := false) (w := false) (Z := Z) (G := G) d L hd hG (am_up g 212 24 0) (am_up h 212 24 0) (0, 0, 0, 0, 0, []) (fr24 f 0) (by rw [p_up_n _ _ _ _ _ _ (Or.inr (by decide))]; exact hs) (by rw [p_up_s]; rfl) (by rw [p_up_c _ _ _ _ _ (by decide)]; exact hK) (by rw [p_up_c _ _ _ _ _ (by decide)]; exact hV) (by rw [p_up_c _ _ _ _ _ (by decide)]; exact hP) (ok.w 0) HZ hI (by rw [p_up_n _ _ _ _ _ _ (Or.inr (by decide))]; omega) (by rw [p_up_n _ _ _ _ _ _ (Or.inr (by decide))]; omega) (by rw [p_up_n _ _ _ _ _ _ (Or.inr (by decide))]; omega)
  rw [HS (ce false false K V P)] at N
  have Rv0 : rv K' pr_0 (mt_0 hm, -1, 0, [], []) := rv_0 (-1) 0 rfl
  obtain ⟨x1, w1, R1, RT1, U1⟩ := rT_run (c0 := pc_start (am_up g 212 24 0)) T es h1 m1 Rv0 po_0 pq_0 (rc_0 (cS0.w 0) (0, 0, 0, 0, 0, []) rfl) (rT_0 (0, 0, 0, 0, 0, [])) (rU_refl _)
  have e8 : x1.1 8 = g 8 := by
    rw [ce_f8_run es w1]
    dsimp only
    rw [pc_start_c _ _ (by decide) (by decide), p_up_c _ _ _ _ _ (by decide)]
  rw [w1] at N
  obtain ⟨h1', D1, i1, st1, N1⟩ := N
  obtain ⟨PR1, PQ1, -, -, -⟩ := N1
  have pr1 := PR1
  obtain ⟨pf1, -, -, -, p23, p24, pK, pV', pP, pok⟩ := PR1
  obtain ⟨rc1, rc2, rc3, rc4, rc5, rc6, -, -, rc9, -⟩ := R1
  obtain ⟨rc20, rc21, rc6', -, -⟩ := rc1
  have rw3 : ∀ k, pE.2.2.2 k ≤ 2100 := by
    cases es with
    | nil => cases h1; intro k; exact Nat.zero_le _
    | cons e es =>
      -- the last event's bound
      have : ∀ (es : List gx_V) (p : pr_S), (∀ k, p.2.2.2 k ≤ 2100) → gx_fold (pr pw K' V) es p = .inr pE → ∀ k, pE.2.2.2 k ≤ 2100 := by
        intro es
        induction es with
        | nil => intro p hp h; cases h; exact hp
        | cons e es ih => intro p hp h; obtain ⟨p1, a1, a2⟩ := gx_b_ok h; exact ih p1 (pr_le a1) a2
      exact this (e :: es) pr_0 (fun k => Nat.zero_le _) h1
  -- what stands ahead of the second one
  obtain ⟨c0, hc0⟩ : ∃ c0, c0 = pc_start (am_up x1.1 212 24 1) := ⟨_, rfl⟩
  have Ua : rU b20 b21 (am_up g 212 24 0) x1.1 := (rU_start _).trans U1
  have Ub : rU b20 b21 (am_up x1.1 212 24 1) c0 := by rw [hc0]; exact rU_start _
  have a212 : ∀ k, k ≠ 15 → k ≠ 16 → k ≠ 17 → k ≠ 24 → c0 212 k = x1.1 212 k := fun k h1 h2 h3 h4 => by rw [hc0, pc_start_f _ _ h1 h2 h3, p_up_n _ _ _ _ _ _ (Or.inr h4)]
  have aC : ∀ a, a ≠ 212 → a ≠ 235 → c0 a = x1.1 a := fun a h1 h2 => by rw [hc0, pc_start_c _ _ h1 h2, p_up_c _ _ _ _ _ h1]
  have g22 : x1.1 212 22 = (b15 : Int) := by
    rw [Ua.2.2.2 22 (by decide), p_up_n _ _ _ _ _ _ (Or.inr (by decide))]; exact c5
  have FT0 : FT b20 b21 V S.1 c0 (pE.1 0) (pE.1 3) := by
    have Rv := rv_run es h1 m1 Rv0
    obtain ⟨t1, t2, -⟩ := RT1
    refine ⟨⟨Rv.2.1.1, Rv.2.1.2.1, ?_, ?_, ?_, ?_⟩, fun k hk => ?_, fun k hk => ?_⟩
    · rw [aC 213 (by decide) (by decide)]; exact rc2.1
    · rw [aC 217 (by decide) (by decide)]; exact rc2.2
    · rw [a212 20 (by decide) (by decide) (by decide) (by decide)]; exact rc20
    · rw [a212 21 (by decide) (by decide) (by decide) (by decide)]; exact rc21
    · rw [aC 214 (by decide) (by decide), aC 215 (by decide) (by decide), aC 216 (by decide) (by decide)]
      obtain ⟨a1, a2, a3⟩ := t1 k hk
      exact ⟨a1, a2, a3 (Or.inr (by omega))⟩
    · rw [aC 221 (by decide) (by decide)]
      obtain ⟨a1, a3⟩ := t2 k hk
      refine ⟨?_, ?_, a3 (Or.inr (by omega))⟩
      · have := (Rv.1.2.1.2 k (by rw [Rv.2.1.2.1]; omega)).2.1
        rw [Rv.2.1.1] at this
        exact this
      · unfold rTs at a1 ⊢
        rw [aC 218 (by decide) (by decide), aC 219 (by decide) (by decide), aC 220 (by decide) (by decide), aC 222 (by decide) (by decide)]
        exact a1
  have Ya : SY b20 b21 sc ss cc cs hm (am_up g 212 24 0) := Y.w 0
  have Yx : SY b20 b21 sc ss cc cs S.1 x1.1 := Ya.fr Ua s297 s300 s301
  have Y0 : SY b20 b21 sc ss cc cs S.1 c0 := (Yx.w 1).fr Ub rfl rfl rfl
  have d1 : (b20 : Int) ≤ x1.1 213 3 := by rw [rc2.1]; omega
  have d2 : (b21 : Int) ≤ x1.1 217 5 := by rw [rc2.2]; omega
  have Sx : SKn x1.1 := SKn_fr Ya Ua (by rw [p_up_c _ _ _ _ _ (by decide)]; exact c2) (by rw [p_up_c _ _ _ _ _ (by decide)]; exact c4) d1 d2 (Sk.w 0)
  have S0 : SKn c0 := by
    have e : ∀ a b, 19 ≤ a → 19 ≤ b → a ≠ 24 → b ≠ 24 → sysS c0 a b = sysS x1.1 a b := fun a b h1 h2 h3 h4 => by
      unfold sysS ce_sub ce_cls
      rw [aC 213 (by decide) (by decide), aC 214 (by decide) (by decide), aC 217 (by decide) (by decide), aC 218 (by decide) (by decide), aC 219 (by decide) (by decide), a212 a (by omega) (by omega) (by omega) h3, a212 b (by omega) (by omega) (by omega) h4]
    unfold SKn at *
    rw [e 28 29 (by decide) (by decide) (by decide) (by decide), e 30 31 (by decide) (by decide) (by decide) (by decide), e 30 32 (by decide) (by decide) (by decide) (by decide), e 33 34 (by decide) (by decide) (by decide) (by decide), e 33 35 (by decide) (by decide) (by decide) (by decide)]
    exact Sx
  have Ug : rU b20 b21 g (am_up c0 212 24 (g 212 24)) := by
    refine ⟨fun k hk => ?_, fun k hk => ?_, fun a ha => ?_, fun k hk => ?_⟩
    · obtain ⟨a1, a2, a3⟩ := Ua.1 k hk
      rw [p_up_c _ _ _ _ _ (by decide)] at a1 a2 a3
      rw [p_up_c _ _ _ _ _ (by decide), p_up_c _ _ _ _ _ (by decide), p_up_c _ _ _ _ _ (by decide), aC 214 (by decide) (by decide), aC 215 (by decide) (by decide), aC 216 (by decide) (by decide)]
      exact ⟨a1, a2, a3⟩
    · obtain ⟨a1, a2, a3, a4, a5⟩ := Ua.2.1 k hk
      rw [p_up_c _ _ _ _ _ (by decide)] at a1 a2 a3 a4 a5
      rw [p_up_c _ _ _ _ _ (by decide), p_up_c _ _ _ _ _ (by decide), p_up_c _ _ _ _ _ (by decide), p_up_c _ _ _ _ _ (by decide), p_up_c _ _ _ _ _ (by decide), aC 218 (by decide) (by decide), aC 219 (by decide) (by decide), aC 220 (by decide) (by decide), aC 221 (by decide) (by decide), aC 222 (by decide) (by decide)]
      exact ⟨a1, a2, a3, a4, a5⟩
    · rw [p_up_c _ _ _ _ _ (by omega), aC a (by omega) (by omega), Ua.2.2.1 a ha, p_up_c _ _ _ _ _ (by omega)]
    · by_cases e : k = 24
      · rw [e, p_up_s]
      · rw [p_up_n _ _ _ _ _ _ (Or.inr e), a212 k (by omega) (by omega) (by omega) e, Ua.2.2.2 k hk, p_up_n _ _ _ _ _ _ (Or.inr e)]
  refine ⟨c0, FT0, Y0, S0, Ug, ?_⟩
  -- the second reading
  have Q1 : cQ b20 b21 bv g x1.1 := cQ_of PQ1 c1 c3 (by omega)
  have x20 : x1.1 212 20 = (b20 : Int) := rc20
  have x21 : x1.1 212 21 = (b21 : Int) := rc21
  have x235 : 0 ≤ x1.1 235 4 ∧ x1.1 235 4 ≤ 100000 := by
    have := rw3 3
    rcases rc9.2 with z | z
    · exact ⟨rc9.1, by omega⟩
    · exact ⟨rc9.1, z.2⟩
  have f2 : p_fr [] pc_ps (am_up x1.1 212 24 1) (am_up h1' 212 24 1) := fr24 pf1 1
  have N2 := pn_prog (K := K) (V := V) (P := P) (sy := false) (w := true) (Z := Z) (G := G) d L hd hG (am_up x1.1 212 24 1) (am_up h1' 212 24 1) (0, 0, 0, 0, 0, []) f2 (by rw [p_up_n _ _ _ _ _ _ (Or.inr (by decide))]; exact p23) (by rw [p_up_s]; rfl) (by rw [p_up_c _ _ _ _ _ (by decide)]; exact pK) (by rw [p_up_c _ _ _ _ _ (by decide)]; exact pV') (by rw [p_up_c _ _ _ _ _ (by decide)]; exact pP) (ce_ok.w pok 1) HZ hI (by rw [p_up_n _ _ _ _ _ _ (Or.inr (by decide))]; omega) (by rw [p_up_n _ _ _ _ _ _ (Or.inr (by decide))]; omega) (by rw [p_up_n _ _ _ _ _ _ (Or.inr (by decide))]; omega)
  rw [HS (ce true false K V P), ← hc0] at N2
  have R2 : r2 K' P V sc ss cc b20 b21 b15 bv bl S.1 c0 pr_0 (mt_0 hm, -1, 0, [], []) (c0, 0, 0, 0, 0, 0, []) := by
    rw [hc0]
    exact r2_0 (n6 := n6) (fun _ => trivial) (by rw [p_up_n _ _ _ _ _ _ (Or.inr (by decide))]; exact x20) (by rw [p_up_n _ _ _ _ _ _ (Or.inr (by decide))]; exact x21) (by rw [p_up_n _ _ _ _ _ _ (Or.inr (by decide))]; exact g22) (by rw [p_up_c _ _ _ _ _ (by decide), e8]; exact c7) (by rw [p_up_c _ _ _ _ _ (by decide), e8]; exact c8) (by rw [p_up_c _ _ _ _ _ (by decide)]; exact x235) (0, 0, 0, 0, 0, []) rfl
  have RvE := rv_run es h1 m1 Rv0
  have RkE := (rk_run es h1 m1 Rv0 pq_0 rk_0).1
  have oc0 : S.2.2.2.2 = [] := by
    have ro := RkE.1
    have := R2
    have o : pE.2.2.1 = [] := by
      -- no call is open at the end
      have key : ∀ (es : List gx_V) (p : pr_S), (p.1 9 ≠ 6 → p.2.2.1 = []) → gx_fold (pr pw K' V) es p = .inr pE → (pE.1 9 ≠ 6 → pE.2.2.1 = []) := by
        intro es
        induction es with
        | nil => intro p hp h; cases h; exact hp
        | cons e es ih =>
          intro p hp h
          obtain ⟨p1, a1, a2⟩ := gx_b_ok h
          refine ih p1 (fun z => ?_) a2
          by_cases he : e.1 ≤ 34
          · have z9 := pz_ev he a1 9 (by decide)
            have z6 : p.1 9 = 6 := pr_body9 he a1
            exact absurd (z9.trans z6) z
          · obtain ⟨n, x, y, w⟩ := e
            dsimp only at he
            unfold pr at a1
            split at a1
            all_goals first
              | (cases a1; done)
              | (rename_i hn; have hn : n = _ := hn; subst hn; exfalso; revert he; decide)
              | skip
            all_goals (obtain ⟨hc, -, hp'⟩ := pr_q_in a1)
            all_goals (rw [hp'])
            all_goals first
              | (exact hc.2.2.2.1)
              | (refine hp ?_; have := hc.1; omega)
              | (refine hp ?_; have := hc.1.1; omega)
      exact key es pr_0 (fun _ => rfl) h1 (by omega)
    rw [o] at ro
    cases hq : S.2.2.2.2 with
    | nil => rfl
    | cons a l => rw [hq] at ro; exact ro.elim
  have HK : ∀ k : Nat, (k : Int) < S.1 254 39 → pr_cs K' V (S.1 283 k).toNat (S.1 284 k) := fun k hk => RkE.2 k hk (by rw [oc0]; exact fun z => by cases z)
  have E3 : am_E (am_D (d + 10)) m_7_26 (.inl 3) [some (am_r (am_a 212)), u1, some (am_i 0), some (am_i 0)] [] (zS L, h) = am_xV (zS L) (am_D (d + 10) 7 29 [am_r (am_a 212)] (zS L, am_up h1' 212 24 1)) (fun a7 h8 => am_obj (zS L, h8) (am_a a7) 20 fun _ _ => am_E (am_D (d + 10)) m_7_26 (.inl 8) [some (am_r (am_a 212)), u1, some (am_i 0), some (am_i 1)] [am_r (am_a a7)] (zS L, h8)) fun h9 => am_E (am_D (d + 10)) m_7_26 (.inl 3) [some (am_r (am_a 212)), u1, some (am_i 0), some (am_i (am_w (1 + 1)))] [] (zS L, h9) := by
    rw [q_7_26_3, if_pos (by decide), if_neg (by decide), p_bit0, D1, p_xV, p_w (by decide) (by decide), q_7_26_3, if_pos (by decide), if_pos (by decide), p_bit1]
    rfl
  rcases c2_run (b15 := b15) (bv := bv) (bl := bl) (pE := pE) (S := S) T (by rw [aC 6 (by decide) (by decide)]; exact rc6') FT0 Y0 S0 tp hb rfl RvE.1 HK hE14 (by omega) es h1 m1 R2 po_0 Rv0 hrm pq_0 pBd_0 with ⟨c', w2, r2', tr, nil⟩ | ⟨x, w2, xm, xl⟩
  · rw [w2] at N2
    obtain ⟨h2', D2, i2, st2, N3⟩ := N2
    refine Or.inr ⟨nil, c', r2', tr, ?_, ?_, ?_, ?_, ?_⟩
    · rw [aC 8 (by decide) (by decide), e8]; exact c7
    · rw [aC 8 (by decide) (by decide), e8]; exact c8
    · rw [hc0]; exact (pc_start_v _).2.2.2.1
    · exact Q1.trans (cQ_of (v := 1) (by have := N3.2.1; rw [hc0] at this; exact this) x20 x21 (by rw [e8]; omega))
    · have fr' := r2'.1
      have eM : mainC c'.1 = mainC c0 := by
        have t := tab_eq fr'.1 fr'.2
        unfold mainC
        have eo : ∀ x, ce_own c'.1 x = ce_own c0 x := fun x => by unfold ce_own; rw [fr'.1 213 (by omega), fr'.1 214 (by omega), fr'.2 20 (by omega)]
        rw [eo, (t _).2.1, fr'.2 26 (by omega), fr'.2 27 (by omega)]
      have eOK : mainOK c'.1 ↔ mainOK c0 := by unfold mainOK; rw [eM, fr'.1 220 (by omega), fr'.1 221 (by omega)]
      have h3 : am_E (am_D (d + 10)) m_7_26 (.inl 3) [some (am_r (am_a 212)), u1, some (am_i 0), some (am_i 0)] [] (zS L, h) = am_xV (zS L) (am_D (d + 10) 7 30 [am_r (am_a 212)] (zS L, h2')) (fun a1 h2 => am_obj (zS L, h2) (am_a a1) 20 fun _ _ => am_E (am_D (d + 10)) m_7_26 (.inl 8) [some (am_r (am_a 212)), u1, some (am_i 0), some (am_i 2)] [am_r (am_a a1)] (zS L, h2)) fun h3 => pI L 0 h3 := by
        rw [E3, D2, p_xV, p_w (by decide) (by decide), q_7_26_3, if_neg (by decide), if_pos rfl]
        rfl
      rcases cr_start (d + 8) L N3 (by rw [fr'.2 20 (by omega), fr'.1 213 (by omega), FT0.1.2.2.2.2.1, FT0.1.2.2.1]; omega) with ⟨m, D3⟩ | ⟨m, D3⟩
      · refine Or.inr ⟨eOK.1 m, h2', ?_, N3.1.1, N3.1.ok⟩
        rw [h3, D3, p_xV]
      · refine Or.inl ⟨fun z => m (eOK.2 z), ?_⟩
        obtain ⟨h', g', r1, r2, r3, r4, r5⟩ := cr_caught (d := d + 10) (L := L) (u1 := u1) (x2 := some (am_i 0)) (x3 := some (am_i 2)) (k := fun h3 => pI L 0 h3) D3
        refine ⟨h', g', by rw [h3]; exact r1, r2, ?_, r4, ?_⟩
        · rw [r3]
          dsimp only
          have q240 : c'.1 240 6 = c0 240 6 := N3.2.1.1 240 6 rfl rfl
          rw [q240, aC 240 (by decide) (by decide)]
          have := Q1.1 240 6 rfl rfl
          exact this
        · have q5 : ce_Q (pc_start (am_up x1.1 212 24 1)) g' := by
            have := N3.2.1
            rw [hc0] at this
            exact this.trans r5.1
          exact ⟨Q1.trans (cQ_of q5 x20 x21 (by rw [e8]; omega)), r5.2⟩
  · rw [w2] at N2
    refine Or.inl ⟨x, xm, xl, ?_⟩
    have x8 : x.1 < 8 := by
      have := xm
      unfold ml_n at this
      rcases List.mem_append.1 this with z | z
      · rcases List.mem_append.1 z with z | z
        · obtain ⟨k, -, -, z⟩ := (nt_cs_mem _ _).1 z
          rw [nt_c_at z]; dsimp only; omega
        · rcases List.mem_append.1 z with z | z
          · obtain ⟨k, -, -, z⟩ := (nt_ss_mem _ _).1 z
            rcases nt_s_at z with z | z
            · rw [z]; dsimp only; omega
            · rw [(nt_ty_at z).2.2]; dsimp only; omega
          · obtain ⟨k, -, -, z⟩ := (nt_vs_mem _ _).1 z
            rcases nt_v_at z with z | z
            · rw [z]; dsimp only; omega
            · rw [(nt_ty_at z).2.2]; dsimp only; omega
      · rcases List.mem_append.1 z with z | z
        · obtain ⟨k, -, -, z⟩ := (nt_is_mem _ _).1 z
          rcases nt_i_at z with ⟨-, z⟩ | ⟨-, z⟩
          · rw [z]; dsimp only; omega
          · have := (vnt_at z).2; omega
        · obtain ⟨k, -, -, z⟩ := (nt_ks_mem _ _).1 z
          unfold nt_k nt_k2 nt_cv at z
          repeat' (first | (rcases List.mem_append.1 z with z | z) | (split at z))
          all_goals first
            | (cases z; done)
            | (rw [List.mem_singleton.1 z]; dsimp only; omega)
    have t := N2 x8
    obtain ⟨h', g', r1, r2, r3, r4, r5⟩ := cr_caught (d := d + 10) (L := L) (u1 := u1) (x2 := some (am_i 0)) (x3 := some (am_i 1)) (k := fun h9 => am_E (am_D (d + 10)) m_7_26 (.inl 3) [some (am_r (am_a 212)), u1, some (am_i 0), some (am_i (am_w (1 + 1)))] [] (zS L, h9)) t
    refine ⟨h', g', by rw [E3]; exact r1, r2, r3, r4, ?_⟩
    rw [hc0] at r5
    exact ⟨Q1.trans (cQ_of r5.1 x20 x21 (by rw [e8]; omega)), r5.2⟩
end
