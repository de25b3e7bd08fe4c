/-! CONSTRUCTORS, 13: compiler.read of the system's text -/
def syRow : List Int := [0, 0, 0, 0, 0, 0, 0, 0, 0, 0, 0, 0, 0, 0, 0, 0, 0, 0, 0, 0, 0, 0, 0, 0, 0, 0, 21, 22, 23, 24, 25, 26, 27, 28, 29, 30]
theorem sy_0r : ((List.range 36).all fun k => decide ((sT0.1.getD 0 []).getD k 0 = if k = 23 then 1 else if k = 10 then -1 else syRow.getD k 0)) = true := by decide +kernel
theorem sy_0l : (sT0.1.getD 0 []).length ≤ 36 ∧ sT0.1.length = 28 ∧ ((List.range 28).all fun p => decide (p = 0) || ((sT0.1.getD p []).all fun x => decide (x = 0))) = true := by decide +kernel
theorem sy_1r : (sT1.1.getD 0 []).getD 20 0 = 0 ∧ (sT1.1.getD 0 []).getD 21 0 = 0 ∧ (sT1.1.getD 0 []).getD 22 0 = 0 := by decide +kernel
theorem sy_nb : ((List.range 113).all fun x => decide ((pn_pos syN2 x : Int) = syR6.getD x 0) && decide ((syN2.getD x []).getD 0 0 = syR5.getD (syR6.getD x 0).toNat 0) && Nat.ble 1 (syN2.getD x []).length) = true := by decide +kernel
theorem all0 {l : List Int} (h : (l.all fun x => decide (x = 0)) = true) (k : Nat) : l.getD k 0 = 0 := by
  rw [List.getD_eq_getElem?_getD]
  cases e : l[k]? with
  | none => rfl
  | some x => exact of_decide_eq_true (List.all_eq_true.1 h x (List.mem_of_getElem? e))
theorem lc_rd0 {t : Nat → Int} {n d L : Nat} (most : Nat) (hmost : most ≤ 4498) (m : Nat) (h : am_H) (k : Nat) (N : List (List Int)) (u1 u2 u4 u5 u6 u7 : Option am_V) (S : lc_S t n k [] N h) (hk : k ≤ n) (hm : n < k + m) (h8 : h 240 8 = most) {T : List (Int × Int × Int)} {N' : List (List Int)} (e : lx_toks t n most m 0 k N = (T, N')) (hl : N'.length < 1400) (hu : pn_used N' + 16 ≤ 18000) :
    ∃ h' k', am_E (am_D (d + 4)) m_13_7 (.inl 1) [some (am_r (am_a 240)), u1, u2, some (am_i 1), u4, u5, u6, u7] [] (zS L, h) = pV L h' ∧ lcx h h' ∧ lc_S t n k' T N' h' := by
  have e' : lx_toks t n most m ([] : List (Int × Int × Int)).length k N = (T, N') := e
  obtain ⟨h', k', r, x, S'⟩ := lc_read d L (t := t) (n := n) most hmost m h k [] N u1 u2 u4 u5 u6 u7 S hk hm h8 (Nat.zero_le _) (by rw [e']; exact hl) (by rw [e']; exact hu)
  rw [e', List.nil_append] at S'
  exact ⟨h', k', r, x, S'⟩
theorem sy_tl : syTk.length = 2900 := by unfold syTk; rw [List.length_zip, List.length_zip, sy_len.1, sy_len.2.1, sy_len.2.2]; rfl
section
variable {e L : Nat} {h : am_H}
theorem sy_tnB {g : am_H} (R : pna_R g syN2) : tnB g := fun x hx => by
  have a := List.all_eq_true.1 sy_nb x (List.mem_range.2 hx)
  simp only [Bool.and_eq_true, decide_eq_true_eq] at a
  obtain ⟨⟨a1, a2⟩, a3⟩ := a
  have a3 := Nat.le_of_ble_eq_true a3
  have hl := sy_n2.1
  have gi : syN2[x]? = some (syN2.getD x []) := by rw [List.getD_eq_getElem?_getD, List.getElem?_eq_getElem (by omega)]; rfl
  obtain ⟨r1, -, r3⟩ := R.2.2 x _ gi
  have r4 := r3 0 ((syN2.getD x []).getD 0 0) (by rw [List.getD_eq_getElem?_getD (i := 0), List.getElem?_eq_getElem (by omega)]; rfl)
  rw [Nat.add_zero, a2] at r4
  refine ⟨by rw [r1, a1], ?_⟩
  rw [← a1, Int.toNat_natCast] at r4 ⊢
  exact r4
theorem sy_read (X : ∀ i x, (syX 47)[i]? = some x → h 3 i = x) (R : pna_R h syN1) (Z1 : ∀ c k, 213 ≤ c → c ≤ 238 → h c k = 0) (Z2 : ∀ c k, c = 8 ∨ c = 9 ∨ c = 10 ∨ c = 11 ∨ c = 241 ∨ c = 242 ∨ c = 243 → h c k = 0) (Y : ∀ k, h 212 k = syRow.getD k 0) :
    ∃ h' g', am_D (e + 218) 7 26 [am_r (am_a 212), am_i 7370, am_i 1] (zS L, h) = pI L 0 h' ∧ p_fr [] pc_ps (tgx g' sT2) h' ∧ pna_R h' syN2 ∧ (h' 241 = yK ∧ h' 242 = yV ∧ h' 243 = yP) ∧ p_fr (List.range' 4 8 ++ List.range' 212 32) [] h h' := by
  obtain ⟨h1, e1⟩ : ∃ h1, h1 = am_up (am_up (am_up (am_up (am_up (am_up h 212 23 1) 212 9 0) 212 10 (-1)) 212 20 (h 213 3)) 212 21 (h 217 5)) 212 22 (h 212 15) := ⟨_, rfl⟩
  obtain ⟨h2, e2⟩ : ∃ h2, h2 = am_up (am_up (am_up (am_up h1 240 5 0) 240 6 7370) 240 8 4498) 240 7 0 := ⟨_, rfl⟩
  have f1 : p_fr [] [(212, 9), (212, 10), (212, 20), (212, 21), (212, 22), (212, 23)] h h1 := by rw [e1]; exact ((((((p_fr.refl h).upf _ _ _ rfl).upf _ _ _ rfl).upf _ _ _ rfl).upf _ _ _ rfl).upf _ _ _ rfl).upf _ _ _ rfl
  have f12 : p_fr [] [(240, 5), (240, 6), (240, 7), (240, 8)] h1 h2 := by rw [e2]; exact ((((p_fr.refl h1).upf _ _ _ rfl).upf _ _ _ rfl).upf _ _ _ rfl).upf _ _ _ rfl
  have f2 : p_fr [] [(212, 9), (212, 10), (212, 20), (212, 21), (212, 22), (212, 23), (240, 5), (240, 6), (240, 7), (240, 8)] h h2 := (f1.mono rfl rfl).trans (f12.mono rfl rfl)
  have S0 : lc_S sy64 7370 0 [] syN1 h2 := by
    refine ⟨⟨by rw [e2]; simp [p_up], by decide, fun k hk => ?_⟩, by rw [e2, p_up_s]; rfl, ⟨by rw [e2]; simp [p_up], fun i q hq => by cases hq⟩, R.next (f2 4 3 rfl rfl) (f2 4 4 rfl rfl) (f2.cell 5 rfl rfl) (f2.cell 6 rfl rfl) (f2.cell 7 rfl rfl)⟩
    have ck := ch_at (c := 64) (by decide) syC sy_cC k
    have hl : syC.flatten.length = 7370 := by rw [sy_txt]; exact syX_n
    have gk : syC.flatten[k]? = some (sy64 k) := by
      show _ = some ((syC.getD (k / 64) []).getD (k % 64) 0)
      rw [ck, List.getD_eq_getElem?_getD, List.getElem?_eq_getElem (by omega)]; rfl
    have rg := List.all_eq_true.1 sy_chr (sy64 k) (List.mem_of_getElem? gk)
    rw [Bool.and_eq_true] at rg
    have r1 := of_decide_eq_true rg.1
    have r2 := of_decide_eq_true rg.2
    have x3 := X k (sy64 k) (by rw [← sy_txt]; exact gk)
    rw [f2.cell 3 rfl rfl, x3]
    exact ⟨⟨by omega, by omega⟩, by omega⟩
  obtain ⟨hT, k', rT, lx, ST⟩ := lc_rd0 (d := e + 212) (L := L) (t := sy64) (n := 7370) 4498 (Nat.le_refl _) 7371 h2 0 syN1 (some (am_i 7370)) (some (am_i 4498)) none none none none S0 (Nat.zero_le _) (by decide) (by rw [e2, p_up_n _ _ _ _ _ _ (Or.inr (by decide)), p_up_s]; rfl) sy_lex (by have := sy_n2.1; omega) (by have := sy_n2.2.1; omega)
  obtain ⟨-, -, ⟨k5, KT⟩, RT⟩ := ST
  have tl := sy_tl
  obtain ⟨lx1, -, lx3⟩ := lx
  have row : ∀ c i, c = 241 ∨ c = 242 ∨ c = 243 → 2900 ≤ i → hT c i = 0 := fun c i hc hi => by
    rw [lx3 c i hc (by rw [k5, tl]; omega), f2 c i rfl (by simp; omega)]
    exact Z2 c i (by omega)
  have hK : hT 241 = yK := funext fun i => by
    rcases Nat.lt_or_ge i 2900 with z | z
    · exact (KT i _ (sy_tk i z)).1
    · rw [row 241 i (by omega) z]; exact (sy_bey sy_cK sy_len.1 i z).symm
  have hV : hT 242 = yV := funext fun i => by
    rcases Nat.lt_or_ge i 2900 with z | z
    · exact (KT i _ (sy_tk i z)).2.1
    · rw [row 242 i (by omega) z]; exact (sy_bey sy_cV sy_len.2.1 i z).symm
  have hP : hT 243 = yP := funext fun i => by
    rcases Nat.lt_or_ge i 2900 with z | z
    · exact (KT i _ (sy_tk i z)).2.2
    · rw [row 243 i (by omega) z]; exact (sy_bey sy_cP sy_len.2.2 i z).symm
  have tc : ∀ c k, (c = 3 ∨ 8 ≤ c ∧ c ≤ 11 ∨ 212 ≤ c ∧ c ≤ 239) → hT c k = h2 c k := fun c k hc => lx1 c k (by unfold lc_F; simp; omega) (by unfold lc_P; simp; omega)
  have h213 : h 213 3 = 0 := Z1 213 3 (by decide) (by decide)
  have h217 : h 217 5 = 0 := Z1 217 5 (by decide) (by decide)
  have h215 : h 212 15 = 0 := by rw [Y]; rfl
  have t212 : ∀ k, hT 212 k = if k = 23 then 1 else if k = 10 then -1 else syRow.getD k 0 := fun k => by
    rw [tc 212 k (by omega), f12 212 k rfl (by simp), e1, h213, h217, h215]
    by_cases a1 : k = 22
    · rw [a1, p_up_s]; rfl
    rw [p_up_n _ _ _ _ _ _ (Or.inr a1)]
    by_cases a2 : k = 21
    · rw [a2, p_up_s]; rfl
    rw [p_up_n _ _ _ _ _ _ (Or.inr a2)]
    by_cases a3 : k = 20
    · rw [a3, p_up_s]; rfl
    rw [p_up_n _ _ _ _ _ _ (Or.inr a3)]
    by_cases a4 : k = 10
    · rw [a4, p_up_s]; rfl
    rw [p_up_n _ _ _ _ _ _ (Or.inr a4)]
    by_cases a5 : k = 9
    · rw [a5, p_up_s]; rfl
    rw [p_up_n _ _ _ _ _ _ (Or.inr a5)]
    by_cases a6 : k = 23
    · rw [a6, p_up_s, if_pos rfl]
    rw [p_up_n _ _ _ _ _ _ (Or.inr a6), if_neg a6, if_neg a4, Y]
  -- ahead of the first reading
  obtain ⟨g, eg⟩ : ∃ g, g = am_up hT 212 24 0 := ⟨_, rfl⟩
  have gc : ∀ c, c ≠ 212 → g c = hT c := fun c hc => by rw [eg, p_up_c _ _ _ _ _ hc]
  have g212 : ∀ k, k ≠ 24 → g 212 k = hT 212 k := fun k hk => by rw [eg, p_up_n _ _ _ _ _ _ (Or.inr hk)]
  have g24 : g 212 24 = 0 := by rw [eg, p_up_s]
  obtain ⟨g', eg'⟩ : ∃ g', g' = pc_start g := ⟨_, rfl⟩
  have cz : ∀ c k, 213 ≤ c → c ≤ 238 → hT c k = 0 := fun c k h1 h2' => by rw [tc c k (by omega), f2 c k rfl (by simp; omega)]; exact Z1 c k h1 h2'
  have c8 : ∀ c k, c = 8 ∨ c = 9 ∨ c = 10 ∨ c = 11 → hT c k = 0 := fun c k hc => by rw [tc c k (by omega), f2 c k rfl (by simp; omega)]; exact Z2 c k (by omega)
  have gz : ∀ k, k = 20 ∨ k = 21 ∨ k = 22 → g 212 k = 0 := fun k hk => by
    rw [g212 k (by omega), t212, if_neg (by omega), if_neg (by omega)]
    rcases hk with rfl | rfl | rfl <;> rfl
  have p212 : ∀ k, g' 212 k = if k = 23 then 1 else if k = 10 then -1 else syRow.getD k 0 := fun k => by
    have z : ∀ j, j = 15 ∨ j = 16 ∨ j = 17 ∨ j = 24 → (if j = 23 then (1 : Int) else if j = 10 then -1 else syRow.getD j 0) = 0 := fun j hj => by
      rw [if_neg (by omega), if_neg (by omega)]
      rcases hj with rfl | rfl | rfl | rfl <;> rfl
    rw [eg']
    unfold pc_start
    by_cases a1 : k = 17
    · rw [a1, p_up_s, gz 20 (by omega), z 17 (by omega)]
    rw [p_up_n _ _ _ _ _ _ (Or.inr a1)]
    by_cases a2 : k = 16
    · rw [a2, p_up_s, gz 21 (by omega), z 16 (by omega)]
    rw [p_up_n _ _ _ _ _ _ (Or.inr a2)]
    by_cases a3 : k = 15
    · rw [a3, p_up_s, gz 22 (by omega), z 15 (by omega)]
    rw [p_up_n _ _ _ _ _ _ (Or.inr a3), p_up_c _ _ _ _ _ (by decide)]
    by_cases a4 : k = 24
    · rw [a4, g24, z 24 (by omega)]
    rw [g212 k a4, t212]
  have pc : ∀ c, c ≠ 212 → c ≠ 235 → g' c = hT c := fun c h1 h2' => by rw [eg', pc_start_c _ _ h1 h2', gc c h1]
  have p235 : ∀ k, g' 235 k = 0 := fun k => by
    rw [eg']
    unfold pc_start
    rw [p_up_c _ _ _ _ _ (by decide), p_up_c _ _ _ _ _ (by decide), p_up_c _ _ _ _ _ (by decide)]
    by_cases z : k = 3
    · rw [z, p_up_s]
    · rw [p_up_n _ _ _ _ _ _ (Or.inr z), gc 235 (by decide)]; exact cz 235 k (by decide) (by decide)
  have zr : ∀ p k, p < 28 → p ≠ 0 → (sT0.1.getD p []).getD k 0 = 0 := fun p k hp h0 => by
    have := List.all_eq_true.1 sy_0l.2.2 p (List.mem_range.2 hp)
    rw [Bool.or_eq_true, decide_eq_true_eq] at this
    exact all0 (this.resolve_left h0) k
  have T0 : g' = tgx g' sT0 := by
    funext c k
    unfold tgx
    by_cases c12 : c = 212
    · subst c12
      show g' 212 k = (sT0.1.getD 0 []).getD k 0
      rw [p212]
      rcases Nat.lt_or_ge k 36 with z | z
      · exact (of_decide_eq_true (List.all_eq_true.1 sy_0r k (List.mem_range.2 z))).symm
      · rw [if_neg (by omega), if_neg (by omega), List.getD_eq_getElem?_getD, List.getD_eq_getElem?_getD, List.getElem?_eq_none (by show 36 ≤ k; exact z), List.getElem?_eq_none (Nat.le_trans sy_0l.1 z)]
    · by_cases cr : 213 ≤ c ∧ c ≤ 238
      · have tx : tix c = some (c - 212) := by
          unfold tix
          rw [show (Nat.ble 212 c && Nat.ble c 238) = true by rw [Bool.and_eq_true]; exact ⟨Nat.ble_eq_true_of_le (by omega), Nat.ble_eq_true_of_le cr.2⟩]; rfl
        rw [tx]
        dsimp only
        rw [zr (c - 212) k (by omega) (by omega)]
        by_cases c35 : c = 235
        · rw [c35]; exact p235 k
        · rw [pc c c12 c35]; exact cz c k cr.1 cr.2
      · by_cases c8' : c = 8
        · subst c8'
          show g' 8 k = (sT0.1.getD 27 []).getD k 0
          rw [zr 27 k (by decide) (by decide), pc 8 (by decide) (by decide)]; exact c8 8 k (by omega)
        · have tx : tix c = none := by
            unfold tix
            rw [show (Nat.ble 212 c && Nat.ble c 238) = false by
              rw [Bool.and_eq_false_iff]
              rcases Nat.lt_or_ge c 212 with z | z
              · left; exact Bool.eq_false_iff.2 (fun q => by have := Nat.le_of_ble_eq_true q; omega)
              · right; exact Bool.eq_false_iff.2 (fun q => by have := Nat.le_of_ble_eq_true q; omega), show Nat.beq c 8 = false from Bool.eq_false_iff.2 (fun q => c8' (Nat.eq_of_beq_eq_true q))]
            rfl
          rw [tx]
          dsimp only
          have nil : ∀ j, (sT0.2.reverse.getD j ((0 : Int), (0 : Int), (0 : Int))) = (0, 0, 0) := fun j => by
            show ([] : List (Int × Int × Int)).getD j _ = _
            rw [List.getD_eq_getElem?_getD]; rfl
          rw [nil]
          by_cases a9 : c = 9
          · rw [if_pos a9, a9, pc 9 (by decide) (by decide)]; exact c8 9 k (by omega)
          rw [if_neg a9]
          by_cases a10 : c = 10
          · rw [if_pos a10, a10, pc 10 (by decide) (by decide)]; exact c8 10 k (by omega)
          rw [if_neg a10]
          by_cases a11 : c = 11
          · rw [if_pos a11, a11, pc 11 (by decide) (by decide)]; exact c8 11 k (by omega)
          rw [if_neg a11]
  have RN : pna_R g' syN2 := RT.next (by rw [pc 4 (by decide) (by decide)]) (by rw [pc 4 (by decide) (by decide)]) (pc 5 (by decide) (by decide)) (pc 6 (by decide) (by decide)) (pc 7 (by decide) (by decide))
  have NB := sy_tnB RN
  have ok : ce_ok g := by
    have z8 : ∀ j, g 8 j = 0 := fun j => by rw [gc 8 (by decide)]; exact c8 8 j (by omega)
    have zz : ∀ c j, 213 ≤ c → c ≤ 238 → g c j = 0 := fun c j h1 h2' => by rw [gc c (by omega)]; exact cz c j h1 h2'
    unfold ce_ok
    rw [z8, z8, zz 235 3 (by decide) (by decide), zz 235 4 (by decide) (by decide), zz 213 3 (by decide) (by decide), zz 217 5 (by decide) (by decide), zz 223 5 (by decide) (by decide), zz 229 5 (by decide) (by decide)]
    decide
  have N1 := pn_prog (K := yK) (V := yV) (P := yP) (sy := true) (w := false) (Z := 2899) (G := 3000) (e + 207) L (by show 212 ≤ e + 207 + 5; omega) (by decide) g g (0, 0, 0, 0, 0, []) (p_fr.refl g) (by rw [g212 23 (by decide), t212, if_pos rfl]; rfl) (by rw [g24]; rfl) (by rw [gc 241 (by decide)]; exact hK) (by rw [gc 242 (by decide)]; exact hV) (by rw [gc 243 (by decide)]; exact hP) ok sy_Z sy_I (by rw [gz 20 (by omega)]; exact Int.le_refl _) (by rw [gz 21 (by omega)]; decide) (by rw [gz 22 (by omega)]; decide)
  have w1 : gp true yK yV yP (ce false true yK yV yP) 3000 (pc_start g, 0, 0, 0, 0, 0, []) = .inr (tgx g' sT1, -1, 0, 0, 1, 0, []) := by
    rw [sy_gp, ← eg']
    have := sy_c1 NB
    rw [← T0] at this
    exact this
  rw [w1] at N1
  obtain ⟨h3, r3, i1, st1, PR1, -⟩ := N1
  obtain ⟨pf1, -, -, -, p23, p24, pK, pV', pP, pok⟩ := PR1
  -- the second reading
  obtain ⟨g2, eg2⟩ : ∃ g2, g2 = am_up (tgx g' sT1) 212 24 1 := ⟨_, rfl⟩
  have q212 : ∀ k, k ≠ 24 → g2 212 k = (sT1.1.getD 0 []).getD k 0 := fun k hk => by rw [eg2, p_up_n _ _ _ _ _ _ (Or.inr hk)]; rfl
  have ps2 : pc_start g2 = tgx g' (ctst sT1) := by
    unfold pc_start ctst
    rw [q212 22 (by decide), q212 21 (by decide), q212 20 (by decide), sy_1r.1, sy_1r.2.1, sy_1r.2.2, eg2, tg_up 212 rfl, tg_up 235 rfl, tg_up 212 rfl, tg_up 212 rfl, tg_up 212 rfl]
  have N2 := pn_prog (K := yK) (V := yV) (P := yP) (sy := true) (w := true) (Z := 2899) (G := 3000) (e + 207) L (by show 212 ≤ e + 207 + 5; omega) (by decide) g2 (am_up h3 212 24 1) (0, 0, 0, 0, 0, []) (by rw [eg2]; exact fr24 pf1 1) (by rw [eg2, p_up_n _ _ _ _ _ _ (Or.inr (by decide))]; exact p23) (by rw [eg2, p_up_s]; rfl) (by rw [eg2, p_up_c _ _ _ _ _ (by decide)]; exact pK) (by rw [eg2, p_up_c _ _ _ _ _ (by decide)]; exact pV') (by rw [eg2, p_up_c _ _ _ _ _ (by decide)]; exact pP) (by rw [eg2]; exact pok.w 1) sy_Z sy_I (by rw [q212 20 (by decide), sy_1r.1]; exact Int.le_refl _) (by rw [q212 21 (by decide), sy_1r.2.1]; decide) (by rw [q212 22 (by decide), sy_1r.2.2]; decide)
  have w2 : gp true yK yV yP (ce true true yK yV yP) 3000 (pc_start g2, 0, 0, 0, 0, 0, []) = .inr (tgx g' sT2, -1, 0, 0, 1, 0, []) := by
    rw [sy_gp, ps2]
    exact sy_c2 NB
  rw [w2] at N2
  obtain ⟨h5, r5, i2, st2, PR2, -⟩ := N2
  obtain ⟨pf2, -, -, -, -, -, qK, qV, qP, -⟩ := PR2
  have lowc : ∀ c k, c ≠ 8 → c ≠ 9 → c ≠ 10 → c ≠ 11 → ¬ (212 ≤ c ∧ c ≤ 238) → h5 c k = g' c k := fun c k a1 a2 a3 a4 a5 => by
    rw [pf2 c k rfl (by unfold pc_ps; simp; omega)]
    show tgx g' sT2 c k = g' c k
    have tx : tix c = none := by
      unfold tix
      rw [show (Nat.ble 212 c && Nat.ble c 238) = false by
        rw [Bool.and_eq_false_iff]
        rcases Nat.lt_or_ge c 212 with z | z
        · left; exact Bool.eq_false_iff.2 (fun q => by have := Nat.le_of_ble_eq_true q; omega)
        · right; exact Bool.eq_false_iff.2 (fun q => by have := Nat.le_of_ble_eq_true q; omega), show Nat.beq c 8 = false from Bool.eq_false_iff.2 (fun q => a1 (Nat.eq_of_beq_eq_true q))]
      rfl
    unfold tgx
    rw [tx]
    dsimp only
    rw [if_neg a2, if_neg a3, if_neg a4]
  have lc : ∀ c, c ≠ 8 → c ≠ 9 → c ≠ 10 → c ≠ 11 → ¬ (212 ≤ c ∧ c ≤ 238) → h5 c = g' c := fun c a1 a2 a3 a4 a5 => funext fun k => lowc c k a1 a2 a3 a4 a5
  refine ⟨h5, g', ?_, pf2, RN.next (by rw [lc 4 (by decide) (by decide) (by decide) (by decide) (by decide)]) (by rw [lc 4 (by decide) (by decide) (by decide) (by decide) (by decide)]) (lc 5 (by decide) (by decide) (by decide) (by decide) (by decide)) (lc 6 (by decide) (by decide) (by decide) (by decide) (by decide)) (lc 7 (by decide) (by decide) (by decide) (by decide) (by decide)), ⟨?_, ?_, ?_⟩, fun c k hc hf => ?_⟩
  · have rT' : am_E (am_D (e + 216)) m_13_7 (.inl 1) [some (am_r (am_a 240)), some (am_i 7370), some (am_i 4498), some (am_i 1), none, none, none, none] [] (zS L, h2) = pV L hT := rT
    have r3' : am_D (e + 217) 7 29 [am_r (am_a 212)] (zS L, g) = pV L h3 := r3
    have r5' : am_D (e + 217) 7 29 [am_r (am_a 212)] (zS L, am_up h3 212 24 1) = pV L h5 := r5
    rw [D_7_26, p_bit1, if_neg (by decide), ← e1, D_13_7, ← e2, rT', p_xV, q_7_26_3, if_pos (by decide), if_neg (by decide), p_bit0, ← eg, r3', p_xV, p_w (by decide) (by decide), show (0 : Int) + 1 = 1 from rfl, q_7_26_3, if_pos (by decide), if_pos rfl, p_bit1, r5', p_xV, p_w (by decide) (by decide), show (1 : Int) + 1 = 2 from rfl, q_7_26_3, if_neg (by decide), if_neg (by decide)]
  · rw [lc 241 (by decide) (by decide) (by decide) (by decide) (by decide), pc 241 (by decide) (by decide)]; exact hK
  · rw [lc 242 (by decide) (by decide) (by decide) (by decide) (by decide), pc 242 (by decide) (by decide)]; exact hV
  · rw [lc 243 (by decide) (by decide) (by decide) (by decide) (by decide), pc 243 (by decide) (by decide)]; exact hP
  · have nc : ¬ (4 ≤ c ∧ c < 12) ∧ ¬ (212 ≤ c ∧ c < 244) := by
      have : c ∉ List.range' 4 8 ++ List.range' 212 32 := fun z => by rw [List.contains_iff_mem.2 z] at hc; cases hc
      rw [List.mem_append, List.mem_range'_1, List.mem_range'_1] at this
      omega
    rw [lowc c k (by omega) (by omega) (by omega) (by omega) (by omega), pc c (by omega) (by omega), lx1 c k (by unfold lc_F; simp; omega) (by unfold lc_P; simp; omega), f2 c k rfl (by simp; omega)]
end
