/-! SIGNS, 8: the component writes words; reading whole -/
section
variable {d L : Nat} {t : Nat → Int} {n : Nat} {h : am_H} {F : List (List Int × Int)}
theorem sgC_len {a e : Nat} {s s' : sgS} (h : sgC t a e s = .inr s') (hl : s.1.length ≤ 1500) : s'.1.length ≤ 1500 ∧ (t a = 40 → s'.1 = s.1) ∧ (t a ≠ 40 → s.1.length < 1500 ∧ ∃ w, s'.1 = s.1 ++ [w] ∧ (w.2 = -1 ∨ 0 ≤ w.2) ∧ (t a ≠ 64 → w = (wdS t a e, -1)) ∧ (t a = 64 → sNum t (a + 1) e → w = (lx_num t (e - (a + 1)) (a + 1) 0, -1)) ∧ (t a = 64 → ¬ sNum t (a + 1) e → sSym t (a + 1) e ∧ ((knS t (a + 1) e ≠ -1 ∧ w = (knS t (a + 1) e, -1)) ∨ (knS t (a + 1) e = -1 ∧ ∃ i T, ssym (lx_span t (a + 1) e) s.2 = some (i, T) ∧ s'.2 = T ∧ w = (0, (i : Int)))))) := by
  unfold sgC at h
  by_cases c1 : t a = 40
  · rw [if_pos c1] at h
    refine ⟨?_, fun _ => ?_, fun z => absurd c1 z⟩
    all_goals
      split at h
      · split at h
        · split at h
          · cases h
          · split at h
            · cases h
              first | exact hl | rfl
            · cases h
        · cases h
      · cases h
  rw [if_neg c1] at h
  have key : ∀ w : Int × Int, s.1.length ≠ 1500 → s.1.length < 1500 ∧ (s.1 ++ [w]).length ≤ 1500 := fun w hw => by
    rw [List.length_append, List.length_singleton]; omega
  by_cases c2 : t a = 64
  · rw [if_pos c2] at h
    by_cases c3 : sNum t (a + 1) e
    · rw [if_pos c3] at h
      by_cases c4 : s.1.length = 1500
      · rw [if_pos c4] at h; cases h
      · rw [if_neg c4] at h
        cases h
        exact ⟨(key _ c4).2, fun z => absurd z c1, fun _ => ⟨(key (0, 0) c4).1, _, rfl, Or.inl rfl, fun z => absurd c2 z, fun _ _ => rfl, fun _ z => absurd c3 z⟩⟩
    · rw [if_neg c3] at h
      by_cases c5 : sSym t (a + 1) e
      · rw [if_pos c5] at h
        by_cases c4 : s.1.length = 1500
        · rw [if_pos c4] at h; cases h
        · rw [if_neg c4] at h
          by_cases c6 : knS t (a + 1) e = -1
          · rw [if_pos c6] at h
            cases hs : ssym (lx_span t (a + 1) e) s.2 with
            | none => rw [hs] at h; cases h
            | some q =>
              rw [hs] at h
              cases h
              exact ⟨(key _ c4).2, fun z => absurd z c1, fun _ => ⟨(key (0, 0) c4).1, _, rfl, Or.inr (Int.natCast_nonneg _), fun z => absurd c2 z, fun _ z => absurd z c3, fun _ _ => ⟨c5, Or.inr ⟨c6, q.1, q.2, rfl, rfl, rfl⟩⟩⟩⟩
          · rw [if_neg c6] at h
            cases h
            exact ⟨(key _ c4).2, fun z => absurd z c1, fun _ => ⟨(key (0, 0) c4).1, _, rfl, Or.inl rfl, fun z => absurd c2 z, fun _ z => absurd z c3, fun _ _ => ⟨c5, Or.inl ⟨c6, rfl⟩⟩⟩⟩
      · rw [if_neg c5] at h; cases h
  · rw [if_neg c2] at h
    by_cases c3 : wdS t a e = -1
    · rw [if_pos c3] at h; cases h
    · rw [if_neg c3] at h
      by_cases c4 : s.1.length = 1500
      · rw [if_pos c4] at h; cases h
      · rw [if_neg c4] at h
        cases h
        exact ⟨(key _ c4).2, fun z => absurd z c1, fun _ => ⟨(key (0, 0) c4).1, _, rfl, Or.inl rfl, fun _ => rfl, fun z => absurd z c2, fun z => absurd z c2⟩⟩
theorem sc_writes (H : sg_T t n h) (G : SGC h) {a e : Nat} {s s' : sgS} (C : sgC t a e s = .inr s') (hl : s.1.length ≤ 1500) (hF : sPre s'.2 F) (S : cSx F h) (h12 : h 23 12 = (s.1.length : Int)) (W : ∀ i w, s.1[i]? = some w → h 24 i = fin F w) (he : e ≤ n) (ha : a < e) (h15 : h 23 15 = (a : Int)) (h16 : h 23 16 = (e : Int)) : ∃ h', am_D (d + 5) 11 10 [am_r (am_a 23)] (zS L, h) = pI L 0 h' ∧ p_fr [24] [(23, 12)] h h' ∧ h' 23 12 = (s'.1.length : Int) ∧ ∀ i w, s'.1[i]? = some w → h' 24 i = fin F w := by
  have hn := H.2.1
  obtain ⟨l1, l2, l3⟩ := sgC_len C hl
  rw [D_11_10, h15, sc_here H, p_xI, sh_t (by omega)]
  by_cases c1 : t a = 40
  · rw [if_pos c1]
    rw [l2 c1]
    exact ⟨h, rfl, p_fr.refl h, h12, W⟩
  obtain ⟨l4, w, l5, l6, l7, l8, l9⟩ := l3 c1
  rw [if_neg c1]
  have put : ∀ v : Int, v = fin F w → p_fr [24] [(23, 12)] h (am_up (am_up h 24 s.1.length v) 23 12 ((s.1.length : Int) + 1)) ∧ (am_up (am_up h 24 s.1.length v) 23 12 ((s.1.length : Int) + 1)) 23 12 = (s'.1.length : Int) ∧ ∀ i w, s'.1[i]? = some w → (am_up (am_up h 24 s.1.length v) 23 12 ((s.1.length : Int) + 1)) 24 i = fin F w := fun v hv => by
    refine ⟨((p_fr.refl h).upc _ _ _ rfl).upf _ _ _ rfl, ?_, fun i x hx => ?_⟩
    · rw [p_up_s, l5, List.length_append, List.length_singleton]; omega
    · rw [p_up_c _ _ _ _ _ (by decide)]
      rw [l5] at hx
      by_cases z : i < s.1.length
      · rw [List.getElem?_append_left z] at hx
        rw [p_up_n _ _ _ _ _ _ (Or.inr (by omega))]
        exact W i x hx
      · have : i = s.1.length := by
          have := (List.getElem?_eq_some_iff.1 hx).1
          rw [List.length_append, List.length_singleton] at this; omega
        subst this
        rw [List.getElem?_append_right (Nat.le_refl _), Nat.sub_self] at hx
        cases hx
        rw [p_up_s, hv]
  have K : ∀ v : Int, v = fin F w → ∃ h', (am_idx (h 23 12) 1500 fun k7 => some (.inl (some (am_i 0)), (zS L, (am_up (am_up h 24 k7 v) 23 12 (am_w (h 23 12 + 1)))))) = pI L 0 h' ∧ p_fr [24] [(23, 12)] h h' ∧ h' 23 12 = (s'.1.length : Int) ∧ ∀ i w, s'.1[i]? = some w → h' 24 i = fin F w := fun v hv => by
    refine ⟨_, ?_, put v hv⟩
    rw [h12, p_idx (by omega) (by omega), Int.toNat_natCast, p_w (by omega) (by omega)]
  by_cases c2 : t a = 64
  · rw [if_pos c2, sc_isnum (d := d + 1) H he h15 h16 ha, p_xI]
    by_cases c3 : sNum t (a + 1) e
    · obtain ⟨r1, -⟩ := sc_number (d := d + 2) (L := L) H he h15 h16 ha c3.1.1.2 c3.1.2
      rw [pB_t c3, if_neg (show ¬ (1 : Int) = 0 by decide), r1, p_xI]
      refine K _ ?_
      rw [l8 c2 c3]; rfl
    · obtain ⟨y1, y2⟩ := l9 c2 c3
      have y : a + 1 < e := by have := y1.1.1.1; omega
      have e3 := sc_known (d := d) (L := L) H G he y
      rw [show ((a + 1 : Nat) : Int) = (a : Int) + 1 by omega] at e3
      rw [pB_f c3, if_pos rfl, h15, h16, p_w (x := (a : Int) + 1) (by omega) (by omega), D_11_11, e3, p_xI]
      rcases y2 with ⟨z1, z2⟩ | ⟨z1, i, T, z2, z3, z4⟩
      · rw [if_neg z1]
        show ∃ h', am_xI (zS L) (pI L _ h) _ _ = _ ∧ _
        rw [p_xI]
        refine K _ ?_
        rw [z2]; rfl
      · rw [if_pos z1]
        have sy := sc_symbol (d := d + 2) (L := L) H S he (show a + 1 ≤ e by omega) y1.1.1.2
        rw [show ((a + 1 : Nat) : Int) = (a : Int) + 1 by omega] at sy
        have fd : sfnd (lx_span t (a + 1) e) F 0 = some i := by
          rw [z3] at hF
          exact sfnd_pre hF (ssym_fnd z2).1
        have sF : ssym (lx_span t (a + 1) e) F = some (i, F) := by unfold ssym; rw [fd]
        rcases sy with ⟨w1, -⟩ | ⟨i', T', h', w1, w2, w3, w4, w5, w6⟩
        · rw [sF] at w1; cases w1
        · rw [sF] at w1
          cases w1
          have eh := w6 (by rw [fd]; simp)
          subst eh
          obtain ⟨v1, v2, v3, v4⟩ := S.2.2 i _ (List.getElem?_eq_getElem w3)
          have hi : i < 100 := by have := S.2.1; omega
          rw [w2, p_xI, p_idx (by omega) (by omega), Int.toNat_natCast]
          show ∃ h', am_xI (zS L) (pI L _ _) _ _ = _ ∧ _
          rw [p_xI]
          refine K _ ?_
          rw [z4]
          unfold fin
          dsimp only
          rw [if_neg (by omega), Int.toNat_natCast, List.getD_eq_getElem?_getD, List.getElem?_eq_getElem w3, v3]; rfl
  · rw [if_neg c2, sc_word (d := d) H G he h15 h16 (by omega), p_xI]
    refine K _ ?_
    rw [l7 c2]; rfl
theorem cSx.fr {T : List (List Int × Int)} {h h' : am_H} (S : cSx T h) (e1 : h' 23 13 = h 23 13) (e25 : h' 25 = h 25) (e26 : h' 26 = h 26) (e27 : h' 27 = h 27) : cSx T h' := by
  unfold cSx
  rw [e1, e25, e26, e27]; exact S
/-- the second time -/
theorem sc_go2 {sF : sgS} : ∀ (m k : Nat) (th : Bool) (s : sgS) (u4 u5 : Option am_V) {h : am_H}, n < k + m → k ≤ n → sgo t n m k th s = .inr sF → sPre sF.2 F → s.1.length ≤ 1500 → sg_T t n h → SGC h → cSx F h → h 23 12 = (s.1.length : Int) → (∀ i w, s.1[i]? = some w → h 24 i = fin F w) → ∃ h', am_E (am_D (d + 5)) m_11_7 (.inl 1) [some (am_r (am_a 23)), some (am_i 1), some (am_i (k : Int)), some (am_i (pB (th = true))), u4, u5] [] (zS L, h) = pI L 0 h' ∧ p_fr [24] [(23, 12), (23, 15), (23, 16)] h h' ∧ h' 23 12 = (sF.1.length : Int) ∧ sF.1.length ≤ 1500 ∧ (∀ i w, sF.1[i]? = some w → h' 24 i = fin F w) ∧ sPre s.2 sF.2
  | 0, k, th, s, u4, u5, h, hm, hk, O, hF, hl, H, G, S, h12, W => by omega
  | m + 1, k, th, s, u4, u5, h, hm, hk, O, hF, hl, H, G, S, h12, W => by
    have hn := H.2.1
    rw [q_11_7_1, H.1]
    unfold sgo at O
    by_cases c0 : n ≤ k
    · rw [if_pos c0] at O
      cases O
      rw [if_neg (by omega)]
      exact ⟨h, rfl, p_fr.refl h, h12, hl, W, sPre.refl _⟩
    have ck : k < n := by omega
    rw [if_neg c0] at O
    rw [if_pos (by omega), sc_here H, p_xI, sh_t ck]
    have E2 : ∀ {x4 : Int}, am_E (am_D (d + 5)) m_11_7 (.inl 2) [some (am_r (am_a 23)), some (am_i 1), some (am_i (k : Int)), some (am_i (pB (th = true))), some (am_i x4), u5] [] (zS L, h) = am_E (am_D (d + 5)) m_11_7 (.inl 1) [some (am_r (am_a 23)), some (am_i 1), some (am_i ((k + 1 : Nat) : Int)), some (am_i (pB ((if x4 = 10 then false else th) = true))), some (am_i x4), u5] [] (zS L, h) := fun {x4} => by
      rw [q_11_7_2, p_w (x := (k : Int) + 1) (by omega) (by omega)]
      cases th
      · rw [if_pos (show pB (false = true) = 0 from rfl)]
        by_cases z : x4 = 10
        · rw [if_pos z]; rfl
        · rw [if_neg z]; rfl
      · rw [if_neg (show ¬ pB (true = true) = 0 by decide)]
        by_cases z : x4 = 10
        · rw [if_pos z, if_pos z]; rfl
        · rw [if_neg z, if_neg z]; rfl
    by_cases c1 : t k = 10
    · rw [if_pos c1] at O
      rw [if_pos c1, E2, if_pos c1]
      exact sc_go2 m (k + 1) false s _ _ (by omega) (by omega) O hF hl H G S h12 W
    rw [if_neg c1] at O
    rw [if_neg c1, sc_blank, p_xI]
    by_cases c2 : sbl (t k)
    · rw [if_pos c2] at O
      rw [pB_t c2, if_neg (show ¬ (1 : Int) = 0 by decide), E2, if_neg c1]
      exact sc_go2 m (k + 1) th s _ _ (by omega) (by omega) O hF hl H G S h12 W
    rw [if_neg c2] at O
    rw [pB_f c2, if_pos rfl, sc_comm H ck, p_xI]
    by_cases c3 : scm t n k
    · have l1 := lx_line_rg t n n k (by omega)
      have l2 : k < lx_line t n n k := by
        obtain ⟨n', hn'⟩ : ∃ n', n = n' + 1 := ⟨n - 1, by omega⟩
        have : lx_line t n n k = lx_line t n (n' + 1) k := by rw [← hn']
        rw [this]
        unfold lx_line
        rw [if_pos ⟨ck, c1⟩]
        have := (lx_line_rg t n n' (k + 1) (by omega)).1
        omega
      rw [if_pos c3] at O
      rw [pB_t c3, if_neg (show ¬ (1 : Int) = 0 by decide), sc_line H n k hk (by omega)]
      exact sc_go2 m _ th s _ _ (by omega) (l1.2.1 hk) O hF hl H G S h12 W
    rw [if_neg c3] at O
    rw [pB_f c3, if_pos rfl]
    obtain ⟨h1, hh1⟩ : ∃ h1, h1 = am_up h 23 15 (k : Int) := ⟨_, rfl⟩
    have H1 : sg_T t n h1 := by rw [hh1]; exact H.next (p_up_c _ _ _ _ _ (by decide)) (p_up_n _ _ _ _ _ _ (Or.inr (by decide)))
    rw [← hh1, sc_end H1 n k hk (by omega)]
    obtain ⟨e, ee⟩ : ∃ e, e = sgE t n n k := ⟨_, rfl⟩
    have r1 := sgE_rg t n n k
    have e1 : k < e := by
      obtain ⟨n', hn'⟩ : ∃ n', n = n' + 1 := ⟨n - 1, by omega⟩
      have : sgE t n n k = sgE t n (n' + 1) k := by rw [← hn']
      rw [ee, this]
      unfold sgE
      rw [if_pos ⟨ck, c1, c2, c3⟩]
      have := (sgE_rg t n n' (k + 1)).1
      omega
    have e2 : e ≤ n := by rw [ee]; exact r1.2.1 hk
    rw [← ee] at O ⊢
    obtain ⟨h2, hh2⟩ : ∃ h2, h2 = am_up h1 23 16 (e : Int) := ⟨_, rfl⟩
    have f2 : p_fr [] [(23, 15), (23, 16)] h h2 := by rw [hh2, hh1]; exact ((p_fr.refl h).upf _ _ _ rfl).upf _ _ _ rfl
    have h15 : h2 23 15 = (k : Int) := by rw [hh2, p_up_n _ _ _ _ _ _ (Or.inr (by decide)), hh1, p_up_s]
    have h16 : h2 23 16 = (e : Int) := by rw [hh2, p_up_s]
    rw [q_11_7_9, ← hh2]
    cases th
    · have z0 : pB (false = true) = 0 := rfl
      rw [if_neg (show ¬ false = true by decide)] at O
      rw [z0, if_pos rfl, if_neg (show ¬ (1 : Int) = 0 by decide)]
      have H2 : sg_T t n h2 := H.next (f2.cell 3 rfl rfl) (f2 23 11 rfl rfl)
      have G2 := G.fr (f2.cell 29 rfl rfl) (f2.cell 31 rfl rfl)
      have S2 := S.fr (f2 23 13 rfl rfl) (f2.cell 25 rfl rfl) (f2.cell 26 rfl rfl) (f2.cell 27 rfl rfl)
      cases hc : sgC t k e s with
      | inl f => rw [hc] at O; cases O
      | inr s' =>
        rw [hc] at O
        dsimp only at O
        have l1 := (sgC_len hc hl).1
        -- the rest first, for names
        have pre : sPre s'.2 sF.2 := by
          have key : ∀ (m k : Nat) (th : Bool) (s : sgS), sgo t n m k th s = .inr sF → sPre s.2 sF.2 := by
            intro m
            induction m with
            | zero => intro k th s h; cases h; exact sPre.refl _
            | succ m ih =>
              intro k th s h
              unfold sgo at h
              split at h
              · cases h; exact sPre.refl _
              · split at h
                · exact ih _ _ _ h
                · split at h
                  · exact ih _ _ _ h
                  · split at h
                    · exact ih _ _ _ h
                    · split at h
                      · cases h
                      · split at h
                        · cases h
                        · rename_i s'' hc'
                          exact (sgC_pre hc').1.trans (ih _ _ _ h)
          exact key _ _ _ _ O
        obtain ⟨h3, r3, f3, r4, r5⟩ := sc_writes (d := d) (L := L) H2 G2 hc hl (pre.trans hF) S2 (by rw [f2 23 12 rfl rfl]; exact h12) (fun i w hw => by rw [f2.cell 24 rfl rfl]; exact W i w hw) e2 e1 h15 h16
        rw [r3, p_xI, if_pos rfl]
        obtain ⟨h4, r6, f4, r7, r8, r9, r10⟩ := sc_go2 m e true s' (some (am_i (t k))) (some (am_i 0)) (h := h3) (by omega) e2 O hF l1 (H2.next (f3.cell 3 rfl rfl) (f3 23 11 rfl rfl)) (G2.fr (f3.cell 29 rfl rfl) (f3.cell 31 rfl rfl)) (S2.fr (f3 23 13 rfl rfl) (f3.cell 25 rfl rfl) (f3.cell 26 rfl rfl) (f3.cell 27 rfl rfl)) r4 r5
        exact ⟨h4, r6, ((f2.mono rfl rfl).trans (f3.mono rfl rfl)).trans f4, r7, r8, r9, (sgC_pre hc).1.trans r10⟩
    · rw [if_pos rfl] at O; cases O
end
