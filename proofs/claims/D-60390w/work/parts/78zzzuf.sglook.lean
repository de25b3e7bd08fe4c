/-! SIGNS, 6: an instruction; the component looks at it, and writes it -/
abbrev sgS : Type := List (Int × Int) × List (List Int × Int)
/-- an instruction between two places -/
def sgC (t : Nat → Int) (a e : Nat) (s : sgS) : Int ⊕ sgS :=
  if t a = 40 then
    (if t (e - 1) = 41 ∧ sSym t (a + 1) (e - 1) then
      (if knS t (a + 1) (e - 1) = -1 then
        match ssym (lx_span t (a + 1) (e - 1)) s.2 with
        | none => .inl 2
        | some q => if (q.2.getD q.1 ([], 0)).2 = -1 then .inr (s.1, q.2.set q.1 ((q.2.getD q.1 ([], 0)).1, (s.1.length : Int))) else .inl 3
      else .inl 3)
    else .inl 1)
  else if t a = 64 then
    (if sNum t (a + 1) e then (if s.1.length = 1500 then .inl 2 else .inr (s.1 ++ [(lx_num t (e - (a + 1)) (a + 1) 0, -1)], s.2))
    else if sSym t (a + 1) e then
      (if s.1.length = 1500 then .inl 2
      else if knS t (a + 1) e = -1 then
        match ssym (lx_span t (a + 1) e) s.2 with
        | none => .inl 2
        | some q => .inr (s.1 ++ [(0, (q.1 : Int))], q.2)
      else .inr (s.1 ++ [(knS t (a + 1) e, -1)], s.2))
    else .inl 1)
  else if wdS t a e = -1 then .inl 1
  else if s.1.length = 1500 then .inl 2
  else .inr (s.1 ++ [(wdS t a e, -1)], s.2)
/-- the component, the first time -/
def cP (s : sgS) (h : am_H) : Prop := h 23 12 = (s.1.length : Int) ∧ s.1.length ≤ 1500 ∧ cSx s.2 h
/-- names of symbols stay -/
def sPre (T F : List (List Int × Int)) : Prop := ∃ l, F.map (·.1) = T.map (·.1) ++ l
theorem sPre.refl (T : List (List Int × Int)) : sPre T T := ⟨[], by rw [List.append_nil]⟩
theorem sPre.trans {T F G : List (List Int × Int)} (h1 : sPre T F) (h2 : sPre F G) : sPre T G := by
  obtain ⟨l, h1⟩ := h1
  obtain ⟨l', h2⟩ := h2
  exact ⟨l ++ l', by rw [h2, h1, List.append_assoc]⟩
theorem sfnd_pre : ∀ {T F : List (List Int × Int)} {w : List Int} {i j : Nat}, sPre T F → sfnd w T i = some j → sfnd w F i = some j
  | [], _, _, _, _, _, h => by cases h
  | q :: T, [], _, _, _, ⟨l, h1⟩, _ => by cases h1
  | q :: T, p :: F, w, i, j, ⟨l, h1⟩, h => by
    rw [List.map_cons, List.map_cons, List.cons_append] at h1
    injection h1 with h2 h3
    rw [sfnd_c] at h ⊢
    by_cases c : q.1 = w
    · rw [if_pos c] at h
      rw [if_pos (h2.trans c)]; exact h
    · rw [if_neg c] at h
      rw [if_neg (by rw [h2]; exact c)]
      exact sfnd_pre ⟨l, h3⟩ h
theorem sfnd_app : ∀ {T : List (List Int × Int)} {w : List Int} {i : Nat} {v : Int}, sfnd w T i = none → sfnd w (T ++ [(w, v)]) i = some (i + T.length)
  | [], w, i, v, _ => by
    show (if w = w then _ else _) = _
    rw [if_pos rfl]; rfl
  | q :: T, w, i, v, h => by
    rw [sfnd_c] at h
    rw [List.cons_append, sfnd_c]
    by_cases c : q.1 = w
    · rw [if_pos c] at h; cases h
    · rw [if_neg c] at h
      rw [if_neg c, sfnd_app h, List.length_cons]; congr 1; omega
theorem ssym_fnd {T T' : List (List Int × Int)} {w : List Int} {i : Nat} (h : ssym w T = some (i, T')) : sfnd w T' 0 = some i ∧ sPre T T' ∧ i < T'.length := by
  unfold ssym at h
  split at h
  · rename_i j hj
    cases h
    have := sfnd_rg hj
    exact ⟨hj, sPre.refl _, by omega⟩
  · rename_i hj
    split at h
    · cases h
    · cases h
      refine ⟨by rw [sfnd_app hj, Nat.zero_add], ⟨[w], by rw [List.map_append]; rfl⟩, by rw [List.length_append, List.length_singleton]; omega⟩
theorem set_names (T : List (List Int × Int)) (i : Nat) (v : Int) : (T.set i ((T.getD i ([], 0)).1, v)).map (·.1) = T.map (·.1) := by
  apply List.ext_getElem?
  intro j
  rw [List.getElem?_map, List.getElem?_map]
  by_cases c : i = j
  · subst c
    by_cases z : i < T.length
    · rw [List.getElem?_set_self z, List.getD_eq_getElem?_getD, List.getElem?_eq_getElem z]; rfl
    · rw [List.getElem?_eq_none (by rw [List.length_set]; omega), List.getElem?_eq_none (by omega)]
  · rw [List.getElem?_set_ne c]
/-- what an instruction leaves -/
theorem sgC_pre {t : Nat → Int} {a e : Nat} {s s' : sgS} (h : sgC t a e s = .inr s') : sPre s.2 s'.2 ∧ ∃ l, s'.1 = s.1 ++ l := by
  unfold sgC at h
  split at h
  · split at h
    · split at h
      · split at h
        · cases h
        · rename_i q hq
          obtain ⟨i, T'⟩ := q
          split at h
          · cases h
            refine ⟨?_, [], by rw [List.append_nil]⟩
            obtain ⟨l, hl⟩ := (ssym_fnd hq).2.1
            exact ⟨l, by rw [set_names]; exact hl⟩
          · cases h
      · cases h
    · cases h
  · split at h
    · split at h
      · split at h
        · cases h
        · cases h; exact ⟨sPre.refl _, _, rfl⟩
      · split at h
        · split at h
          · cases h
          · split at h
            · split at h
              · cases h
              · rename_i q hq
                cases h
                exact ⟨(ssym_fnd (i := q.1) (T' := q.2) hq).2.1, _, rfl⟩
            · cases h; exact ⟨sPre.refl _, _, rfl⟩
        · cases h
    · split at h
      · cases h
      · split at h
        · cases h
        · cases h; exact ⟨sPre.refl _, _, rfl⟩
section
variable {d L : Nat} {t : Nat → Int} {n : Nat} {h : am_H}
theorem SGC.fr {h h' : am_H} (G : SGC h) (e1 : h' 29 = h 29) (e2 : h' 31 = h 31) : SGC h' := by unfold SGC; rw [e1, e2]; exact G
/-- what looking at an instruction changes -/
def slF : List (Nat × Nat) := [(23, 12), (23, 13)]
theorem sc_label (H : sg_T t n h) (G : SGC h) {a e : Nat} {s : sgS} (P : cP s h) (he : e ≤ n) (ha : a < e) (h15 : h 23 15 = (a : Int)) (h16 : h 23 16 = (e : Int)) (h40 : t a = 40) : ∃ r h', am_D (d + 4) 11 9 [am_r (am_a 23)] (zS L, h) = pI L r h' ∧ p_fr [25, 26, 27] slF h h' ∧ match sgC t a e s with
      | .inl f => r = f ∧ 0 < f
      | .inr s' => r = 0 ∧ cP s' h' := by
  have hn := H.2.1
  unfold sgC
  rw [if_pos h40, D_11_9, h16, p_w (x := (e : Int) - 1) (by omega) (by omega)]
  have e1 : am_D (d + 3) 11 1 [am_r (am_a 23), am_i ((e : Int) - 1)] (zS L, h) = pI L (sh t n (e - 1)) h := by
    have := sc_here (d := d + 2) (L := L) H (e - 1)
    rw [show ((e - 1 : Nat) : Int) = (e : Int) - 1 by omega] at this
    exact this
  rw [e1, p_xI, sh_t (by omega)]
  by_cases c1 : t (e - 1) = 41
  · have ha2 : a + 1 ≤ e - 1 := by
      have : e - 1 ≠ a := fun z => by rw [z, h40] at c1; cases c1
      omega
    have e2 := sc_issym (d := d) (L := L) H (show e - 1 ≤ n by omega) ha2
    have e3 := fun (y : a + 1 < e - 1) => sc_known (d := d) (L := L) H G (show e - 1 ≤ n by omega) y
    rw [show ((e - 1 : Nat) : Int) = (e : Int) - 1 by omega, show ((a + 1 : Nat) : Int) = (a : Int) + 1 by omega] at e2
    rw [if_pos c1, h15, h16, p_w (x := (e : Int) - 1) (by omega) (by omega), p_w (x := (a : Int) + 1) (by omega) (by omega), e2, p_xI]
    by_cases c2 : sSym t (a + 1) (e - 1)
    · have y : a + 1 < e - 1 := by have := c2.1.1.1; omega
      have e3 := e3 y
      rw [show ((e - 1 : Nat) : Int) = (e : Int) - 1 by omega, show ((a + 1 : Nat) : Int) = (a : Int) + 1 by omega] at e3
      rw [pB_t c2, if_neg (show ¬ (1 : Int) = 0 by decide), if_pos (show t (e - 1) = 41 ∧ sSym t (a + 1) (e - 1) from ⟨c1, c2⟩), h15, h16, p_w (x := (e : Int) - 1) (by omega) (by omega), p_w (x := (a : Int) + 1) (by omega) (by omega), e3, p_xI]
      by_cases c3 : knS t (a + 1) (e - 1) = -1
      · rw [if_pos c3, if_pos c3, h15, h16, p_w (x := (e : Int) - 1) (by omega) (by omega), p_w (x := (a : Int) + 1) (by omega) (by omega)]
        have sy := sc_symbol (d := d + 2) (L := L) H P.2.2 (show e - 1 ≤ n by omega) ha2 c2.1.1.2
        rw [show ((e - 1 : Nat) : Int) = (e : Int) - 1 by omega, show ((a + 1 : Nat) : Int) = (a : Int) + 1 by omega] at sy
        rcases sy with ⟨w1, w2⟩ | ⟨i, T', h', w1, w2, w3, w4, w5, -⟩
        · rw [w1, w2, p_xI, if_pos rfl]
          exact ⟨2, h, rfl, p_fr.refl h, rfl, by decide⟩
        · rw [w1, w2, p_xI, if_neg (by omega)]
          have hi : i < 100 := by have := w4.2.1; omega
          have hq := List.getElem?_eq_getElem w3
          obtain ⟨v1, v2, v3, v4⟩ := w4.2.2 i _ hq
          have hg : T'.getD i ([], 0) = T'[i] := by rw [List.getD_eq_getElem?_getD, hq]; rfl
          rw [p_idx (by omega) (by omega), Int.toNat_natCast, v3]
          dsimp only
          rw [hg]
          have h12 : h' 23 12 = (s.1.length : Int) := by rw [w5 23 12 rfl rfl]; exact P.1
          by_cases c4 : T'[i].2 = -1
          · rw [if_pos c4, if_pos c4, p_idx (by omega) (by omega), Int.toNat_natCast, h12]
            refine ⟨0, _, rfl, (w5.mono rfl rfl).upc _ _ _ rfl, rfl, ?_, P.2.1, ?_, ?_, fun k q hk => ?_⟩
            · rw [p_up_c _ _ _ _ _ (by decide)]; exact h12
            · rw [p_up_c _ _ _ _ _ (by decide), List.length_set]; exact w4.1
            · rw [List.length_set]; exact w4.2.1
            · dsimp only at hk
              rw [p_up_c _ _ _ _ 26 (by decide), p_up_c _ _ _ _ 25 (by decide)]
              by_cases z : i = k
              · subst z
                rw [List.getElem?_set_self w3] at hk
                cases hk
                rw [p_up_s]
                exact ⟨v1, v2, rfl, v4⟩
              · rw [List.getElem?_set_ne z] at hk
                rw [p_up_n _ _ _ _ _ _ (Or.inr (fun y => z y.symm))]
                exact w4.2.2 k q hk
          · rw [if_neg c4, if_neg c4]
            exact ⟨3, h', rfl, w5.mono rfl rfl, rfl, by decide⟩
      · rw [if_neg c3, if_neg c3]
        exact ⟨3, h, rfl, p_fr.refl h, rfl, by decide⟩
    · rw [pB_f c2, if_pos rfl, if_neg (fun z => c2 z.2)]
      exact ⟨1, h, rfl, p_fr.refl h, rfl, by decide⟩
  · rw [if_neg c1, if_neg (fun z => c1 z.1)]
    exact ⟨1, h, rfl, p_fr.refl h, rfl, by decide⟩
theorem cP.put {s : sgS} {h' : am_H} {T : List (List Int × Int)} {w : Int × Int} (P : s.1.length < 1500) (S : cSx T h') (e : h' 23 12 = (s.1.length : Int) + 1) : cP (s.1 ++ [w], T) h' := by
  refine ⟨?_, ?_, S⟩
  · rw [e]; show _ = ((s.1 ++ [w]).length : Int); rw [List.length_append, List.length_singleton]; omega
  · show (s.1 ++ [w]).length ≤ 1500; rw [List.length_append, List.length_singleton]; omega
theorem cSx.up12 {T : List (List Int × Int)} {h : am_H} {k : Nat} {v : Int} (S : cSx T h) (hk : k ≠ 13) : cSx T (am_up h 23 k v) := by
  obtain ⟨s1, s2, s3⟩ := S
  refine ⟨by rw [p_up_n _ _ _ _ _ _ (Or.inr (fun z => hk z.symm))]; exact s1, s2, fun i q hq => ?_⟩
  rw [p_up_c _ _ _ _ _ (by decide), p_up_c _ _ _ _ _ (by decide), p_up_c _ _ _ _ _ (by decide)]
  exact s3 i q hq
theorem sc_look (H : sg_T t n h) (G : SGC h) {a e : Nat} {s : sgS} (P : cP s h) (he : e ≤ n) (ha : a < e) (h15 : h 23 15 = (a : Int)) (h16 : h 23 16 = (e : Int)) : ∃ r h', am_D (d + 5) 11 8 [am_r (am_a 23)] (zS L, h) = pI L r h' ∧ p_fr [25, 26, 27] slF h h' ∧ match sgC t a e s with
      | .inl f => r = f ∧ 0 < f
      | .inr s' => r = 0 ∧ cP s' h' := by
  have hn := H.2.1
  rw [D_11_8, h15, sc_here H, p_xI, sh_t (by omega)]
  by_cases c1 : t a = 40
  · obtain ⟨r, h', r1, r2, r3⟩ := sc_label (d := d) (L := L) H G P he ha h15 h16 c1
    refine ⟨r, h', ?_, r2, r3⟩
    rw [if_pos c1, r1, p_xI]
  rw [if_neg c1]
  unfold sgC
  rw [if_neg c1]
  -- one more word
  have h12 := P.1
  have l15 := P.2.1
  obtain ⟨g, hg⟩ : ∃ g, g = am_up h 23 12 ((s.1.length : Int) + 1) := ⟨_, rfl⟩
  have Hg : sg_T t n g := by rw [hg]; exact H.next (p_up_c _ _ _ _ _ (by decide)) (p_up_n _ _ _ _ _ _ (Or.inr (by decide)))
  have Gg : SGC g := by rw [hg]; exact G.fr (p_up_c _ _ _ _ _ (by decide)) (p_up_c _ _ _ _ _ (by decide))
  have Sg : cSx s.2 g := by rw [hg]; exact P.2.2.up12 (by decide)
  have g15 : g 23 15 = (a : Int) := by rw [hg, p_up_n _ _ _ _ _ _ (Or.inr (by decide))]; exact h15
  have g16 : g 23 16 = (e : Int) := by rw [hg, p_up_n _ _ _ _ _ _ (Or.inr (by decide))]; exact h16
  have g12 : g 23 12 = (s.1.length : Int) + 1 := by rw [hg, p_up_s]
  have fg : p_fr [25, 26, 27] slF h g := by rw [hg]; exact (p_fr.refl h).upf _ _ _ rfl
  by_cases c2 : t a = 64
  · rw [if_pos c2, if_pos c2, sc_isnum (d := d + 1) H he h15 h16 ha, p_xI]
    have E6 : ∀ {u2 : Option am_V}, am_E (am_D (d + 4)) m_11_8 (.inl 6) [some (am_r (am_a 23)), some (am_i (t a)), u2] [am_i 0] (zS L, h) = pI L 1 h := fun {u2} => by rw [q_11_8_6, if_pos rfl]
    have E6' : ∀ {u2 : Option am_V}, s.1.length = 1500 → am_E (am_D (d + 4)) m_11_8 (.inl 6) [some (am_r (am_a 23)), some (am_i (t a)), u2] [am_i 1] (zS L, h) = pI L 2 h := fun {u2} z => by rw [q_11_8_6, if_neg (by decide), h12, if_pos (by omega)]
    by_cases c3 : sNum t (a + 1) e
    · rw [pB_t c3, if_neg (show ¬ (1 : Int) = 0 by decide), if_pos c3]
      by_cases c4 : s.1.length = 1500
      · rw [if_pos c4, E6' c4]
        exact ⟨2, h, rfl, p_fr.refl h, rfl, by decide⟩
      · rw [if_neg c4, q_11_8_6, if_neg (by decide), h12, if_neg (by omega), if_pos c2, p_w (by omega) (by omega), ← hg, sc_isnum (d := d + 1) Hg he g15 g16 ha, p_xI, pB_t c3, if_neg (by decide)]
        exact ⟨0, g, rfl, fg, rfl, cP.put (by omega) Sg g12⟩
    · rw [pB_f c3, if_pos rfl, if_neg c3, h15, h16, p_w (x := (a : Int) + 1) (by omega) (by omega)]
      have e2 := sc_issym (d := d + 1) (L := L) H he (show a + 1 ≤ e by omega)
      rw [show ((a + 1 : Nat) : Int) = (a : Int) + 1 by omega] at e2
      rw [e2, p_xI]
      by_cases c5 : sSym t (a + 1) e
      · rw [pB_t c5, if_neg (show ¬ (1 : Int) = 0 by decide), if_pos c5]
        by_cases c4 : s.1.length = 1500
        · rw [if_pos c4, E6' c4]
          exact ⟨2, h, rfl, p_fr.refl h, rfl, by decide⟩
        · have y : a + 1 < e := by have := c5.1.1.1; omega
          have e3 := sc_known (d := d + 1) (L := L) Hg Gg he y
          rw [show ((a + 1 : Nat) : Int) = (a : Int) + 1 by omega] at e3
          rw [if_neg c4, q_11_8_6, if_neg (by decide), h12, if_neg (by omega), if_pos c2, p_w (by omega) (by omega), ← hg, sc_isnum (d := d + 1) Hg he g15 g16 ha, p_xI, pB_f c3, if_pos rfl, g15, g16, p_w (x := (a : Int) + 1) (by omega) (by omega), e3, p_xI]
          by_cases c6 : knS t (a + 1) e = -1
          · rw [if_pos c6, if_pos c6, g15, g16, p_w (x := (a : Int) + 1) (by omega) (by omega)]
            have sy := sc_symbol (d := d + 3) (L := L) Hg Sg he (show a + 1 ≤ e by omega) c5.1.1.2
            rw [show ((a + 1 : Nat) : Int) = (a : Int) + 1 by omega] at sy
            rcases sy with ⟨w1, w2⟩ | ⟨i, T', h', w1, w2, w3, w4, w5, -⟩
            · rw [w1, w2, p_xI, if_pos rfl]
              exact ⟨2, g, rfl, fg, rfl, by decide⟩
            · rw [w1, w2, p_xI, if_neg (by omega)]
              exact ⟨0, h', rfl, fg.trans (w5.mono rfl rfl), rfl, cP.put (by omega) w4 (by rw [w5 23 12 rfl rfl]; exact g12)⟩
          · rw [if_neg c6, if_neg c6]
            exact ⟨0, g, rfl, fg, rfl, cP.put (by omega) Sg g12⟩
      · rw [pB_f c5, if_pos rfl, if_neg c5, E6]
        exact ⟨1, h, rfl, p_fr.refl h, rfl, by decide⟩
  · rw [if_neg c2, if_neg c2, sc_word (d := d) H G he h15 h16 (by omega), p_xI]
    by_cases c3 : wdS t a e = -1
    · rw [if_pos c3, if_pos c3, q_11_8_6, if_pos rfl]
      exact ⟨1, h, rfl, p_fr.refl h, rfl, by decide⟩
    · rw [if_neg c3, if_neg c3, q_11_8_6, if_neg (by decide), h12]
      by_cases c4 : s.1.length = 1500
      · rw [if_pos c4, if_pos (by omega)]
        exact ⟨2, h, rfl, p_fr.refl h, rfl, by decide⟩
      · rw [if_neg c4, if_neg (by omega), if_neg c2, p_w (by omega) (by omega), ← hg]
        exact ⟨0, g, rfl, fg, rfl, cP.put (by omega) Sg g12⟩
end
