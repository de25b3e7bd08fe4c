/-! CHIPS, 29: the model's parts and heads -/
section
variable {d L : Nat} {K V P : Nat → Int} {W : Nat → List Int} {Z : Nat} {chs : List cCh} {ch : cCh} {c : Nat} {h h' : am_H}
theorem mn_clinks (E : kEx K V Z) (G : mWd K V W Z) (hP : ∀ x y, x < y → y ≤ Z → P x < P y) (T : ∀ ch ∈ chs, cht K V Z ch) (hc : chs[c]? = some ch) {i : Nat} {q : Nat × List cLk} (hi : ch.2.2.2.1[i]? = some q) {k : Nat} (hk : k < 2 + chs.length) {X : Nat → Int} (hXr : ∀ j, X j = -1 ∨ 0 ≤ X j) {e : Nat} : ∀ (m j : Nat) {a : Nat} {F : Option (Int × Int)} {h : am_H} (u5 u6 u7 u8 u9 u10 : Option am_V), j + m = q.2.length → (m = 0 ∨ lksT K V (q.2.drop j) a e) → a ≤ e → e ≤ Z → mQ K V P W Z chs h → gM chs c ch X h → nR F h → ∃ h' ns w3 w4 w5 w6 w7 w8 w9 w10, am_E (am_D (d + 3)) m_17_167 (.inl 7) [some (am_r (am_a 254)), some (am_i (c : Int)), some (am_i ((oT chs c + i : Nat) : Int)), some (am_i (k : Int)), some (am_i ((oLx chs (oT chs c + i) + j : Nat) : Int)), u5, u6, u7, u8, u9, u10] [] (zS L, h) = am_E (am_D (d + 3)) m_17_167 (.inl 3) [some (am_r (am_a 254)), some (am_i (c : Int)), some (am_i ((oT chs c + (i + 1) : Nat) : Int)), w3, w4, w5, w6, w7, w8, w9, w10] [] (zS L, h') ∧ nR (nfoldx P F ns) h' ∧ nrg a e ns ∧ p_fr ckC ntF h h' ∧ ∀ s, sM chs c ch k s h → (match lksS K V chs k ch X (q.2.drop j) s with
      | .inl e => lstx P e ns
      | .inr u => ns = [] ∧ sM chs c ch k u h')
  | 0, j, a, F, h, u5, u6, u7, u8, u9, u10, hm, T', ha, he, Q, hX, N => by
    have qa := aT_at hc hi
    have ql := (List.getElem?_eq_some_iff.1 qa).1
    have ln := oL_n qa
    obtain ⟨b1, b2, b3, b4⟩ := Q.2.2.1
    rw [q_17_167_7, p_w (x := ((oT chs c + i : Nat) : Int) + 1) (by omega) (by omega), p_idx (by omega) (by omega), show (((oT chs c + i : Nat) : Int) + 1).toNat = oT chs c + i + 1 by omega, Q.2.2.2.2.2.2.1 (oT chs c + i + 1) (by omega), ln, if_neg (by omega), List.drop_eq_nil_of_le (by omega), show ((oT chs c + i : Nat) : Int) + 1 = ((oT chs c + (i + 1) : Nat) : Int) by omega]
    exact ⟨h, [], _, _, _, _, _, _, _, _, rfl, N, nrg_nil _ _, p_fr.refl h, fun s hs => ⟨rfl, hs⟩⟩
  | m + 1, j, a, F, h, u5, u6, u7, u8, u9, u10, hm, T', ha, he, Q, hX, N => by
    have hj : j < q.2.length := by omega
    have T'' : lksT K V (q.2.drop j) a e := by rcases T' with z | z; omega; exact z
    rw [List.drop_eq_getElem_cons hj] at T'' ⊢
    obtain ⟨t1, t2, t3⟩ := T''
    have rg := lkT_rg E.1 t2 (by omega)
    obtain ⟨h1, ns1, w5, w6, w7, w8, w9, w10, r1, N1, g1, f1, s1⟩ := mn_clink (d := d) (L := L) E G hP T Q hc hi (List.getElem?_eq_getElem hj) hk hX hXr N u5 u6 u7 u8 u9 u10
    rw [r1]
    have nx : q.2[j].2.2.2.2 ≤ e ∧ (m = 0 ∨ lksT K V (q.2.drop (j + 1)) (q.2[j].2.2.2.2 + 1) e) ∧ (m = 0 ∨ q.2[j].2.2.2.2 + 1 ≤ e) := by
      rcases t3 with ⟨z1, z2, z3⟩ | ⟨z1, z2⟩
      · have : q.2.length ≤ j + 1 := List.drop_eq_nil_iff.1 z1
        exact ⟨by omega, Or.inl (by omega), Or.inl (by omega)⟩
      · have lt := E.1.lt rg.2.2.1 (by rw [z1.1]; omega)
        have := lksT_rg E.1 z2 (by omega)
        exact ⟨by omega, Or.inr z2, Or.inr (by omega)⟩
    obtain ⟨a', ha', hae, hT⟩ : ∃ a', q.2[j].2.2.2.2 ≤ a' ∧ a' ≤ e ∧ (m = 0 ∨ lksT K V (q.2.drop (j + 1)) a' e) := by
      rcases nx.2.2 with z | z
      · exact ⟨e, nx.1, Nat.le_refl _, Or.inl z⟩
      · exact ⟨_, Nat.le_succ _, z, nx.2.1⟩
    obtain ⟨h2, ns2, w3, w4, w5, w6, w7, w8, w9, w10, r2, N2, g2, f2, s2⟩ := mn_clinks E G hP T hc hi hk hXr m (j + 1) w5 w6 w7 w8 w9 w10 (by omega) hT hae he (Q.fr (ck_q f1)) (hX.fr f1) N1
    refine ⟨h2, ns1 ++ ns2, w3, w4, w5, w6, w7, w8, w9, w10, r2, by rw [nfold_app]; exact N2, nrg_app (nrg_mono g1 (by omega) ha') g2 (by omega) hae, f1.trans f2, fun s hs => ?_⟩
    unfold lksS
    have x1 := s1 s hs
    cases hx : lkS K V chs k ch X q.2[j] s with
    | inl er =>
      rw [hx] at x1
      exact lst_app x1 g1 (fun x hx => by have := g2 x hx; omega) (fun x hx hl => hP _ _ hl (by have := g2 x hx; omega))
    | inr u =>
      rw [hx] at x1
      dsimp only
      have x2 := s2 u x1.2
      rw [x1.1, List.nil_append]
      exact x2
theorem mn_z350 (x1 x2 x3 : Int) (h2 : 0 ≤ x2 ∧ x2 < 401) (u5 u6 u7 u8 u9 u10 : Option am_V) : ∀ (m j : Nat) {h : am_H}, j + m = 200 → (∀ a, a < j → h 350 a = 0) → ∃ h', am_E (am_D d) m_17_167 (.inl 5) [some (am_r (am_a 254)), some (am_i x1), some (am_i x2), some (am_i x3), some (am_i (j : Int)), u5, u6, u7, u8, u9, u10] [] (zS L, h) = am_E (am_D d) m_17_167 (.inl 7) [some (am_r (am_a 254)), some (am_i x1), some (am_i x2), some (am_i x3), some (am_i (h 336 x2.toNat)), u5, u6, u7, u8, u9, u10] [] (zS L, h') ∧ (∀ a, a < 200 → h' 350 a = 0) ∧ p_fr [350] [] h h'
  | 0, j, h, hm, H => by
    rw [q_17_167_5, if_neg (by omega), p_idx h2.1 h2.2]
    exact ⟨h, rfl, fun a ha => H a (by omega), p_fr.refl h⟩
  | m + 1, j, h, hm, H => by
    rw [q_17_167_5, if_pos (by omega), p_idx (by omega) (by omega), Int.toNat_natCast, p_w (by omega) (by omega)]
    obtain ⟨h', r1, r2, r3⟩ := mn_z350 x1 x2 x3 h2 u5 u6 u7 u8 u9 u10 m (j + 1) (h := am_up h 350 j 0) (by omega) (fun a ha => by
      by_cases ea : a = j
      · rw [ea, p_up_s]
      · rw [p_up_n _ _ _ _ _ _ (Or.inr ea)]; exact H a (by omega))
    rw [p_up_c _ _ _ _ 336 (by decide)] at r1
    exact ⟨h', r1, r2, ((p_fr.refl h).upc _ _ _ rfl).trans r3⟩
theorem mn_z351 (x1 : Int) (h1 : 0 ≤ x1 ∧ x1 < 18) (u3 u4 u5 u6 u7 u8 u9 u10 : Option am_V) : ∀ (m j : Nat) {h : am_H}, j + m = 200 → (∀ a, a < j → h 351 a = 0) → ∃ h', am_E (am_D d) m_17_167 (.inl 1) [some (am_r (am_a 254)), some (am_i x1), some (am_i (j : Int)), u3, u4, u5, u6, u7, u8, u9, u10] [] (zS L, h) = am_E (am_D d) m_17_167 (.inl 3) [some (am_r (am_a 254)), some (am_i x1), some (am_i (h 334 x1.toNat)), u3, u4, u5, u6, u7, u8, u9, u10] [] (zS L, h') ∧ (∀ a, a < 200 → h' 351 a = 0) ∧ p_fr [351] [] h h'
  | 0, j, h, hm, H => by
    rw [q_17_167_1, if_neg (by omega), p_idx h1.1 h1.2]
    exact ⟨h, rfl, fun a ha => H a (by omega), p_fr.refl h⟩
  | m + 1, j, h, hm, H => by
    rw [q_17_167_1, if_pos (by omega), p_idx (by omega) (by omega), Int.toNat_natCast, p_w (by omega) (by omega)]
    obtain ⟨h', r1, r2, r3⟩ := mn_z351 x1 h1 u3 u4 u5 u6 u7 u8 u9 u10 m (j + 1) (h := am_up h 351 j 0) (by omega) (fun a ha => by
      by_cases ea : a = j
      · rw [ea, p_up_s]
      · rw [p_up_n _ _ _ _ _ _ (Or.inr ea)]; exact H a (by omega))
    rw [p_up_c _ _ _ _ 334 (by decide)] at r1
    exact ⟨h', r1, r2, ((p_fr.refl h).upc _ _ _ rfl).trans r3⟩
theorem gpN_rg (Q : mQ K V P W Z chs h) {k p : Nat} (hk : k < 2 + chs.length) (hp : p < kIp chs k) (hin : ∀ ch ∈ chs, ch.2.2.1 ≤ ch.2.1.length) : gpN chs k p < 200 := by
  have l : p < (kNm V chs k).length := by
    rcases k_cases hk with rfl | rfl | ⟨c, ch, rfl, hc⟩
    · rw [show kIp chs 0 = 2 from rfl] at hp; rw [show kNm V chs 0 = [8, 9, 11] from rfl]; simp; omega
    · rw [show kIp chs 1 = 1 from rfl] at hp; rw [show kNm V chs 1 = [10, 11] from rfl]; simp; omega
    · rw [(kNm_c (V := V) hc).2.2] at hp
      rw [(kNm_c (V := V) hc).1, show (cNm V ch).length = ch.2.1.length by unfold cNm; rw [List.length_map]]
      have := hin ch (List.mem_of_getElem? hc)
      omega
  have := gp_rg Q hk (p := (p : Int)) (by omega) (by omega)
  rw [gp_N] at this
  omega
theorem mn_cparts (E : kEx K V Z) (G : mWd K V W Z) (hP : ∀ x y, x < y → y ≤ Z → P x < P y) (T : ∀ ch ∈ chs, cht K V Z ch) (hc : chs[c]? = some ch) {X : Nat → Int} (hXr : ∀ j, X j = -1 ∨ 0 ≤ X j) {e : Nat} (he : e ≤ Z) : ∀ (m i : Nat) {a : Nat} {F : Option (Int × Int)} {h : am_H} (u3 u4 u5 u6 u7 u8 u9 u10 : Option am_V), i + m = ch.2.2.2.1.length → ptsT K V (ch.2.2.2.1.drop i) a e → mQ K V P W Z chs h → gM chs c ch X h → (∀ a q, ch.2.2.2.1[a]? = some q → h 349 (oT chs c + a) = kInt (kOf V chs (V q.1))) → nR F h → ∃ h' ns, am_E (am_D (d + 3)) m_17_167 (.inl 3) [some (am_r (am_a 254)), some (am_i (c : Int)), some (am_i ((oT chs c + i : Nat) : Int)), u3, u4, u5, u6, u7, u8, u9, u10] [] (zS L, h) = pV L h' ∧ nR (nfoldx P F ns) h' ∧ nrg a e ns ∧ p_fr ckC ntF h h' ∧ ∀ s, oM chs c ch s h → (match prsS K V chs ch X (ch.2.2.2.1.drop i) s with
      | .inl e => lstx P e ns
      | .inr u => ns = [] ∧ oM chs c ch u h')
  | 0, i, a, F, h, u3, u4, u5, u6, u7, u8, u9, u10, hm, T', Q, hX, h9, N => by
    have l16 := Q.2.1.2
    have hcl := (List.getElem?_eq_some_iff.1 hc).1
    have on := oT_n hc
    rw [q_17_167_3, p_w (by omega) (by omega), p_idx (by omega) (by omega), show ((c : Int) + 1).toNat = c + 1 by omega, (Q.2.2.2.2.1 (c + 1) (by omega)).2.1, on, if_neg (by omega), List.drop_eq_nil_of_le (by omega)]
    exact ⟨h, [], rfl, N, nrg_nil _ _, p_fr.refl h, fun s hs => ⟨rfl, hs⟩⟩
  | m + 1, i, a, F, h, u3, u4, u5, u6, u7, u8, u9, u10, hm, T', Q, hX, h9, N => by
    have l16 := Q.2.1.2
    have z2 := Q.1.1.1
    have hcl := (List.getElem?_eq_some_iff.1 hc).1
    have hcm := List.mem_of_getElem? hc
    have on := oT_n hc
    have hil : i < ch.2.2.2.1.length := by omega
    obtain ⟨q, hqe⟩ : ∃ q, q = ch.2.2.2.1[i] := ⟨_, rfl⟩
    have hi : ch.2.2.2.1[i]? = some q := by rw [hqe]; exact List.getElem?_eq_getElem hil
    have qa := aT_at hc hi
    have ql := (List.getElem?_eq_some_iff.1 qa).1
    obtain ⟨b1, b2, b3, b4⟩ := Q.2.2.1
    rw [List.drop_eq_getElem_cons hil, ← hqe] at T' ⊢
    obtain ⟨t1, t2, t3, e1, t4, t5, t6, t7⟩ := T'
    have c0 := ((T ch hcm).2.2.2 q (List.mem_of_getElem? hi)).1.1
    have r1 := lksT_rg E.1 t4 (by omega)
    have e1z := E.1.lt r1.2.1 (by rw [t5.1]; omega)
    have e2z := E.1.lt (i := e1 + 1) (by omega) (by rw [t6.1]; omega)
    have r2 := ptsT_rg E.1 t7 (by omega)
    have h9i := h9 i q hi
    rw [q_17_167_3, p_w (x := (c : Int) + 1) (by omega) (by omega), p_idx (by omega) (by omega), show ((c : Int) + 1).toNat = c + 1 by omega, (Q.2.2.2.2.1 (c + 1) (by omega)).2.1, on, if_pos (by omega), p_idx (by omega) (by omega), Int.toNat_natCast, h9i]
    unfold prsS prS
    cases hk : kOf V chs (V q.1) with
    | none =>
      obtain ⟨h1, x1, N1, f1⟩ := mn_note (d := d + 2) (L := L) (P := P) N (show (0 : Int) < 4 by decide) (show q.1 < 2002 by omega) ((Q.1.2.1 q.1 (by omega)).2.1)
      rw [if_pos (show kInt none = -1 from rfl), p_idx (by omega) (by omega), Int.toNat_natCast, (Q.2.2.2.2.2.2.2.1 _ q qa).1, x1, p_xV, p_w (x := ((oT chs c + i : Nat) : Int) + 1) (by omega) (by omega), show ((oT chs c + i : Nat) : Int) + 1 = ((oT chs c + (i + 1) : Nat) : Int) by omega]
      have f1' : p_fr ckC ntF h h1 := f1.mono rfl rfl
      obtain ⟨h2, ns2, x2, N2, g2, f2, -⟩ := mn_cparts E G hP T hc hXr he m (i + 1) (some (am_i (kInt none))) u4 u5 u6 u7 u8 u9 u10 (by omega) t7 (Q.fr (ck_q f1')) (hX.fr f1') (fun a q' hq' => by rw [f1.cell 349 rfl rfl]; exact h9 a q' hq') N1
      refine ⟨h2, [(4, q.1)] ++ ns2, x2, by rw [nfold_app]; exact N2, nrg_app (nrg_mono (nrg1 (Nat.le_refl _) (show q.1 < e1 + 2 by omega) (show (0 : Int) < 4 by decide)) (by dsimp only; omega) (Nat.le_refl _)) g2 (by omega) (by omega), f1'.trans f2, fun s hs => ?_⟩
      exact lst_app (lst1 P _) (nrg1 (Nat.le_refl _) (show q.1 < e1 + 2 by omega) (show (0 : Int) < 4 by decide)) (fun x hx => (g2 x hx).1) (fun x hx hl => hP _ _ hl (by have := g2 x hx; omega))
    | some k =>
      have hkl := kOf_rg hk
      rw [if_neg (show ¬ kInt (some k) = -1 by show ¬ (k : Int) = -1; omega)]
      obtain ⟨h1, x1, z1, f1⟩ := mn_z350 (d := d + 3) (L := L) (c : Int) ((oT chs c + i : Nat) : Int) (kInt (some k)) (by omega) u5 u6 u7 u8 u9 u10 200 0 (h := h) (by omega) (fun a ha => by omega)
      rw [show ((0 : Nat) : Int) = 0 from rfl, Int.toNat_natCast, Q.2.2.2.2.2.2.1 _ (by omega)] at x1
      rw [x1]
      have f1' : p_fr ckC ntF h h1 := f1.mono rfl rfl
      have Q1 := Q.fr (ck_q f1')
      have hqt : q.2.length = 0 ∨ lksT K V (q.2.drop 0) (a + 2) e1 := Or.inr t4
      obtain ⟨h2, ns2, w3, w4, w5, w6, w7, w8, w9, w10, x2, N2, g2, f2, s2⟩ := mn_clinks (d := d) (L := L) E G hP T hc hi hkl hXr q.2.length 0 u5 u6 u7 u8 u9 u10 (by omega) hqt (by omega) (by omega) Q1 (hX.fr f1') (N.fr (f1 254 69 rfl rfl) (f1 254 70 rfl rfl))
      rw [show oLx chs (oT chs c + i) + 0 = oLx chs (oT chs c + i) from rfl] at x2
      rw [show kInt (some k) = (k : Int) from rfl, x2]
      have f2' := f1'.trans f2
      obtain ⟨h3, ns3, x3, N3, g3, f3, s3⟩ := mn_cparts E G hP T hc hXr he m (i + 1) w3 w4 w5 w6 w7 w8 w9 w10 (by omega) t7 (Q.fr (ck_q f2')) (hX.fr f2') (fun a q' hq' => by rw [f2'.cell 349 rfl rfl]; exact h9 a q' hq') N2
      refine ⟨h3, ns2 ++ ns3, x3, by rw [nfold_app]; exact N3, nrg_app (nrg_mono g2 (by omega) (show e1 ≤ e1 + 2 by omega)) g3 (by omega) (by omega), f2'.trans f3, fun s hs => ?_⟩
      have o1 : sM chs c ch k (fun _ => 0, s) h1 := by
        refine ⟨fun p hp => z1 _ (gpN_rg Q hkl hp (fun ch hch => by have := (T ch hch).2.1.2.2.2.2.1; omega)), ?_⟩
        unfold oM
        rw [f1.cell 351 rfl rfl, f1.cell 348 rfl rfl]
        exact hs
      have y2 := s2 _ o1
      rw [List.drop_zero] at y2
      dsimp only
      cases hx : lksS K V chs k ch X q.2 (fun _ => 0, s) with
      | inl er =>
        rw [hx] at y2
        exact lst_app y2 g2 (fun x hx => by have := g3 x hx; omega) (fun x hx hl => hP _ _ hl (by have := g3 x hx; omega))
      | inr u =>
        rw [hx] at y2
        dsimp only
        rw [y2.1, List.nil_append]
        exact s3 u.2 y2.2.2
/-- checkLinks -/
theorem mn_check (E : kEx K V Z) (G : mWd K V W Z) (hP : ∀ x y, x < y → y ≤ Z → P x < P y) (T : ∀ ch ∈ chs, cht K V Z ch) (hc : chs[c]? = some ch) {X : Nat → Int} (hXr : ∀ j, X j = -1 ∨ 0 ≤ X j) {a e : Nat} (he : e ≤ Z) {F : Option (Int × Int)} (T' : ptsT K V ch.2.2.2.1 a e) (Q : mQ K V P W Z chs h) (hX : gM chs c ch X h) (h8 : ∀ j, j < ch.2.2.2.2.length → h 348 (oI chs c + j) = 0) (h9 : ∀ a q, ch.2.2.2.1[a]? = some q → h 349 (oT chs c + a) = kInt (kOf V chs (V q.1))) (N : nR F h) : ∃ h' ns, am_D (d + 4) 17 167 [am_r (am_a 254), am_i (c : Int)] (zS L, h) = pV L h' ∧ nR (nfoldx P F ns) h' ∧ nrg a e ns ∧ p_fr ckC ntF h h' ∧ lstO P (match prsS K V chs ch X ch.2.2.2.1 (fun _ => 0, fun _ => 0) with | .inl e => some e | .inr _ => none) ns := by
  have l16 := Q.2.1.2
  have hcl := (List.getElem?_eq_some_iff.1 hc).1
  have ipn := oP_n hc
  have ptk : oP chs (c + 1) ≤ (aP chs).length := flat_le cpM chs (c + 1)
  have := Q.2.2.1.1
  obtain ⟨h1, x1, z1, f1⟩ := mn_z351 (d := d + 3) (L := L) (c : Int) (by omega) none none none none none none none none 200 0 (h := h) (by omega) (fun a ha => by omega)
  rw [show ((0 : Nat) : Int) = 0 from rfl, Int.toNat_natCast, (Q.2.2.2.2.1 c (by omega)).2.1] at x1
  rw [D_17_167, x1]
  have f1' : p_fr ckC ntF h h1 := f1.mono rfl rfl
  obtain ⟨h2, ns, x2, N2, g2, f2, s2⟩ := mn_cparts (d := d) (L := L) E G hP T hc hXr he ch.2.2.2.1.length 0 none none none none none none none none (by omega) T' (Q.fr (ck_q f1')) (hX.fr f1') (fun a q' hq' => by rw [f1.cell 349 rfl rfl]; exact h9 a q' hq') (N.fr (f1 254 69 rfl rfl) (f1 254 70 rfl rfl))
  rw [show oT chs c + 0 = oT chs c from rfl] at x2
  refine ⟨h2, ns, x2, N2, g2, f1'.trans f2, ?_⟩
  have o1 : oM chs c ch (fun _ => 0, fun _ => 0) h1 := ⟨fun j hj => z1 _ (by omega), fun j hj => ⟨by rw [f1.cell 348 rfl rfl]; exact h8 j hj, Or.inl rfl⟩⟩
  have y2 := s2 _ o1
  rw [List.drop_zero] at y2
  cases hx : prsS K V chs ch X ch.2.2.2.1 (fun _ => 0, fun _ => 0) with
  | inl er => rw [hx] at y2; exact y2
  | inr u => rw [hx] at y2; exact y2.1
theorem gvs_rg : ∀ (ps : List (Nat × List cLk)) (X : Nat → Int), (∀ j, X j = -1 ∨ 0 ≤ X j) → ∀ j, gvs K V chs ch ps X j = -1 ∨ 0 ≤ gvs K V chs ch ps X j
  | [], X, h => h
  | q :: qs, X, h => by
    have g1 : ∀ (k : Nat) (l : cLk) (X : Nat → Int), (∀ j, X j = -1 ∨ 0 ≤ X j) → ∀ j, gv1 K V chs k ch l X j = -1 ∨ 0 ≤ gv1 K V chs k ch l X j := fun k l X h j => by
      unfold gv1
      split
      · exact h j
      · unfold p_set
        split
        · split
          · rename_i y; unfold rn; unfold rok at y; omega
          · exact Or.inl rfl
        · exact h j
    have gl : ∀ (k : Nat) (ls : List cLk) (X : Nat → Int), (∀ j, X j = -1 ∨ 0 ≤ X j) → ∀ j, gvl K V chs k ch ls X j = -1 ∨ 0 ≤ gvl K V chs k ch ls X j := fun k ls => by
      induction ls with
      | nil => intro X h; exact h
      | cons l ls ih => intro X h; exact ih _ (g1 k l X h)
    refine gvs_rg qs _ ?_
    intro j
    unfold gvp
    cases kOf V chs (V q.1) with
    | none => exact h j
    | some k => exact gl k _ _ h j
end
