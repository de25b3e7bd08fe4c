/-! CHIPS, 51: the board: the model's waiting chips -/
section
variable {d L : Nat} {K V P : Nat → Int} {W : Nat → List Int} {Z c k : Nat} {chs : List cCh} {ch : cCh} {h h' : am_H}
theorem finO_none (hin : ch.2.2.1 ≤ ch.2.1.length) {x : Nat} (hx : x < inb V ch) : ∀ (ps : List (Nat × List cLk)) (p : Nat) {G : Nat → Option (Nat × Nat)}, (∀ q ∈ ps, ∀ k, kOf V chs (V q.1) = some k → ∀ l ∈ q.2, lkP K V chs k ch l ∧ 0 ≤ l.2.1.2.1 ∧ 0 ≤ l.2.2.2.1.2.1) → G x = none → finO K V chs ch ps p G x = none
  | [], p, G, _, hG => hG
  | q :: ps, p, G, H, hG => by
    show finO K V chs ch ps (p + 1) _ x = none
    refine finO_none hin hx ps (p + 1) (fun q' h' => H q' (List.mem_cons_of_mem _ h')) ?_
    cases hk : kOf V chs (V q.1) with
    | none => exact hG
    | some k =>
      dsimp only
      rw [fOl_none hin q.2 (H q (List.mem_cons_self ..) k hk) hx rfl]
      exact hG
theorem inb_own (hin : ch.2.2.1 < ch.2.1.length) : inb V ch < wsm V ch.2.1 ∧ wsm V ch.2.1 ≤ ownx K V chs ch := by
  refine ⟨?_, by unfold ownx; omega⟩
  unfold inb
  rw [← wfl_all]
  have m := wfl_mono (cWs V ch) (show ch.2.2.1 + 1 ≤ ch.2.1.length by omega)
  have s : wfl (cWs V ch) (ch.2.2.1 + 1) = wfl (cWs V ch) ch.2.2.1 + ((cWs V ch).getD ch.2.2.1 1).toNat := rfl
  have := getD_rg (l := cWs V ch) (fun w hw => by unfold cWs at hw; obtain ⟨p, -, rfl⟩ := List.mem_map.1 hw; exact c_w_rg V p.2) ch.2.2.1
  omega
theorem MN_fr (Y : kY K V Z chs) (hin : ∀ ch ∈ chs, ch.2.2.1 < ch.2.1.length) {F G Q I F' G' Q' I' : Nat → Int} : ∀ (m c b n g : Nat) (ch : cCh), chs[c]? = some ch → MN K V chs F G Q I m c b n g → (∀ x, b + inb V ch ≤ x → x < b + ownx K V chs ch → F' x = F x) → (∀ x, b ≤ x → x < b + ownx K V chs ch → G' x = G x) → (∀ x, n ≤ x → x < n + mD K V chs ch 0 → F' x = F x ∧ G' x = G x) → (∀ x, g ≤ x → x < g + mH V chs ch 0 → Q' x = Q x ∧ I' x = I x) → MN K V chs F' G' Q' I' m c b n g
  | 0, c, b, n, g, ch, hc, _, _, _, _, _ => trivial
  | m + 1, c, b, n, g, ch, hc, H, hF, hG, hB, hQ => by
    intro ch' hc'
    rw [hc] at hc'
    injection hc' with hc'
    subst hc'
    obtain ⟨h1, h2, h3⟩ := H ch hc
    refine ⟨fun x hx1 hx2 => by rw [hF _ (by omega) (by omega)]; exact h1 x hx1 hx2, fun x hx => by rw [hG _ (by omega) (by omega)]; exact h2 x hx, fun p q k hp hk => ?_⟩
    obtain ⟨g1, g2, g3⟩ := h3 p q k hp hk
    have hpl := (List.getElem?_eq_some_iff.1 hp).1
    obtain ⟨n1, n2, n3, n4, n5⟩ := mO_n (K := K) hp hk
    obtain ⟨m1, m2, m3, -⟩ := mO_mono (K := K) (V := V) (chs := chs) ch (show p + 1 ≤ ch.2.2.2.1.length by omega)
    obtain ⟨-, -, -, m4, m5⟩ := mO_mono (K := K) (V := V) (chs := chs) ch (Nat.zero_le p)
    have d1 : mOx K V chs ch ch.2.2.2.1.length ≤ mD K V chs ch (p + 1) := by unfold mD; omega
    have d2 : mGx V chs ch ch.2.2.2.1.length ≤ mH V chs ch (p + 1) := by unfold mH; omega
    have hkl := kOf_rg hk
    obtain ⟨o1, o2, o3, o4⟩ := owk_tot (K := K) Y.1 hin hkl
    have ib := (pbt_tot (K := K) Y.1 hkl hin).2.1
    refine ⟨fun x hx => by rw [(hB _ (by omega) (by omega)).1]; exact g1 x hx, fun k2 => ?_, fun k2 => ?_⟩
    · obtain ⟨a1, a2, a3, a4⟩ := g2 k2
      have gk : g1k k = 1 := by unfold g1k; rw [if_pos k2]
      refine ⟨by rw [(hB _ (by omega) (by omega)).2]; exact a1, fun x hx => by rw [(hB _ (by omega) (by omega)).2]; exact a2 x hx, by rw [(hQ _ (by omega) (by omega)).1]; exact a3, by rw [(hQ _ (by omega) (by omega)).2]; exact a4⟩
    · obtain ⟨ck, w1, w2, w3, w4⟩ := o4 k2
      have gk : gck V chs k = gAll V chs (k - 2) := by unfold gck; rw [if_neg (by omega)]
      obtain ⟨e1, e2⟩ := mO_end (K := K) Y.1 hin w1 (fun q hq => (Y.2.1 ck (List.mem_of_getElem? w1) q hq).2)
      exact MN_fr Y hin m _ _ _ _ ck w1 (g3 k2) (fun x hx1 hx2 => (hB x (by omega) (by omega)).1) (fun x hx1 hx2 => (hB x (by omega) (by omega)).2) (fun x hx1 hx2 => hB x (by omega) (by omega)) (fun x hx1 hx2 => hQ x (by omega) (by omega))
/-- a waiting chip comes, with all that is in it -/
def prSt (d L : Nat) (K V P : Nat → Int) (W : Nat → List Int) (Z : Nat) (chs : List cCh) (m : Nat) : Prop := ∀ (c : Nat) (ch : cCh) (b n g s : Nat) (h : am_H) (u1 u2 u3 u4 u5 u6 : Option am_V), rkx V chs c < m → chs[c]? = some ch → b + ownx K V chs ch ≤ n → n + mD K V chs ch 0 ≤ 40000 → g + mH V chs ch 0 ≤ 1500 → 2 * (s + 1) ≤ n → mQ K V P W Z chs h → mI K V chs chs.length h → h 254 158 = (n : Int) → h 254 161 = (g : Int) → h 254 170 = ((s + 1 : Nat) : Int) → h 364 s = (c : Int) → h 365 s = (b : Int) → (∀ x, inb V ch ≤ x → x < ownx K V chs ch → h 355 (b + x) = -1) → (∀ x, x < ownx K V chs ch → h 356 (b + x) = 0) →
  ∃ h' w2 w3 w4 w5 w6, am_E (am_D (d + 5)) m_17_177 (.inl 1) [some (am_r (am_a 254)), u1, u2, u3, u4, u5, u6] [] (zS L, h) = am_E (am_D (d + 5)) m_17_177 (.inl 1) [some (am_r (am_a 254)), u1, w2, w3, w4, w5, w6] [] (zS L, h') ∧ (h' 254 158 = ((n + mD K V chs ch 0 : Nat) : Int) ∧ h' 254 161 = ((g + mH V chs ch 0 : Nat) : Int) ∧ h' 254 170 = (s : Int)) ∧ MN K V chs (h' 355) (h' 356) (h' 357) (h' 358) m c b n g ∧ (∀ x, x < n → (x < b + inb V ch ∨ b + ownx K V chs ch ≤ x) → h' 355 x = h 355 x) ∧ (∀ x, x < n → h' 356 x = h 356 x) ∧ (∀ x, x < g → h' 357 x = h 357 x ∧ h' 358 x = h 358 x) ∧ (∀ x, x < s → h' 364 x = h 364 x ∧ h' 365 x = h 365 x) ∧ p_fr mbC mbF h h'
/-- parts from p on are done -/
def kI (K V : Nat → Int) (chs : List cCh) (ch : cCh) (b n g s m : Nat) (h0 : am_H) (p : Nat) (h : am_H) : Prop := (h 254 158 = ((n + mD K V chs ch p : Nat) : Int) ∧ h 254 161 = ((g + mH V chs ch p : Nat) : Int) ∧ h 254 170 = ((s + mC V chs ch p : Nat) : Int)) ∧ (∀ x, x < ownx K V chs ch → h 355 (b + x) = match finO K V chs ch ch.2.2.2.1 0 (fun _ => none) x with
    | some (p', y) => ((n + mOx K V chs ch p' + y : Nat) : Int)
    | none => h0 355 (b + x)) ∧ (∀ p' q k, ch.2.2.2.1[p']? = some q → kOf V chs (V q.1) = some k → prtM K V chs (n + mOx K V chs ch p') b k ch q (h 355) ∧ (k < 2 → gatM V chs (n + mOx K V chs ch p') (g + mGx V chs ch p') k (h 356) (h 357) (h 358)) ∧ (2 ≤ k → (p ≤ p' → MN K V chs (h 355) (h 356) (h 357) (h 358) m (k - 2) (n + mOx K V chs ch p') (n + mD K V chs ch (p' + 1)) (g + mH V chs ch (p' + 1))) ∧ (p' < p → (∀ x, ibt V chs k ≤ x → x < owk K V chs k → h 355 (n + mOx K V chs ch p' + x) = -1) ∧ (∀ x, x < owk K V chs k → h 356 (n + mOx K V chs ch p' + x) = 0) ∧ h 364 (s + mC V chs ch p') = ((k - 2 : Nat) : Int) ∧ h 365 (s + mC V chs ch p') = ((n + mOx K V chs ch p' : Nat) : Int)))) ∧ (∀ x, x < n → (x < b ∨ b + ownx K V chs ch ≤ x) → h 355 x = h0 355 x) ∧ (∀ x, x < n → h 356 x = h0 356 x) ∧ (∀ x, x < g → h 357 x = h0 357 x ∧ h 358 x = h0 358 x) ∧ (∀ x, x < s → h 364 x = h0 364 x ∧ h 365 x = h0 365 x) ∧ p_fr mbC mbF h0 h
theorem mC_2 (Y : kY K V Z chs) (hin : ∀ ch ∈ chs, 1 ≤ ch.2.2.1 ∧ ch.2.2.1 < ch.2.1.length) : ∀ (ps : List (Nat × List cLk)), 2 * psm V chs c1k ps ≤ psm V chs (owk K V chs) ps
  | [] => Nat.le_refl _
  | q :: ps => by
    have ih := mC_2 Y hin ps
    show 2 * ((match kOf V chs (V q.1) with | some k => c1k k | none => 0) + psm V chs c1k ps) ≤ (match kOf V chs (V q.1) with | some k => owk K V chs k | none => 0) + psm V chs (owk K V chs) ps
    cases hk : kOf V chs (V q.1) with
    | none => dsimp only; omega
    | some k =>
      dsimp only
      have hkl := kOf_rg hk
      by_cases k2 : k < 2
      · have : c1k k = 0 := by unfold c1k; rw [if_pos k2]
        omega
      · have c1 : c1k k = 1 := by unfold c1k; rw [if_neg k2]
        obtain ⟨-, o2, -, o4⟩ := owk_tot (K := K) Y.1 (fun ch hch => (hin ch hch).2) hkl
        obtain ⟨ck, w1, w2, w3, w4⟩ := o4 (by omega)
        have ib := (pbt_tot (K := K) Y.1 hkl (fun ch hch => (hin ch hch).2)).2.1
        have i1 := hin ck (List.mem_of_getElem? w1)
        have w1' : 1 ≤ inb V ck := by
          unfold inb
          have m := wfl_mono (cWs V ck) (show 1 ≤ ck.2.2.1 by omega)
          have s : wfl (cWs V ck) 1 = 0 + ((cWs V ck).getD 0 1).toNat := rfl
          have := getD_rg (l := cWs V ck) (fun w hw => by unfold cWs at hw; obtain ⟨p, -, rfl⟩ := List.mem_map.1 hw; exact c_w_rg V p.2) 0
          omega
        omega
theorem mb_kid (Y : kY K V Z chs) (hin : ∀ ch ∈ chs, 1 ≤ ch.2.2.1 ∧ ch.2.2.1 < ch.2.1.length) {m b n g s : Nat} (IH : prSt d L K V P W Z chs m) (hc : chs[c]? = some ch) (hrk : rkx V chs c < m + 1) (hbn : b + ownx K V chs ch ≤ n) (hn : n + mD K V chs ch 0 ≤ 40000) (hg : g + mH V chs ch 0 ≤ 1500) (hs : 2 * s ≤ n) {h0 : am_H} (Q0 : mQ K V P W Z chs h0) (I0 : mI K V chs chs.length h0) (u1 : Option am_V) : ∀ (p : Nat) {h : am_H} (u2 u3 u4 u5 u6 : Option am_V), p ≤ ch.2.2.2.1.length → kI K V chs ch b n g s m h0 p h → ∃ h' w2 w3 w4 w5 w6, am_E (am_D (d + 5)) m_17_177 (.inl 1) [some (am_r (am_a 254)), u1, u2, u3, u4, u5, u6] [] (zS L, h) = am_E (am_D (d + 5)) m_17_177 (.inl 1) [some (am_r (am_a 254)), u1, w2, w3, w4, w5, w6] [] (zS L, h') ∧ kI K V chs ch b n g s m h0 0 h'
  | 0, h, u2, u3, u4, u5, u6, hp, I => ⟨h, _, _, _, _, _, rfl, I⟩
  | p + 1, h, u2, u3, u4, u5, u6, hp, I => by
    obtain ⟨⟨c1, c2, c3⟩, OF, KF, F5, F6, FG, FS, FR⟩ := I
    have hin' : ∀ ch ∈ chs, ch.2.2.1 < ch.2.1.length := fun ch hch => (hin ch hch).2
    have hcl := (List.getElem?_eq_some_iff.1 hc).1
    have hcm := List.mem_of_getElem? hc
    obtain ⟨q, hqe⟩ : ∃ q, q = ch.2.2.2.1[p] := ⟨_, rfl⟩
    have hqp : ch.2.2.2.1[p]? = some q := by rw [hqe]; exact List.getElem?_eq_getElem (by omega)
    have hqm := List.mem_of_getElem? hqp
    obtain ⟨k, hk⟩ : ∃ k, kOf V chs (V q.1) = some k := by
      cases e : kOf V chs (V q.1) with
      | none => exact absurd e (Y.2.1 ch hcm q hqm).2
      | some k => exact ⟨k, rfl⟩
    have hkl := kOf_rg hk
    obtain ⟨n1, n2, n3, n4, n5⟩ := mO_n (K := K) hqp hk
    obtain ⟨m1, m2, m3, -⟩ := mO_mono (K := K) (V := V) (chs := chs) ch (show p + 1 ≤ ch.2.2.2.1.length by omega)
    obtain ⟨-, -, -, m4, m5⟩ := mO_mono (K := K) (V := V) (chs := chs) ch (Nat.zero_le p)
    have d1 : mOx K V chs ch ch.2.2.2.1.length ≤ mD K V chs ch (p + 1) := by unfold mD; omega
    have d2 : mGx V chs ch ch.2.2.2.1.length ≤ mH V chs ch (p + 1) := by unfold mH; omega
    obtain ⟨o1, o2, o3, o4⟩ := owk_tot (K := K) Y.1 hin' hkl
    by_cases k2 : k < 2
    · have r0 : rsk K V chs k = 0 := by obtain ⟨x1, x2⟩ := o3 k2; omega
      have g0 : gck V chs k = 0 := by unfold gck; rw [if_pos k2]
      have s0 : c1k k = 0 := by unfold c1k; rw [if_pos k2]
      refine mb_kid Y hin IH hc hrk hbn hn hg hs Q0 I0 u1 p u2 u3 u4 u5 u6 (by omega) ⟨⟨by rw [c1, n4, r0]; rfl, by rw [c2, n5, g0]; rfl, by rw [c3, n3, s0]; rfl⟩, OF, fun p' q' k' hq' hk' => ?_, F5, F6, FG, FS, FR⟩
      obtain ⟨y1, y2, y3⟩ := KF p' q' k' hq' hk'
      refine ⟨y1, y2, fun k3 => ⟨fun z => (y3 k3).1 ?_, fun z => (y3 k3).2 (by omega)⟩⟩
      rcases Nat.lt_or_ge p p' with w | w
      · exact w
      · exfalso
        rw [show p' = p by omega, hqp] at hq'
        injection hq' with hq'
        rw [← hq', hk] at hk'
        injection hk' with hk'
        omega
    · obtain ⟨ck, w1, w2, w3, w4⟩ := o4 (by omega)
      have gk : gck V chs k = gAll V chs (k - 2) := by unfold gck; rw [if_neg (by omega)]
      have s1 : c1k k = 1 := by unfold c1k; rw [if_neg k2]
      obtain ⟨e1, e2⟩ := mO_end (K := K) Y.1 hin' w1 (fun q hq => (Y.2.1 ck (List.mem_of_getElem? w1) q hq).2)
      have rkk := rk_lt Y.1 (a := c) (b := k - 2) ⟨ch, q, hc, hqm, by rw [hk, show 2 + (k - 2) = k by omega]⟩
      obtain ⟨y1, y2, y3⟩ := KF p q k hqp hk
      obtain ⟨z1, z2, z3, z4⟩ := (y3 (by omega)).2 (by omega)
      have s2 := mC_2 (K := K) Y hin (ch.2.2.2.1.take (p + 1))
      have s3 : 2 * mC V chs ch (p + 1) ≤ mOx K V chs ch (p + 1) := s2
      have ib := (pbt_tot (K := K) Y.1 hkl hin').2.1
      obtain ⟨h1, v2, v3, v4, v5, v6, r1, ⟨a1, a2, a3⟩, aM, a5, a6, aG, aS, f1⟩ := IH (k - 2) ck (n + mOx K V chs ch p) (n + mD K V chs ch (p + 1)) (g + mH V chs ch (p + 1)) (s + mC V chs ch p) h u1 u2 u3 u4 u5 u6 (by omega) w1 (by omega) (by omega) (by omega) (by omega) (Q0.b FR) (I0.b FR) c1 c2 (by rw [c3, n3, s1]; rfl) z3 z4 (fun x hx1 hx2 => z1 x (by omega) (by omega)) (fun x hx => z2 x (by omega))
      rw [r1]
      have out5 : ∀ x, x < n + mD K V chs ch (p + 1) → (x < n + mOx K V chs ch p + ibt V chs k ∨ n + mOx K V chs ch (p + 1) ≤ x) → h1 355 x = h 355 x := fun x hx hx2 => a5 x hx (by omega)
      refine mb_kid Y hin IH hc hrk hbn hn hg hs Q0 I0 u1 p v2 v3 v4 v5 v6 (by omega) ⟨⟨by rw [a1]; omega, by rw [a2]; omega, a3⟩, fun x hx => by rw [out5 _ (by omega) (Or.inl (by omega))]; exact OF x hx, fun p' q' k' hq' hk' => ?_, fun x hx hx2 => by rw [out5 x (by omega) (Or.inl (by omega))]; exact F5 x hx hx2, fun x hx => by rw [a6 x (by omega)]; exact F6 x hx, fun x hx => by rw [(aG x (by omega)).1, (aG x (by omega)).2]; exact FG x hx, fun x hx => by rw [(aS x (by omega)).1, (aS x (by omega)).2]; exact FS x hx, FR.trans f1⟩
      have hpl' := (List.getElem?_eq_some_iff.1 hq').1
      obtain ⟨x1, x2, x3⟩ := KF p' q' k' hq' hk'
      obtain ⟨n1', n2', n3', n4', n5'⟩ := mO_n (K := K) hq' hk'
      obtain ⟨m1', m2', m3', -⟩ := mO_mono (K := K) (V := V) (chs := chs) ch (show p' + 1 ≤ ch.2.2.2.1.length by omega)
      have hkl' := kOf_rg hk'
      obtain ⟨o1', o2', o3', o4'⟩ := owk_tot (K := K) Y.1 hin' hkl'
      have ib' := (pbt_tot (K := K) Y.1 hkl' hin').2.1
      have cmp : p' = p ∨ (p' + 1 ≤ p ∧ mOx K V chs ch (p' + 1) ≤ mOx K V chs ch p ∧ mC V chs ch (p' + 1) ≤ mC V chs ch p) ∨ (p + 1 ≤ p' ∧ mOx K V chs ch (p + 1) ≤ mOx K V chs ch p' ∧ mD K V chs ch p' ≤ mD K V chs ch (p + 1) ∧ mH V chs ch p' ≤ mH V chs ch (p + 1)) := by
        rcases Nat.lt_trichotomy p' p with w | w | w
        · obtain ⟨q1, -, q3, -⟩ := mO_mono (K := K) (V := V) (chs := chs) ch (show p' + 1 ≤ p by omega)
          exact Or.inr (Or.inl ⟨w, q1, q3⟩)
        · exact Or.inl w
        · obtain ⟨q1, -, -, q4, q5⟩ := mO_mono (K := K) (V := V) (chs := chs) ch (show p + 1 ≤ p' by omega)
          exact Or.inr (Or.inr ⟨w, q1, q4, q5⟩)
      have same : p' = p → k' = k := fun w => by
        rw [w, hqp] at hq'
        injection hq' with hq'
        rw [← hq', hk] at hk'
        injection hk' with hk'
        exact hk'.symm
      refine ⟨fun x hx => ?_, fun k3 => ?_, fun k3 => ⟨fun z => ?_, fun z => ?_⟩⟩
      · rw [out5 _ (by omega) ?_]
        · exact x1 x hx
        · rcases cmp with w | w | w
          · rw [w]; rw [same w] at hx; exact Or.inl (by omega)
          · exact Or.inl (by omega)
          · exact Or.inr (by omega)
      · obtain ⟨t1, t2, t3, t4⟩ := x2 k3
        have gk1 : g1k k' = 1 := by unfold g1k; rw [if_pos k3]
        refine ⟨by rw [a6 _ (by omega)]; exact t1, fun x hx => by rw [a6 _ (by omega)]; exact t2 x hx, by rw [(aG _ (by omega)).1]; exact t3, by rw [(aG _ (by omega)).2]; exact t4⟩
      · rcases cmp with w | w | w
        · rw [w, same w]; exact aM
        · omega
        · obtain ⟨ck', w1', w2', w3', w4'⟩ := o4' k3
          have gk' : gck V chs k' = gAll V chs (k' - 2) := by unfold gck; rw [if_neg (by omega)]
          obtain ⟨e1', e2'⟩ := mO_end (K := K) Y.1 hin' w1' (fun q hq => (Y.2.1 ck' (List.mem_of_getElem? w1') q hq).2)
          have d1' : mOx K V chs ch ch.2.2.2.1.length ≤ mD K V chs ch (p' + 1) := by unfold mD; omega
          exact MN_fr Y hin' m _ _ _ _ ck' w1' ((x3 k3).1 (by omega)) (fun x hx1 hx2 => out5 x (by omega) (Or.inr (by omega))) (fun x hx1 hx2 => a6 x (by omega)) (fun x hx1 hx2 => ⟨out5 x (by omega) (Or.inr (by omega)), a6 x (by omega)⟩) (fun x hx1 hx2 => aG x (by omega))
      · obtain ⟨t1, t2, t3, t4⟩ := (x3 k3).2 (by omega)
        have s1' : c1k k' = 1 := by unfold c1k; rw [if_neg (by omega)]
        rcases cmp with w | w | w
        · omega
        · refine ⟨fun x hx1 hx2 => by rw [out5 _ (by omega) (Or.inl (by omega))]; exact t1 x hx1 hx2, fun x hx => by rw [a6 _ (by omega)]; exact t2 x hx, by rw [(aS _ (by omega)).1]; exact t3, by rw [(aS _ (by omega)).2]; exact t4⟩
        · omega
theorem mb_proc (E : kEx K V Z) (G : mWd K V W Z) (T : ∀ ch ∈ chs, cht K V Z ch) (Y : kY K V Z chs) (LK : kL K V chs) (hin : ∀ ch ∈ chs, 1 ≤ ch.2.2.1 ∧ ch.2.2.1 < ch.2.1.length) : ∀ m, prSt d L K V P W Z chs m
  | 0 => fun c ch b n g s h u1 u2 u3 u4 u5 u6 hrk => by omega
  | m + 1 => by
    intro c ch b n g s h u1 u2 u3 u4 u5 u6 hrk hc hbn hn hg hs Q I e1 e2 e3 e4 e5 i5 i6
    have IH := mb_proc E G T Y LK hin m
    have hin' : ∀ ch ∈ chs, ch.2.2.1 < ch.2.1.length := fun ch hch => (hin ch hch).2
    have hcl := (List.getElem?_eq_some_iff.1 hc).1
    have hcm := List.mem_of_getElem? hc
    have l16 := Q.2.1.2
    have d1 : mOx K V chs ch ch.2.2.2.1.length ≤ mD K V chs ch 0 := by unfold mD; omega
    have d2 : mGx V chs ch ch.2.2.2.1.length ≤ mH V chs ch 0 := by unfold mH; omega
    have s2 := mC_2 (K := K) Y hin (ch.2.2.2.1.take ch.2.2.2.1.length)
    have s3 : 2 * mC V chs ch ch.2.2.2.1.length ≤ mOx K V chs ch ch.2.2.2.1.length := s2
    have z0 : mOx K V chs ch 0 = 0 ∧ mGx V chs ch 0 = 0 ∧ mC V chs ch 0 = 0 := ⟨rfl, rfl, rfl⟩
    obtain ⟨h1, eh1⟩ : ∃ h1, h1 = am_up h 254 170 (s : Int) := ⟨_, rfl⟩
    have f1 : p_fr mbC mbF h h1 := by rw [eh1]; exact (p_fr.refl h).upf _ _ _ rfl
    have c1 : ∀ x, x ≠ 254 → h1 x = h x := fun x hx => by rw [eh1, p_up_c _ _ _ _ _ hx]
    rw [q_17_177_1, e3, if_pos (by omega), p_w (by omega) (by omega), p_idx (by omega) (by omega), p_idx (by omega) (by omega), show (((s + 1 : Nat) : Int) - 1).toNat = s by omega, e4, e5, p_idx (by omega) (by omega), Int.toNat_natCast, (Q.2.2.2.2.1 c (by omega)).2.1, show ((s + 1 : Nat) : Int) - 1 = (s : Int) by omega, ← eh1, show (oT chs c : Int) = ((oT chs c + 0 : Nat) : Int) from rfl]
    obtain ⟨h2, w2, w3, w4, w5, w6, r2, ⟨⟨b1, b2, b3⟩, OF, KF, F5, F6, FG, FS, FR⟩⟩ := mb_prts (d := d) (L := L) (P := P) (n := n) (g := g) E G T Y LK hin' hc hbn (by omega) (by omega) (show s + mC V chs ch ch.2.2.2.1.length ≤ 20000 by omega) (Q.b f1) (I.b f1) u1 ch.2.2.2.1.length 0 u5 u6 (h := h1) (by omega) ⟨⟨by rw [z0.1, eh1, p_up_n _ _ _ _ _ _ (Or.inr (by decide))]; exact e1, by rw [z0.2.1, eh1, p_up_n _ _ _ _ _ _ (Or.inr (by decide))]; exact e2, by rw [z0.2.2, eh1, p_up_s]; rfl⟩, fun x hx => rfl, fun p' q k hp' => by omega, fun x _ _ => rfl, fun x _ => rfl, fun x _ => ⟨rfl, rfl⟩, fun x _ => ⟨rfl, rfl⟩, p_fr.refl h1⟩
    rw [r2]
    have K0 : kI K V chs ch b n g s m h1 ch.2.2.2.1.length h2 := by
      refine ⟨⟨?_, ?_, b3⟩, fun x hx => ?_, fun p' q k hq hk => ?_, F5, F6, FG, FS, FR⟩
      · rw [b1]; unfold mD; rw [List.drop_of_length_le (Nat.le_refl _)]; rfl
      · rw [b2]; unfold mH; rw [List.drop_of_length_le (Nat.le_refl _)]; rfl
      · have := OF x hx
        rw [List.take_of_length_le (Nat.le_refl _)] at this
        exact this
      · obtain ⟨y1, y2, y3⟩ := KF p' q k (List.getElem?_eq_some_iff.1 hq).1 hq hk
        exact ⟨y1, y2, fun k2 => ⟨fun z => absurd (List.getElem?_eq_some_iff.1 hq).1 (by omega), fun _ => y3 k2⟩⟩
    obtain ⟨h3, v2, v3, v4, v5, v6, r3, ⟨⟨t1, t2, t3⟩, OF', KF', F5', F6', FG', FS', FR'⟩⟩ := mb_kid (d := d) (L := L) (P := P) Y hin IH hc hrk hbn hn hg (by omega) (Q.b f1) (I.b f1) u1 ch.2.2.2.1.length w2 w3 w4 w5 w6 (Nat.le_refl _) K0
    rw [r3]
    refine ⟨h3, v2, v3, v4, v5, v6, rfl, ⟨t1, t2, by rw [t3, z0.2.2]; rfl⟩, ?_, fun x hx hx2 => ?_, fun x hx => by rw [F6' x hx, c1 356 (by decide)], fun x hx => by rw [(FG' x hx).1, (FG' x hx).2, c1 357 (by decide), c1 358 (by decide)]; exact ⟨rfl, rfl⟩, fun x hx => by rw [(FS' x hx).1, (FS' x hx).2, c1 364 (by decide), c1 365 (by decide)]; exact ⟨rfl, rfl⟩, f1.trans FR'⟩
    · intro ch' hc'
      rw [hc] at hc'
      injection hc' with hc'
      subst hc'
      refine ⟨fun x hx1 hx2 => ?_, fun x hx => by rw [F6' _ (by omega), c1 356 (by decide)]; exact i6 x hx, fun p q k hp hk => ?_⟩
      · rw [OF' x hx2]
        cases finO K V chs ch ch.2.2.2.1 0 (fun _ => none) x with
        | some y => rfl
        | none => show h1 355 (b + x) = -1; rw [c1 355 (by decide)]; exact i5 x hx1 hx2
      · obtain ⟨y1, y2, y3⟩ := KF' p q k hp hk
        exact ⟨y1, y2, fun k2 => (y3 k2).1 (Nat.zero_le _)⟩
    · rcases Nat.lt_or_ge x b with z | z
      · rw [F5' x hx (Or.inl z), c1 355 (by decide)]
      · rcases hx2 with w | w
        · have := OF' (x - b) (by have := inb_own (K := K) (V := V) (chs := chs) (hin' ch hcm); omega)
          rw [finO_none (Nat.le_of_lt (hin' ch hcm)) (show x - b < inb V ch by omega) ch.2.2.2.1 0 (fun q hq k hk l hl => ⟨(LK ch hcm q hq k hk l hl).1, (LK ch hcm q hq k hk l hl).2.1.1, (LK ch hcm q hq k hk l hl).2.2.1⟩) rfl, show b + (x - b) = x by omega, c1 355 (by decide)] at this
          exact this
        · rw [F5' x hx (Or.inr w), c1 355 (by decide)]
end
