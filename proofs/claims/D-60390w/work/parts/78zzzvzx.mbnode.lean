/-! CHIPS, 50: the board: the model's new part; between parts -/
section
variable {d L : Nat} {K V P : Nat → Int} {W : Nat → List Int} {Z c k : Nat} {chs : List cCh} {ch : cCh} {h h' : am_H}
def NP (K V : Nat → Int) (chs : List cCh) (pb g s k : Nat) (h h' : am_H) : Prop := (h' 254 158 = ((pb + owk K V chs k : Nat) : Int) ∧ h' 254 161 = ((g + g1k k : Nat) : Int) ∧ h' 254 170 = ((s + c1k k : Nat) : Int)) ∧ h' 355 = fill (h 355) pb (owk K V chs k) (fun _ => -1) ∧ (∀ x, x < pb → h' 356 x = h 356 x) ∧ (k < 2 → gatM V chs pb g k (h' 356) (h' 357) (h' 358)) ∧ (2 ≤ k → (∀ x, x < owk K V chs k → h' 356 (pb + x) = 0) ∧ h' 364 s = ((k - 2 : Nat) : Int) ∧ h' 365 s = (pb : Int)) ∧ (∀ x, x < g → h' 357 x = h 357 x ∧ h' 358 x = h 358 x) ∧ (∀ x, x < s → h' 364 x = h 364 x ∧ h' 365 x = h 365 x) ∧ p_fr mbC mbF h h'
theorem mb_np (Y : kY K V Z chs) (hin : ∀ ch ∈ chs, ch.2.2.1 < ch.2.1.length) (Q : mQ K V P W Z chs h) (I : mI K V chs chs.length h) (hk : k < 2 + chs.length) {pb g s : Nat} (hb : pb + owk K V chs k ≤ 40000) (hg : g + g1k k ≤ 1500) (hs : 2 ≤ k → s < 20000) (e1 : h 254 158 = (pb : Int)) (e2 : h 254 161 = (g : Int)) (e3 : h 254 170 = (s : Int)) : ∃ h', am_D (d + 5) 17 174 [am_r (am_a 254), am_i (k : Int)] (zS L, h) = pI L (pb : Int) h' ∧ NP K V chs pb g s k h h' := by
  obtain ⟨-, o2, o3, o4⟩ := owk_tot (K := K) Y.1 hin hk
  by_cases k2 : k < 2
  · obtain ⟨o5, -⟩ := o3 k2
    have g1 : g1k k = 1 := by unfold g1k; rw [if_pos k2]
    have c1 : c1k k = 0 := by unfold c1k; rw [if_pos k2]
    rw [g1] at hg
    obtain ⟨h1, r1, a1, a5, a6, a7, a8, a9, f1⟩ := mb_gate (d := d + 3) (L := L) (V := V) (chs := chs) k2 (b := pb) (g := g) (by omega) e1 e2 (by omega)
    have f2 := f1.mono (cs' := mbC) (fs' := mbF) rfl rfl
    have ib : ibt V chs k + 1 = pbt V chs k := by rcases (show k = 0 ∨ k = 1 by omega) with rfl | rfl <;> rfl
    refine ⟨h1, r1, ⟨by rw [o5]; exact a1, by rw [g1]; exact a9, by rw [c1, f1 254 170 rfl rfl]; exact e3⟩, by rw [o5]; exact a5, fun x hx => ?_, fun _ => ⟨?_, fun x hx => ?_, ?_, ?_⟩, fun z => by omega, fun x hx => ⟨?_, ?_⟩, fun x hx => ⟨by rw [f1.cell 364 rfl rfl], by rw [f1.cell 365 rfl rfl]⟩, f2⟩
    · rw [a6]; unfold p_set fill; rw [if_neg (by omega), if_neg (by omega)]
    · rw [a6]; unfold p_set; rw [if_pos rfl]
    · rw [a6]; unfold p_set fill; rw [if_neg (by omega), if_pos (by omega)]
    · rw [a7]; unfold p_set; rw [if_pos rfl]
    · rw [a8]; unfold p_set; rw [if_pos rfl]
    · rw [a7]; unfold p_set; rw [if_neg (by omega)]
    · rw [a8]; unfold p_set; rw [if_neg (by omega)]
  · obtain ⟨ck, w1, w2, w3, w4⟩ := o4 (by omega)
    have g1 : g1k k = 0 := by unfold g1k; rw [if_neg k2]
    have c1 : c1k k = 1 := by unfold c1k; rw [if_neg k2]
    have hcm := List.mem_of_getElem? w1
    rw [w2] at hb
    obtain ⟨h1, r1, a1, a5, a6, a7, a8, a9, f1⟩ := mb_chip (d := d + 1) (L := L) Q w1 (I (k - 2) ck (by omega) w1).1 (Y.2.2.1 ck hcm) (Y.2.2.2.1 ck hcm) (b := pb) (s := s) hb e1 e3 (hs (by omega))
    have f2 := f1.mono (cs' := mbC) (fs' := mbF) rfl rfl
    rw [show 2 + (k - 2) = k by omega] at r1
    refine ⟨h1, r1, ⟨by rw [w2]; exact a1, by rw [g1, f1 254 161 rfl rfl]; exact e2, by rw [c1]; exact a9⟩, by rw [w2]; exact a5, fun x hx => ?_, fun z => absurd z k2, fun _ => ⟨fun x hx => ?_, ?_, ?_⟩, fun x hx => ⟨by rw [f1.cell 357 rfl rfl], by rw [f1.cell 358 rfl rfl]⟩, fun x hx => ⟨?_, ?_⟩, f2⟩
    · rw [a6]; unfold fill; rw [if_neg (by omega)]
    · rw [a6]; unfold fill; rw [if_pos (by omega)]
    · rw [a7]; unfold p_set; rw [if_pos rfl]
    · rw [a8]; unfold p_set; rw [if_pos rfl]
    · rw [a7]; unfold p_set; rw [if_neg (by omega)]
    · rw [a8]; unfold p_set; rw [if_neg (by omega)]
/-- between parts -/
def nIx (K V : Nat → Int) (chs : List cCh) (ch : cCh) (b n g s : Nat) (h0 : am_H) (p : Nat) (h : am_H) : Prop := (h 254 158 = ((n + mOx K V chs ch p : Nat) : Int) ∧ h 254 161 = ((g + mGx V chs ch p : Nat) : Int) ∧ h 254 170 = ((s + mC V chs ch p : Nat) : Int)) ∧ (∀ x, x < ownx K V chs ch → h 355 (b + x) = match finO K V chs ch (ch.2.2.2.1.take p) 0 (fun _ => none) x with
    | some (p', y) => ((n + mOx K V chs ch p' + y : Nat) : Int)
    | none => h0 355 (b + x)) ∧ (∀ p' q k, p' < p → ch.2.2.2.1[p']? = some q → kOf V chs (V q.1) = some k → prtM K V chs (n + mOx K V chs ch p') b k ch q (h 355) ∧ (k < 2 → gatM V chs (n + mOx K V chs ch p') (g + mGx V chs ch p') k (h 356) (h 357) (h 358)) ∧ (2 ≤ k → (∀ x, ibt V chs k ≤ x → x < owk K V chs k → h 355 (n + mOx K V chs ch p' + x) = -1) ∧ (∀ x, x < owk K V chs k → h 356 (n + mOx K V chs ch p' + x) = 0) ∧ h 364 (s + mC V chs ch p') = ((k - 2 : Nat) : Int) ∧ h 365 (s + mC V chs ch p') = ((n + mOx K V chs ch p' : Nat) : Int))) ∧ (∀ x, x < n → (x < b ∨ b + ownx K V chs ch ≤ x) → h 355 x = h0 355 x) ∧ (∀ x, x < n → h 356 x = h0 356 x) ∧ (∀ x, x < g → h 357 x = h0 357 x ∧ h 358 x = h0 358 x) ∧ (∀ x, x < s → h 364 x = h0 364 x ∧ h 365 x = h0 365 x) ∧ p_fr mbC mbF h0 h
theorem mb_prt (E : kEx K V Z) (G : mWd K V W Z) (T : ∀ ch ∈ chs, cht K V Z ch) (Y : kY K V Z chs) (LK : kL K V chs) (hin : ∀ ch ∈ chs, ch.2.2.1 < ch.2.1.length) (hc : chs[c]? = some ch) {b n g s : Nat} (hbn : b + ownx K V chs ch ≤ n) (hn : n + mOx K V chs ch ch.2.2.2.1.length ≤ 40000) (hg : g + mGx V chs ch ch.2.2.2.1.length ≤ 1500) (hs : s + mC V chs ch ch.2.2.2.1.length ≤ 20000) {h0 : am_H} (Q0 : mQ K V P W Z chs h0) (I0 : mI K V chs chs.length h0) {p : Nat} (hp : p < ch.2.2.2.1.length) (I : nIx K V chs ch b n g s h0 p h) (u1 u5 u6 : Option am_V) : ∃ h' w5 w6, am_E (am_D (d + 5)) m_17_177 (.inl 2) [some (am_r (am_a 254)), u1, some (am_i (c : Int)), some (am_i (b : Int)), some (am_i ((oT chs c + p : Nat) : Int)), u5, u6] [] (zS L, h) = am_E (am_D (d + 5)) m_17_177 (.inl 2) [some (am_r (am_a 254)), u1, some (am_i (c : Int)), some (am_i (b : Int)), some (am_i ((oT chs c + (p + 1) : Nat) : Int)), w5, w6] [] (zS L, h') ∧ nIx K V chs ch b n g s h0 (p + 1) h' := by
  obtain ⟨⟨c1, c2, c3⟩, OF, KF, F5, F6, FG, FS, FR⟩ := I
  have hcl := (List.getElem?_eq_some_iff.1 hc).1
  have hcm := List.mem_of_getElem? hc
  have Q1 := Q0.b FR
  have I1 := I0.b FR
  have l16 := Q1.2.1.2
  obtain ⟨q, hqe⟩ : ∃ q, q = ch.2.2.2.1[p] := ⟨_, rfl⟩
  have hqp : ch.2.2.2.1[p]? = some q := by rw [hqe]; exact List.getElem?_eq_getElem hp
  have hqm := List.mem_of_getElem? hqp
  obtain ⟨k, hk⟩ : ∃ k, kOf V chs (V q.1) = some k := by
    cases e : kOf V chs (V q.1) with
    | none => exact absurd e (Y.2.1 ch hcm q hqm).2
    | some k => exact ⟨k, rfl⟩
  have hkl := kOf_rg hk
  have lks := LK ch hcm q hqm k hk
  have lks' : ∀ l ∈ q.2, lkP K V chs k ch l ∧ 0 ≤ l.2.1.2.1 ∧ 0 ≤ l.2.2.2.1.2.1 := fun l hl => ⟨(lks l hl).1, (lks l hl).2.1.1, (lks l hl).2.2.1⟩
  have hin' := Nat.le_of_lt (hin ch hcm)
  obtain ⟨n1, n2, n3, -⟩ := mO_n (K := K) hqp hk
  obtain ⟨m1, m2, m3, -⟩ := mO_mono (K := K) (V := V) (chs := chs) ch (show p + 1 ≤ ch.2.2.2.1.length by omega)
  obtain ⟨-, o2, -, -⟩ := owk_tot (K := K) Y.1 hin hkl
  have ib := (pbt_tot (K := K) Y.1 hkl hin).2.1
  have ot := oT_n hc
  have otl : oT chs (c + 1) ≤ (aT chs).length := flat_le _ chs (c + 1)
  have b2 := Q1.2.2.1.2.1
  have e9 : h 349 (oT chs c + p) = (k : Int) := by rw [(I1 c ch hcl hc).2 p q hqp, hk]; rfl
  have sb : 2 ≤ k → s + mC V chs ch p < 20000 := fun z => by
    have : c1k k = 1 := by unfold c1k; rw [if_neg (by omega)]
    omega
  have NPx := mb_np (d := d) (L := L) Y hin Q1 I1 hkl (show n + mOx K V chs ch p + owk K V chs k ≤ 40000 by omega) (show g + mGx V chs ch p + g1k k ≤ 1500 by omega) sb c1 c2 c3
  obtain ⟨h1, r1, ⟨a1, a2, a3⟩, a5, a6, aG, aC, aH, aS, f1⟩ := NPx
  have Q2 := Q1.b f1
  have I2 := I1.b f1
  obtain ⟨h2, w6, r2, e5, f2⟩ := mb_lks (d := d) (L := L) E G T Y LK hc hin' hqp hk (pb := n + mOx K V chs ch p) (ob := b) (by omega) (by omega) u1 q.2 0 (h := h1) rfl Q2 I2
  rw [q_17_177_2, p_w (by omega) (by omega), p_idx (by omega) (by omega), show ((c : Int) + 1).toNat = c + 1 by omega, (Q1.2.2.2.2.1 (c + 1) (by omega)).2.1, if_pos (by omega), p_idx (by omega) (by omega), Int.toNat_natCast, e9, r1, p_xI, p_idx (by omega) (by omega), Int.toNat_natCast, Q2.2.2.2.2.2.2.1 _ (by omega), show (oLx chs (oT chs c + p) : Int) = ((oLx chs (oT chs c + p) + 0 : Nat) : Int) from rfl, r2]
  refine ⟨h2, _, w6, rfl, ?_⟩
  have FT : p_fr mbC mbF h0 h2 := (FR.trans f1).trans (f2.mono rfl rfl)
  obtain ⟨A, B, C⟩ := lnks_at (K := K) (V := V) (chs := chs) (ch := ch) (z := -1) (o := -2) (pb := n + mOx K V chs ch p) (ob := b) (k := k) (m := owk K V chs k) (S0 := h1 355) hin' o2 (Or.inr (by omega)) q.2 (S := h1 355) (F := fun _ => none) (G := fun _ => none) lks' (fun x _ => rfl) (fun x _ => rfl) (fun x _ _ => rfl)
  rw [← e5] at A B C
  have g0 : ∀ x, x < owk K V chs k → h1 355 (n + mOx K V chs ch p + x) = -1 := fun x hx => by rw [a5]; unfold fill; rw [if_pos (by omega)]
  have gl : ∀ x, x < n + mOx K V chs ch p → h1 355 x = h 355 x := fun x hx => by rw [a5]; unfold fill; rw [if_neg (by omega)]
  have t1 : ch.2.2.2.1.take (p + 1) = ch.2.2.2.1.take p ++ [q] := by rw [List.take_succ_eq_append_getElem hp, hqe]
  have tl : (ch.2.2.2.1.take p).length = p := by rw [List.length_take]; omega
  have fin5 : ∀ x, x < n + mOx K V chs ch p → (x < b ∨ b + ownx K V chs ch ≤ x) → h2 355 x = h 355 x := fun x hx hx2 => by rw [C x (Or.inl hx) hx2]; exact gl x hx
  have c56 := f2.cell 356 rfl rfl
  have c57 := f2.cell 357 rfl rfl
  have c58 := f2.cell 358 rfl rfl
  have c64 := f2.cell 364 rfl rfl
  have c65 := f2.cell 365 rfl rfl
  refine ⟨⟨by rw [f2 254 158 rfl rfl, a1, n1]; omega, by rw [f2 254 161 rfl rfl, a2, n2]; omega, by rw [f2 254 170 rfl rfl, a3, n3]; omega⟩, fun x hx => ?_, fun p' q' k' hp' hq' hk' => ?_, fun x hx hx2 => by rw [fin5 x (by omega) hx2]; exact F5 x hx hx2, fun x hx => by rw [c56, a6 x (by omega)]; exact F6 x hx, fun x hx => by rw [c57, c58, (aH x (by omega)).1, (aH x (by omega)).2]; exact FG x hx, fun x hx => by rw [c64, c65, (aS x (by omega)).1, (aS x (by omega)).2]; exact FS x hx, FT⟩
  · rw [B x hx, t1, finO_app, tl, Nat.zero_add]
    show _ = match (match kOf V chs (V q.1) with
      | some k => (match fOl K V chs k ch q.2 (fun _ => none) x with | some y => some (p, y) | none => finO K V chs ch (ch.2.2.2.1.take p) 0 (fun _ => none) x)
      | none => finO K V chs ch (ch.2.2.2.1.take p) 0 (fun _ => none) x) with | some (p', y) => ((n + mOx K V chs ch p' + y : Nat) : Int) | none => h0 355 (b + x)
    rw [hk]
    show _ = match (match fOl K V chs k ch q.2 (fun _ => none) x with | some y => some (p, y) | none => finO K V chs ch (ch.2.2.2.1.take p) 0 (fun _ => none) x) with | some (p', y) => ((n + mOx K V chs ch p' + y : Nat) : Int) | none => h0 355 (b + x)
    cases fOl K V chs k ch q.2 (fun _ => none) x with
    | some y => rfl
    | none => show h1 355 (b + x) = _; rw [gl _ (by omega)]; exact OF x hx
  · by_cases pe : p' = p
    · subst pe
      rw [hqp] at hq'
      injection hq' with hq'
      subst hq'
      rw [hk] at hk'
      injection hk' with hk'
      subst hk'
      refine ⟨fun x hx => ?_, fun k2 => ?_, fun k2 => ⟨fun x hx1 hx2 => ?_, ?_⟩⟩
      · rw [A x (by omega)]
        show _ = match fPl K V chs k ch q.2 (fun _ => none) x with | some v => encv (-1) (-2) b v | none => -1
        cases fPl K V chs k ch q.2 (fun _ => none) x with
        | some v => rfl
        | none => exact g0 x (by omega)
      · rw [c56, c57, c58]; exact aG k2
      · rw [A x hx2, fPl_none q.2 lks' hx1 rfl]; exact g0 x hx2
      · rw [c56, c64, c65]; exact aC k2
    · have hpl : p' < p := by omega
      obtain ⟨d1, d2, d3⟩ := KF p' q' k' hpl hq' hk'
      have hkl' := kOf_rg hk'
      obtain ⟨n1', n2', n3', -⟩ := mO_n (K := K) hq' hk'
      obtain ⟨m1', m2', m3', -⟩ := mO_mono (K := K) (V := V) (chs := chs) ch (show p' + 1 ≤ p by omega)
      obtain ⟨-, o2', -, -⟩ := owk_tot (K := K) Y.1 hin hkl'
      have ib' := (pbt_tot (K := K) Y.1 hkl' hin).2.1
      refine ⟨fun x hx => by rw [fin5 _ (by omega) (Or.inr (by omega))]; exact d1 x hx, fun k2 => ?_, fun k2 => ⟨fun x hx1 hx2 => by rw [fin5 _ (by omega) (Or.inr (by omega))]; exact (d3 k2).1 x hx1 hx2, fun x hx => by rw [c56, a6 _ (by omega)]; exact (d3 k2).2.1 x hx, ?_⟩⟩
      · obtain ⟨y1, y2, y3, y4⟩ := d2 k2
        have g1 : g1k k' = 1 := by unfold g1k; rw [if_pos k2]
        rw [c56, c57, c58]
        refine ⟨by rw [a6 _ (by omega)]; exact y1, fun x hx => by rw [a6 _ (by omega)]; exact y2 x hx, by rw [(aH _ (by omega)).1]; exact y3, by rw [(aH _ (by omega)).2]; exact y4⟩
      · have g1 : c1k k' = 1 := by unfold c1k; rw [if_neg (by omega)]
        rw [c64, c65, (aS _ (by omega)).1, (aS _ (by omega)).2]
        exact (d3 k2).2.2
theorem mb_prts (E : kEx K V Z) (G : mWd K V W Z) (T : ∀ ch ∈ chs, cht K V Z ch) (Y : kY K V Z chs) (LK : kL K V chs) (hin : ∀ ch ∈ chs, ch.2.2.1 < ch.2.1.length) (hc : chs[c]? = some ch) {b n g s : Nat} (hbn : b + ownx K V chs ch ≤ n) (hn : n + mOx K V chs ch ch.2.2.2.1.length ≤ 40000) (hg : g + mGx V chs ch ch.2.2.2.1.length ≤ 1500) (hs : s + mC V chs ch ch.2.2.2.1.length ≤ 20000) {h0 : am_H} (Q0 : mQ K V P W Z chs h0) (I0 : mI K V chs chs.length h0) (u1 : Option am_V) : ∀ (m p : Nat) {h : am_H} (u5 u6 : Option am_V), p + m = ch.2.2.2.1.length → nIx K V chs ch b n g s h0 p h → ∃ h' w2 w3 w4 w5 w6, am_E (am_D (d + 5)) m_17_177 (.inl 2) [some (am_r (am_a 254)), u1, some (am_i (c : Int)), some (am_i (b : Int)), some (am_i ((oT chs c + p : Nat) : Int)), u5, u6] [] (zS L, h) = am_E (am_D (d + 5)) m_17_177 (.inl 1) [some (am_r (am_a 254)), u1, w2, w3, w4, w5, w6] [] (zS L, h') ∧ nIx K V chs ch b n g s h0 ch.2.2.2.1.length h'
  | 0, p, h, u5, u6, hm, I => by
    have Q1 := Q0.b I.2.2.2.2.2.2.2
    have hcl := (List.getElem?_eq_some_iff.1 hc).1
    have l16 := Q1.2.1.2
    have ot := oT_n hc
    rw [q_17_177_2, p_w (by omega) (by omega), p_idx (by omega) (by omega), show ((c : Int) + 1).toNat = c + 1 by omega, (Q1.2.2.2.2.1 (c + 1) (by omega)).2.1, if_neg (by omega)]
    exact ⟨h, _, _, _, _, _, rfl, by rw [show ch.2.2.2.1.length = p by omega]; exact I⟩
  | m + 1, p, h, u5, u6, hm, I => by
    obtain ⟨h1, w5, w6, r1, I1⟩ := mb_prt (d := d) (L := L) E G T Y LK hin hc hbn hn hg hs Q0 I0 (show p < ch.2.2.2.1.length by omega) I u1 u5 u6
    rw [r1]
    exact mb_prts E G T Y LK hin hc hbn hn hg hs Q0 I0 u1 m (p + 1) w5 w6 (by omega) I1
end
