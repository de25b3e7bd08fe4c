/-! CHIPS, 49: the board: the model's layout; links of a part -/
def g1k (k : Nat) : Nat := if k < 2 then 1 else 0
def c1k (k : Nat) : Nat := if k < 2 then 0 else 1
section
variable (K V : Nat → Int) (chs : List cCh)
/-- a sum over parts -/
def psm (f : Nat → Nat) : List (Nat × List cLk) → Nat
  | [] => 0
  | q :: qs => (match kOf V chs (V q.1) with | some k => f k | none => 0) + psm f qs
/-- bits of a part's ownx, of all that is within it; gates within -/
def owk (k : Nat) : Nat := if k < 2 then pbt V chs k else match chs[k - 2]? with | some ch => ownx K V chs ch | none => 0
def rsk (k : Nat) : Nat := tot K V chs k - owk K V chs k
def gck (k : Nat) : Nat := if k < 2 then 0 else gAll V chs (k - 2)
/-- places of parts, gates, waiting chips; of what is within a part: later parts come first -/
def mOx (ch : cCh) (p : Nat) : Nat := psm V chs (owk K V chs) (ch.2.2.2.1.take p)
def mGx (ch : cCh) (p : Nat) : Nat := psm V chs g1k (ch.2.2.2.1.take p)
def mC (ch : cCh) (p : Nat) : Nat := psm V chs c1k (ch.2.2.2.1.take p)
def mD (ch : cCh) (p : Nat) : Nat := mOx K V chs ch ch.2.2.2.1.length + psm V chs (rsk K V chs) (ch.2.2.2.1.drop p)
def mH (ch : cCh) (p : Nat) : Nat := mGx V chs ch ch.2.2.2.1.length + psm V chs (gck V chs) (ch.2.2.2.1.drop p)
def ownM (b n : Nat) (ch : cCh) (F : Nat → Int) : Prop := ∀ x, inb V ch ≤ x → x < ownx K V chs ch → F (b + x) = match finO K V chs ch ch.2.2.2.1 0 (fun _ => none) x with
  | some (p, y) => ((n + mOx K V chs ch p + y : Nat) : Int)
  | none => -1
def prtM (pb b k : Nat) (ch : cCh) (q : Nat × List cLk) (F : Nat → Int) : Prop := ∀ x, x < ibt V chs k → F (pb + x) = match finP K V chs k ch q x with
  | some v => encv (-1) (-2) b v
  | none => -1
def gatM (pb g k : Nat) (G Q I : Nat → Int) : Prop := G (pb + ibt V chs k) = ((g + 1 : Nat) : Int) ∧ (∀ x, x < ibt V chs k → G (pb + x) = 0) ∧ Q g = (if k = 1 then 1 else 0) ∧ I g = (pb : Int)
def MN (F G Q I : Nat → Int) : Nat → Nat → Nat → Nat → Nat → Prop
  | 0, _, _, _, _ => True
  | m + 1, c, b, n, g => ∀ ch, chs[c]? = some ch → ownM K V chs b n ch F ∧ (∀ x, x < ownx K V chs ch → G (b + x) = 0) ∧ ∀ p q k, ch.2.2.2.1[p]? = some q → kOf V chs (V q.1) = some k → prtM K V chs (n + mOx K V chs ch p) b k ch q F ∧ (k < 2 → gatM V chs (n + mOx K V chs ch p) (g + mGx V chs ch p) k G Q I) ∧ (2 ≤ k → MN F G Q I m (k - 2) (n + mOx K V chs ch p) (n + mD K V chs ch (p + 1)) (g + mH V chs ch (p + 1)))
end
section
variable {d L : Nat} {K V P : Nat → Int} {W : Nat → List Int} {Z c k : Nat} {chs : List cCh} {ch : cCh} {h h' : am_H}
theorem psm_app (f : Nat → Nat) : ∀ (a b : List (Nat × List cLk)), psm V chs f (a ++ b) = psm V chs f a + psm V chs f b
  | [], b => by rw [List.nil_append]; show _ = 0 + _; omega
  | q :: a, b => by
    show _ + psm V chs f (a ++ b) = _ + psm V chs f a + _
    rw [psm_app f a b, Nat.add_assoc]
theorem psm_t (f : Nat → Nat) {ps : List (Nat × List cLk)} {p : Nat} {q : Nat × List cLk} (hp : ps[p]? = some q) (hk : kOf V chs (V q.1) = some k) : psm V chs f (ps.take (p + 1)) = psm V chs f (ps.take p) + f k ∧ psm V chs f (ps.drop p) = f k + psm V chs f (ps.drop (p + 1)) := by
  obtain ⟨h1, h2⟩ := List.getElem?_eq_some_iff.1 hp
  rw [List.take_succ_eq_append_getElem h1, psm_app, h2, List.drop_eq_getElem_cons h1, h2]
  constructor
  · show _ + ((match kOf V chs (V q.1) with | some k => f k | none => 0) + 0) = _
    rw [hk]; rfl
  · show (match kOf V chs (V q.1) with | some k => f k | none => 0) + _ = _
    rw [hk]
theorem psm_td (f : Nat → Nat) (ps : List (Nat × List cLk)) (p : Nat) : psm V chs f (ps.take p) + psm V chs f (ps.drop p) = psm V chs f ps := by rw [← psm_app, List.take_append_drop]
theorem psm_le (f : Nat → Nat) (ps : List (Nat × List cLk)) (p : Nat) : psm V chs f (ps.take p) ≤ psm V chs f ps := by have := psm_td (V := V) (chs := chs) f ps p; omega
theorem psm_cg {f g : Nat → Nat} : ∀ (ps : List (Nat × List cLk)), (∀ q ∈ ps, ∀ k, kOf V chs (V q.1) = some k → f k = g k) → psm V chs f ps = psm V chs g ps
  | [], _ => rfl
  | q :: ps, H => by
    have ih := psm_cg ps (fun q' h' => H q' (List.mem_cons_of_mem _ h'))
    have e : (match kOf V chs (V q.1) with | some k => f k | none => 0) = (match kOf V chs (V q.1) with | some k => g k | none => 0) := by
      cases hk : kOf V chs (V q.1) with
      | none => rfl
      | some k => exact H q (List.mem_cons_self ..) k hk
    show (match kOf V chs (V q.1) with | some k => f k | none => 0) + psm V chs f ps = _
    rw [e, ih]; rfl
theorem psm_add (f g : Nat → Nat) : ∀ (ps : List (Nat × List cLk)), psm V chs (fun k => f k + g k) ps = psm V chs f ps + psm V chs g ps
  | [] => rfl
  | q :: ps => by
    have ih := psm_add f g ps
    show (match kOf V chs (V q.1) with | some k => f k + g k | none => 0) + psm V chs (fun k => f k + g k) ps = ((match kOf V chs (V q.1) with | some k => f k | none => 0) + psm V chs f ps) + ((match kOf V chs (V q.1) with | some k => g k | none => 0) + psm V chs g ps)
    rw [ih]
    cases kOf V chs (V q.1) with
    | none => dsimp only; omega
    | some k => show f k + g k + (psm V chs f ps + psm V chs g ps) = (f k + psm V chs f ps) + (g k + psm V chs g ps); exact Nat.add_add_add_comm _ _ _ _
theorem bsm_p : ∀ (ps : List (Nat × List cLk)), (∀ q ∈ ps, kOf V chs (V q.1) ≠ none) → bsm V chs (bAll K V chs) ps = psm V chs (tot K V chs) ps ∧ gsm V chs (gAll V chs) ps = psm V chs (gts V chs) ps
  | [], _ => ⟨rfl, rfl⟩
  | q :: ps, H => by
    obtain ⟨i1, i2⟩ := bsm_p ps (fun q' h' => H q' (List.mem_cons_of_mem _ h'))
    cases hk : kOf V chs (V q.1) with
    | none => exact absurd hk (H q (List.mem_cons_self ..))
    | some k =>
      constructor
      · show (match kOf V chs (V q.1) with | some k => if k = 0 then 3 else if k = 1 then 2 else bAll K V chs (k - 2) | none => 2) + bsm V chs (bAll K V chs) ps = (match kOf V chs (V q.1) with | some k => tot K V chs k | none => 0) + psm V chs (tot K V chs) ps
        rw [hk, i1]; rfl
      · show (match kOf V chs (V q.1) with | some k => if k < 2 then 1 else gAll V chs (k - 2) | none => 1) + gsm V chs (gAll V chs) ps = (match kOf V chs (V q.1) with | some k => gts V chs k | none => 0) + psm V chs (gts V chs) ps
        rw [hk, i2]; rfl
theorem owk_tot (R : ∀ c, c < chs.length → ¬ rch V chs c c) (hin : ∀ ch ∈ chs, ch.2.2.1 < ch.2.1.length) (hk : k < 2 + chs.length) : owk K V chs k + rsk K V chs k = tot K V chs k ∧ pbt V chs k ≤ owk K V chs k ∧ (k < 2 → owk K V chs k = pbt V chs k ∧ tot K V chs k = pbt V chs k) ∧ (2 ≤ k → ∃ ch, chs[k - 2]? = some ch ∧ owk K V chs k = ownx K V chs ch ∧ tot K V chs k = bAll K V chs (k - 2) ∧ ibt V chs k = inb V ch) := by
  obtain ⟨t1, t2, t3⟩ := pbt_tot (K := K) R hk hin
  by_cases k2 : k < 2
  · have e : owk K V chs k = pbt V chs k := by unfold owk; rw [if_pos k2]
    have e2 : tot K V chs k = pbt V chs k := by rcases (show k = 0 ∨ k = 1 by omega) with rfl | rfl <;> rfl
    refine ⟨by unfold rsk; omega, by omega, fun _ => ⟨e, e2⟩, fun z => by omega⟩
  · obtain ⟨ck, e1, e2, e3, e4⟩ := t3 (by omega)
    have e : owk K V chs k = ownx K V chs ck := by unfold owk; rw [if_neg k2, e1]
    have tt : tot K V chs k = bAll K V chs (k - 2) := by unfold tot; rw [if_neg (by omega), if_neg (by omega)]
    have o : wsm V ck.2.1 ≤ ownx K V chs ck := by unfold ownx; omega
    refine ⟨by unfold rsk; omega, by omega, fun z => by omega, fun _ => ⟨ck, e1, e, tt, e4⟩⟩
/-- all of a chip -/
theorem mO_end (R : ∀ c, c < chs.length → ¬ rch V chs c c) (hin : ∀ ch ∈ chs, ch.2.2.1 < ch.2.1.length) (hc : chs[c]? = some ch) (hn : ∀ q ∈ ch.2.2.2.1, kOf V chs (V q.1) ≠ none) : ownx K V chs ch + mD K V chs ch 0 = bAll K V chs c ∧ mH V chs ch 0 = gAll V chs c := by
  obtain ⟨b1, b2⟩ := bsm_p (K := K) ch.2.2.2.1 hn
  unfold mD mH mOx mGx
  rw [List.take_of_length_le (Nat.le_refl _), List.drop_zero, ← psm_add, ← psm_add, bAll_eq R hc, gAll_eq R hc, b1, b2]
  constructor
  · congr 1
    exact psm_cg _ (fun q _ k hk => (owk_tot R hin (kOf_rg hk)).1)
  · refine psm_cg _ (fun q _ k hk => ?_)
    show g1k k + gck V chs k = gts V chs k
    unfold g1k gck gts
    by_cases z : k < 2
    · rw [if_pos z, if_pos z, if_pos z]
    · rw [if_neg z, if_neg z, if_neg z]; omega
theorem mO_n {p : Nat} {q : Nat × List cLk} (hp : ch.2.2.2.1[p]? = some q) (hk : kOf V chs (V q.1) = some k) : mOx K V chs ch (p + 1) = mOx K V chs ch p + owk K V chs k ∧ mGx V chs ch (p + 1) = mGx V chs ch p + g1k k ∧ mC V chs ch (p + 1) = mC V chs ch p + c1k k ∧ mD K V chs ch p = mD K V chs ch (p + 1) + rsk K V chs k ∧ mH V chs ch p = mH V chs ch (p + 1) + gck V chs k := by
  refine ⟨(psm_t _ hp hk).1, (psm_t _ hp hk).1, (psm_t _ hp hk).1, ?_, ?_⟩
  · unfold mD; rw [(psm_t _ hp hk).2]; omega
  · unfold mH; rw [(psm_t _ hp hk).2]; omega
theorem psm_mono (f : Nat → Nat) (ps : List (Nat × List cLk)) {a b : Nat} (hab : a ≤ b) : psm V chs f (ps.take a) ≤ psm V chs f (ps.take b) ∧ psm V chs f (ps.drop b) ≤ psm V chs f (ps.drop a) := by
  have e : ps.take a = (ps.take b).take a := by rw [List.take_take, Nat.min_eq_left hab]
  have h1 : psm V chs f (ps.take a) ≤ psm V chs f (ps.take b) := by rw [e]; exact psm_le f _ a
  have h2 := psm_td (V := V) (chs := chs) f ps a
  have h3 := psm_td (V := V) (chs := chs) f ps b
  omega
theorem mO_mono (ch : cCh) {a b : Nat} (hab : a ≤ b) : mOx K V chs ch a ≤ mOx K V chs ch b ∧ mGx V chs ch a ≤ mGx V chs ch b ∧ mC V chs ch a ≤ mC V chs ch b ∧ mD K V chs ch b ≤ mD K V chs ch a ∧ mH V chs ch b ≤ mH V chs ch a := by
  refine ⟨(psm_mono _ _ hab).1, (psm_mono _ _ hab).1, (psm_mono _ _ hab).1, ?_, ?_⟩
  · have := (psm_mono (V := V) (chs := chs) (rsk K V chs) ch.2.2.2.1 hab).2
    unfold mD; omega
  · have := (psm_mono (V := V) (chs := chs) (gck V chs) ch.2.2.2.1 hab).2
    unfold mH; omega
/-- the links of a part -/
theorem mb_lks (E : kEx K V Z) (G : mWd K V W Z) (T : ∀ ch ∈ chs, cht K V Z ch) (Y : kY K V Z chs) (LK : kL K V chs) (hc : chs[c]? = some ch) (hin : ch.2.2.1 ≤ ch.2.1.length) {p : Nat} {q : Nat × List cLk} (hp : ch.2.2.2.1[p]? = some q) (hk : kOf V chs (V q.1) = some k) {pb ob : Nat} (hpb : pb + pbt V chs k ≤ 40000) (hob : ob + ownx K V chs ch ≤ 40000) (u1 : Option am_V) : ∀ (ls : List cLk) (j : Nat) {h : am_H}, q.2.drop j = ls → mQ K V P W Z chs h → mI K V chs chs.length h → ∃ h' w6, am_E (am_D (d + 5)) m_17_177 (.inl 3) [some (am_r (am_a 254)), u1, some (am_i (c : Int)), some (am_i (ob : Int)), some (am_i ((oT chs c + p : Nat) : Int)), some (am_i (pb : Int)), some (am_i ((oLx chs (oT chs c + p) + j : Nat) : Int))] [] (zS L, h) = am_E (am_D (d + 5)) m_17_177 (.inl 2) [some (am_r (am_a 254)), u1, some (am_i (c : Int)), some (am_i (ob : Int)), some (am_i ((oT chs c + (p + 1) : Nat) : Int)), some (am_i (pb : Int)), w6] [] (zS L, h') ∧ h' 355 = lnks K V chs (-1) (-2) pb ob k ch ls (h 355) ∧ p_fr [355] [] h h'
  | [], j, h, hd, Q, I => by
    have hpl := (List.getElem?_eq_some_iff.1 hp).1
    have qa := aT_at hc hp
    have qal := (List.getElem?_eq_some_iff.1 qa).1
    have ln := oL_n qa
    have hl : q.2.length ≤ j := List.drop_eq_nil_iff.1 hd
    have b2 := Q.2.2.1.2.1
    rw [q_17_177_3, p_w (by omega) (by omega), p_idx (by omega) (by omega), show (((oT chs c + p : Nat) : Int) + 1).toNat = oT chs c + p + 1 by omega, Q.2.2.2.2.2.2.1 _ (by omega), if_neg (by omega), show ((oT chs c + p : Nat) : Int) + 1 = ((oT chs c + (p + 1) : Nat) : Int) by omega]
    exact ⟨h, _, rfl, rfl, p_fr.refl h⟩
  | l :: ls, j, h, hd, Q, I => by
    have hcm := List.mem_of_getElem? hc
    have hqm := List.mem_of_getElem? hp
    have hcl := (List.getElem?_eq_some_iff.1 hc).1
    have qa := aT_at hc hp
    have qal := (List.getElem?_eq_some_iff.1 qa).1
    have ln := oL_n qa
    have hjl : j < q.2.length := by
      rcases Nat.lt_or_ge j q.2.length with z | z
      · exact z
      · rw [List.drop_of_length_le z] at hd; cases hd
    have hlj : q.2[j]? = some l := by
      rw [List.drop_eq_getElem_cons hjl] at hd
      injection hd with a b
      rw [← a]; exact List.getElem?_eq_getElem hjl
    have hld : q.2.drop (j + 1) = ls := by
      rw [List.drop_eq_getElem_cons hjl] at hd
      injection hd
    have hlm := List.mem_of_getElem? hlj
    have b2 := Q.2.2.1.2.1
    have b3 := Q.2.2.1.2.2.1
    have olle : oLx chs (oT chs c + p + 1) ≤ (fll (aT chs)).length := by
      unfold oLx
      have := List.take_append_drop (oT chs c + p + 1) (aT chs)
      have e : (fll (aT chs)).length = (fll ((aT chs).take (oT chs c + p + 1))).length + (fll ((aT chs).drop (oT chs c + p + 1))).length := by
        rw [← List.length_append, ← fll_apps, this]
      omega
    have lks := LK ch hcm q hqm k hk l hlm
    have e9 : h 349 (oT chs c + p) = (k : Int) := by rw [(I c ch hcl hc).2 p q hp, hk]; rfl
    obtain ⟨h1, r1, e1, f1⟩ := mb_lnk (d := d) (L := L) E G T Y Q hc (I c ch hcl hc).1 hqm hlm (kOf_rg hk) lks.1 (gl := oLx chs (oT chs c + p) + j) (by omega) ((Q.2.2.2.2.2.2.2.1 _ q qa).2 j l hlj) hpb hob hin
    obtain ⟨h', w6, r2, e2, f2⟩ := mb_lks E G T Y LK hc hin hp hk hpb hob u1 ls (j + 1) (h := h1) hld (Q.b (fr355 f1)) (I.b (fr355 f1))
    rw [q_17_177_3, p_w (by omega) (by omega), p_idx (by omega) (by omega), show (((oT chs c + p : Nat) : Int) + 1).toNat = oT chs c + p + 1 by omega, Q.2.2.2.2.2.2.1 _ (by omega), if_pos (by omega), q_17_177_4, p_idx (by omega) (by omega), Int.toNat_natCast, e9, r1, p_xV, p_w (by omega) (by omega), show ((oLx chs (oT chs c + p) + j : Nat) : Int) + 1 = ((oLx chs (oT chs c + p) + (j + 1) : Nat) : Int) by omega, r2]
    exact ⟨h', w6, rfl, by rw [e2, e1]; rfl, f1.trans f2⟩
end
