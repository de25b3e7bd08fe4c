/-! CHIPS, 66: what is known when chips are read, and checked -/
section
variable {K V : Nat → Int} {Z : Nat} {chs : List cCh}
theorem c_chs_Z (T : cT K Z) {M : Nat} (hM : Z < M) : ∀ (m : Nat) {acc : List cCh} {i e : Nat} {w : List cCh}, c_chs K V M m acc i = .inr w → i ≤ Z → chsT K V acc 0 e → e ≤ i → ∃ e, chsT K V w 0 e ∧ e ≤ Z ∧ K Z = 0
  | 0, _, _, _, _, h, _, _, _ => by cases h
  | m + 1, acc, i, e, w, h, hi, H, he => by
    unfold c_chs at h
    split at h
    · cases h
    · rename_i u hu
      obtain ⟨e', he', H'⟩ := c_chp_T hu
      have H2 := chsT_app H (chT_mono H' he)
      have rg := c_chp_rg (V := V) (n := acc.length) T hi hM
      rw [hu] at rg
      dsimp only at rg
      by_cases c : K u.2 = 0
      · rw [if_pos c] at h
        cases h
        have uz : u.2 = Z := by
          rcases Nat.lt_or_ge u.2 Z with z | z
          · have := T.2.2.1 u.2 z; omega
          · omega
        exact ⟨e', H2, by omega, by rw [← uz]; exact c⟩
      · rw [if_neg c] at h
        exact c_chs_Z T hM m h rg.2 H2 he'
theorem ptsT_q : ∀ (ps : List (Nat × List cLk)) {i e : Nat}, ptsT K V ps i e → i ≤ e ∧ ∀ q ∈ ps, K q.1 = 2 ∧ ∃ j, lksT K V q.2 (q.1 + 2) j ∧ cSg K V 41 j ∧ q.1 + 2 ≤ j ∧ j < e
  | [], i, e, h => ⟨Nat.le_of_eq h, fun q hq => by cases hq⟩
  | q :: ps, i, e, ⟨h1, h2, h3, j, h4, h5, h6, h7⟩ => by
    obtain ⟨a1, a2⟩ := ptsT_q ps h7
    have l := lksT_le q.2 _ _ h4
    refine ⟨by omega, fun q' hq' => ?_⟩
    rcases List.mem_cons.1 hq' with z | z
    · subst z
      rw [h1]
      exact ⟨h2, j, h4, h5, l, by omega⟩
    · exact a2 q' z
theorem cht_all : ∀ (l : List cCh) {i e : Nat}, chsT K V l i e → e ≤ Z → ∀ ch ∈ l, cht K V Z ch
  | [], _, _, _, _, ch, hch => by cases hch
  | c :: l, i, e, ⟨x, y1, y2⟩, he, ch, hch => by
    have xl := chsT_len y2 (fun ps a b hp => ptsT_le ps a b hp lksT_le)
    rcases List.mem_cons.1 hch with z | z
    · subst z
      obtain ⟨h1, h2, h3, m, m', h4, h5, h6⟩ := y1
      obtain ⟨p1, p2⟩ := pinT_rg h4
      obtain ⟨q1, q2⟩ := ptsT_q _ h6
      refine ⟨⟨h2, by omega⟩, h3, fun p hp => ?_, fun q hq => ?_⟩
      · obtain ⟨a1, a2, a3, a4⟩ := p2 p hp
        refine ⟨by omega, a3, a4.imp id (fun z => ⟨z.1, z.2.1, z.2.2.1, by have := z.2.2.2; omega⟩)⟩
      · obtain ⟨b1, j, b2, b3, b4, b5⟩ := q2 q hq
        exact ⟨⟨by omega, b1⟩, j, b2, b3⟩
    · exact cht_all l y2 he ch z
theorem gv1_le {k : Nat} {ch : cCh} {l : cLk} {X : Nat → Int} (h0 : 0 ≤ l.2.1.2.1) (h : ∀ j, X j ≤ 16) : ∀ j, gv1 K V chs k ch l X j ≤ 16 := fun j => by
  unfold gv1
  split
  · exact h j
  · unfold p_set
    by_cases e : j = (rin V ch l).toNat
    · rw [if_pos e]
      by_cases r : rok l.2.1 (lwd V chs k l)
      · rw [if_pos r]
        have w := lwd_rg (V := V) (chs := chs) k l
        have lo : 0 ≤ rlo l.2.1 := by unfold rlo; split <;> omega
        unfold rok at r
        unfold rn
        omega
      · rw [if_neg r]; decide
    · rw [if_neg e]; exact h j
theorem gvl_le {k : Nat} {ch : cCh} : ∀ (ls : List cLk) {X : Nat → Int}, (∀ l ∈ ls, 0 ≤ l.2.1.2.1) → (∀ j, X j ≤ 16) → ∀ j, gvl K V chs k ch ls X j ≤ 16
  | [], X, _, h => h
  | l :: ls, X, h0, h => gvl_le ls (fun l' hl' => h0 l' (List.mem_cons_of_mem _ hl')) (gv1_le (h0 l (List.mem_cons_self ..)) h)
theorem gvs_le {ch : cCh} : ∀ (ps : List (Nat × List cLk)) {X : Nat → Int}, (∀ q ∈ ps, ∀ l ∈ q.2, 0 ≤ l.2.1.2.1) → (∀ j, X j ≤ 16) → ∀ j, gvs K V chs ch ps X j ≤ 16
  | [], X, _, h => h
  | q :: ps, X, h0, h => by
    show ∀ j, gvs K V chs ch ps (gvp K V chs ch q X) j ≤ 16
    refine gvs_le ps (fun q' hq' => h0 q' (List.mem_cons_of_mem _ hq')) (fun j => ?_)
    unfold gvp
    cases kOf V chs (V q.1) with
    | none => exact h j
    | some k => exact gvl_le q.2 (h0 q (List.mem_cons_self ..)) h j
/-- read: certificates -/
theorem ch_read (T : cT K Z) (hv : ∀ j, K j = 3 → 0 ≤ V j ∧ V j ≤ 99) {M m : Nat} (hM : Z < M) (h : c_chs K V M m [] 0 = .inr chs) : ∃ e, chsT K V chs 0 e ∧ e ≤ Z ∧ (1 ≤ chs.length ∧ chs.length ≤ 16) ∧ kEx K V Z ∧ (∀ ch ∈ chs, cht K V Z ch) ∧ ∀ ch ∈ chs, 1 ≤ ch.2.2.1 ∧ ch.2.2.1 < ch.2.1.length := by
  obtain ⟨e, e1, e2, e3⟩ := c_chs_Z T hM m h (Nat.zero_le _) (show chsT K V [] 0 0 from Nat.le_refl _) (Nat.le_refl _)
  obtain ⟨-, -, l1, l2⟩ := c_chs_T m h (show chsT K V [] 0 0 from Nat.le_refl _) (Nat.le_refl _) (Nat.zero_le _)
  have C := cht_all chs e1 e2
  refine ⟨e, e1, e2, ⟨l1, l2⟩, ⟨T, fun j hj => ?_, hv⟩, C, fun ch hch => (C ch hch).2.1.2.2.2.2.1⟩
  rcases Nat.lt_or_ge j Z with z | z
  · have := T.2.2.1 j z; omega
  · rw [show j = Z by omega, e3]; decide
/-- checked, and no chip in itself -/
theorem ch_ckd (E : kEx K V Z) (C : ∀ ch ∈ chs, cht K V Z ch) (l1 : 1 ≤ chs.length) (l2 : chs.length ≤ 16) (h : cksS K V chs chs 0 = none) (R : ∀ c, c < chs.length → ¬ rch V chs c c) : kY K V Z chs ∧ kL K V chs := by
  have lk : ∀ ch ∈ chs, ∀ q ∈ ch.2.2.2.1, ∀ l ∈ q.2, _ := fun ch hch q hq l hl => cht_lk E (C ch hch) hq hl
  refine ⟨⟨R, fun ch hch q hq => ⟨?_, ck_kd h ch hch q hq⟩, fun ch hch j => ?_, fun ch hch => ?_, l1, l2⟩, fun ch hch q hq k hk l hl => ?_⟩
  · have := ((C ch hch).2.2.2 q hq).1.1; omega
  · obtain ⟨c, hc⟩ := List.getElem?_of_mem hch
    exact ⟨ck_iw h hc j, gvs_le ch.2.2.2.1 (fun q hq l hl => (lk ch hch q hq l hl).2.2.2.2.2.2.1.1) (fun _ => by decide) j⟩
  · have := (C ch hch).2.1
    exact ⟨this.2.2.2.1, this.2.2.1⟩
  · obtain ⟨c, hc⟩ := List.getElem?_of_mem hch
    obtain ⟨-, -, -, -, -, -, n1, n2⟩ := lk ch hch q hq l hl
    exact ⟨ck_lk h hc (C ch hch).2.1 (fun q hq l hl => (lk ch hch q hq l hl).2.2.2.2.2.1) hq hk hl, n1, n2⟩
end
