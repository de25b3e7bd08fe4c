/-! CONSTRUCTORS, 19: what the translator has of the system -/
def gckz (a b c d : List (Nat × Int)) : Bool :=
  ((List.range 229).all fun k => (Nat.beq k 4 || decide (alk b k < 0) || (decide (1630 ≤ alk b k) && decide (alk b k < 1645))) && decide (alk d k = 0) && (Nat.blt k 6 || decide ((if alk b k < 0 then alk a k else am_s16 ((shT (alk b k - 1630).toNat : Nat) : Int)) = shL.getD (k - 6) 0))) &&
  ([0, 1, 2, 3, 5].all fun k => decide (alk b k < 0)) && decide (alk b 4 = 1629) && decide (alk a 0 = 17000) && decide (alk a 1 = -5104) && decide (alk a 2 = 0) && decide (alk a 3 = -7416) && decide (alk a 5 = -5497) &&
  ((List.range 15).all fun k => decide (alk c (1630 + k) = ((shT k : Nat) : Int))) && (c.all fun e => decide (0 ≤ e.2) && decide (e.2 ≤ 32767)) && Nat.beq shL.length 223
def gckz0 : Bool := match koF koWG 13, koF koWG 14, koF koWG 15, koF koWG 16 with
  | some a, some b, some c, some d => gckz a b c d
  | _, _, _, _ => false
set_option maxRecDepth 100000 in
theorem gckz_ok : gckz0 = true := by decide +kernel
set_option maxRecDepth 100000 in
theorem g12_ok : koR koWG 12 3 = some 229 := by decide +kernel
theorem alk_rg {c : List (Nat × Int)} (h : (c.all fun e => decide (0 ≤ e.2) && decide (e.2 ≤ 32767)) = true) (k : Nat) : 0 ≤ alk c k ∧ alk c k ≤ 32767 := by
  induction c with
  | nil => exact ⟨Int.le_refl 0, show (0 : Int) ≤ 32767 by decide⟩
  | cons e c ih =>
    obtain ⟨j, v⟩ := e
    rw [List.all_cons, Bool.and_eq_true] at h
    show 0 ≤ (if k = j then v else alk c k) ∧ (if k = j then v else alk c k) ≤ 32767
    by_cases z : k = j
    · rw [if_pos z]
      have := h.1
      rw [Bool.and_eq_true] at this
      exact ⟨of_decide_eq_true this.1, of_decide_eq_true this.2⟩
    · rw [if_neg z]; exact ih h.2
section
variable {d L : Nat} {h h' h0 : am_H}
set_option maxRecDepth 100000 in
theorem sy_write (rows : ∀ (j : Nat) (l : vl), syVs[j]? = some l → h 9 j = (l.1 : Int) ∧ h 10 j = (l.2.1 : Int) ∧ h 11 j = (l.2.2 : Int)) (e8 : h 8 3 = 1572) (e12 : h 12 3 = 229) (eg : ∀ s, s < 49 → h 221 s + (if h 220 s = 3 then 1 else 0) = (gvS s : Int)) : ∃ h', am_D (d + 6) 14 29 [am_r (am_a 12), am_r (am_a 8), am_i 0, am_r (am_a 217), am_i 0] (zS L, h) = pV L h' ∧ h' 12 3 = 9623 ∧ UL h' gvS 0 (229, 0) syVs ∧ (∀ c k, c = 13 ∨ c = 14 ∨ c = 16 → k < 229 → h' c k = h c k) ∧ (∀ a, a ∉ tgts syVs → h' 15 a = h 15 a) ∧ (∀ j, j ≠ 3 → h' 12 j = h 12 j) ∧ ∀ c, c ≠ 12 → c ≠ 13 → c ≠ 14 → c ≠ 15 → c ≠ 16 → h' c = h c := by
  obtain ⟨h', r, a1, a2, a3, a4, a5, a6⟩ := t_loop (L := L) (d := d) (gv := gvS) (u2 := some (am_i 0)) (wd := 0) (by decide) syVs (q := (229, 0)) (k := 0) (u7 := none) (u8 := none) (u9 := none) (h := h) (by intro j l hj; rw [Nat.zero_add]; exact rows j l hj) (by rw [e8, sy_vsl.1]; rfl) (by rw [sy_vsl.1]; decide) sy_LGo (fun l hl h14 => eg _ ((sy_lg hl).2.2.2.2 h14)) e12 (Nat.zero_le _) (by rw [sy_vsl.2.1]; decide) sy_nd
  rw [sy_vsl.2.1] at a1
  refine ⟨h', ?_, a1, a2, a3, a4, a5, a6⟩
  rw [D_14_29]
  exact r
set_option maxRecDepth 100000 in
theorem sy_trs (eh : h = koH koWG h0) (U : UL h' gvS 0 (229, 0) syVs) (a3 : ∀ c k, c = 13 ∨ c = 14 ∨ c = 16 → k < 229 → h' c k = h c k) (a4 : ∀ a, a ∉ tgts syVs → h' 15 a = h 15 a) : TRS h' := by
  have ck := gckz_ok
  unfold gckz0 at ck
  split at ck
  · rename_i la lb lc ld e1 e2 e3 e4
    unfold gckz at ck
    simp only [Bool.and_eq_true] at ck
    obtain ⟨⟨⟨⟨⟨⟨⟨⟨⟨⟨k1, k2⟩, k3⟩, w0⟩, w1⟩, w2⟩, w3⟩, w5⟩, k4⟩, k5⟩, k6⟩ := ck
    have r13 : ∀ k, k < 229 → h' 13 k = alk la k := fun k hk => by rw [a3 13 k (by omega) hk, eh]; exact koF_ok e1 k
    have r14 : ∀ k, k < 229 → h' 14 k = alk lb k := fun k hk => by rw [a3 14 k (by omega) hk, eh]; exact koF_ok e2 k
    have r16 : ∀ k, k < 229 → h' 16 k = alk ld k := fun k hk => by rw [a3 16 k (by omega) hk, eh]; exact koF_ok e4 k
    have r15 : ∀ a, a ∉ tgts syVs → h' 15 a = alk lc a := fun a ha => by rw [a4 a ha, eh]; exact koF_ok e3 a
    have tg : ∀ x, x ∈ tgts syVs → x < 152 ∨ 1500 ≤ x ∧ x < 1549 := fun x hx => by
      have := List.all_eq_true.1 sy_tg x hx
      rw [Bool.or_eq_true, Bool.and_eq_true, Nat.blt_eq, Nat.blt_eq] at this
      exact this.imp id (fun z => ⟨Nat.le_of_ble_eq_true z.1, z.2⟩)
    have row : ∀ k, k < 229 → ((k = 4 ∨ alk lb k < 0) ∨ 1630 ≤ alk lb k ∧ alk lb k < 1645) ∧ alk ld k = 0 ∧ (k < 6 ∨ (if alk lb k < 0 then alk la k else am_s16 ((shT (alk lb k - 1630).toNat : Nat) : Int)) = shL.getD (k - 6) 0) := fun k hk => by
      have := List.all_eq_true.1 k1 k (List.mem_range.2 hk)
      simp only [Bool.and_eq_true, Bool.or_eq_true, decide_eq_true_eq, Nat.blt_eq] at this
      refine ⟨?_, this.1.2, this.2⟩
      rcases this.1.1 with (z | z) | z
      · exact Or.inl (Or.inl (Nat.eq_of_beq_eq_true z))
      · exact Or.inl (Or.inr z)
      · exact Or.inr z
    have neg : ∀ k, k < 6 → k ≠ 4 → alk lb k < 0 := fun k hk h4 => by
      refine of_decide_eq_true (List.all_eq_true.1 k2 k ?_)
      have : k = 0 ∨ k = 1 ∨ k = 2 ∨ k = 3 ∨ k = 5 := by omega
      rcases this with rfl | rfl | rfl | rfl | rfl <;> decide
    have T1 : ∀ a, 0 ≤ h' 15 a ∧ h' 15 a ≤ 32767 := fun a => by
      by_cases z : a ∈ tgts syVs
      · have := UL_tg U a z
        rw [sy_vsl.2.1] at this
        dsimp only at this
        omega
      · rw [r15 a z]; exact alk_rg k5 a
    have T2 : ∀ k, k < 15 → h' 15 (1630 + k) = (shT k : Int) := fun k hk => by
      rw [r15 _ (fun z => by have := tg _ z; omega)]
      exact of_decide_eq_true (List.all_eq_true.1 k4 k (List.mem_range.2 hk))
    have T3 : ∀ k, k < 9623 → k ≠ 4 → (h' 14 k < 0 ∨ (0 ≤ h' 14 k ∧ h' 14 k < 152) ∨ (1500 ≤ h' 14 k ∧ h' 14 k < 1549) ∨ (1630 ≤ h' 14 k ∧ h' 14 k < 1645)) := fun k hk h4 => by
      rcases Nat.lt_or_ge k 229 with z | z
      · rw [r14 k z]
        have := (row k z).1
        omega
      · have := UL_ltz (gv := gvS) (wd := 0) (fun l hl => ⟨fun q => (sy_lg hl).2.2.2.1 (by omega), (sy_lg hl).2.2.1⟩) sy_LGo U k z (by rw [sy_vsl.2.1]; exact hk)
        unfold rgS at this
        omega
    have SC : SYSC h' := fun g lab fs q1 q2 q3 => by
      obtain ⟨hS, ehS⟩ : ∃ hS : am_H, hS = fun c k => if c = 13 then sttl h' k else h' c k := ⟨_, rfl⟩
      obtain ⟨lab0, el⟩ : ∃ lab0 : Nat → Nat, lab0 = fun a => (h' 15 a).toNat := ⟨_, rfl⟩
      obtain ⟨fs0, ef⟩ : ∃ fs0 : Nat → Nat, fs0 = fun s => (h' 15 (1500 + s)).toNat := ⟨_, rfl⟩
      have TG0 : TG h' lab0 fs0 := by
        refine ⟨T2, fun a _ => ?_, fun s _ => ?_, fun a => ⟨?_, ?_⟩⟩
        · rw [el]; have := T1 a; dsimp only; omega
        · rw [ef]; have := T1 (1500 + s); dsimp only; omega
        · rw [el]; have := T1 a; dsimp only; omega
        · rw [ef]; have := T1 (1500 + a); dsimp only; omega
      have LUs := UL_LU TG0 (h' := hS) (N := 9623) (wd := 0) (by decide) (fun k _ => by rw [ehS]; rfl) (by rw [ehS]; rfl) (by decide) sy_LGo U (by rw [sy_vsl.2.1]; exact Nat.le_refl _)
      have A : ∀ k, 6 ≤ k → k < 9623 → g 13 k = hS 13 k ∧ g 16 k = hS 16 k := fun k h1 h2 => by
        obtain ⟨x1, x2⟩ := q1 k h1 h2
        rw [ehS]
        exact ⟨x1, x2⟩
      rw [sy_vs] at LUs
      have fin := sy_vsl.2.1
      rw [sy_vs] at fin
      have SS := LU_SYS (lab' := lab) (fs' := fs) A (fun a ha => by rw [el]; exact (q2 a ha).symm) (fun s hs => by rw [ef]; exact (q3 s hs).symm) 49 0 229 (by decide) (by decide) (fun l hl => by rw [sy_vs]; exact hl) LUs (by rw [fin]; exact Nat.le_refl _) (by decide)
      refine ⟨fun s q hq => ?_, fun j x hj => ?_⟩
      · have sl := (List.getElem?_eq_some_iff.1 hq).1
        rw [sy_vsl.2.2] at sl
        have gd : vtab.getD s (0, 0, [], 0) = q := by rw [List.getD_eq_getElem?_getD, hq]; rfl
        have := SS s (Nat.zero_le _) sl
        rw [gd] at this
        exact this
      · have jl := (List.getElem?_eq_some_iff.1 hj).1
        have ll := Nat.eq_of_beq_eq_true k6
        obtain ⟨x1, x2⟩ := q1 (6 + j) (by omega) (by omega)
        obtain ⟨y1, y2, y3⟩ := row (6 + j) (by omega)
        rcases y3 with y3 | y3
        · omega
        · rw [x1, x2, r16 _ (by omega), y2]
          refine ⟨?_, by omega, rfl⟩
          rw [show 6 + j - 6 = j by omega, List.getD_eq_getElem?_getD, hj] at y3
          have y3 : _ = x := y3
          rw [← y3]
          unfold sttl
          rw [r14 _ (by omega), r13 _ (by omega)]
          by_cases z : alk lb (6 + j) < 0
          · rw [if_pos z, if_pos z]
          · rw [if_neg z, if_neg z]
            have rg : 1630 ≤ alk lb (6 + j) ∧ alk lb (6 + j) < 1645 := by
              rcases y1 with (y | y) | y
              · omega
              · exact absurd y z
              · exact y
            have := T2 (alk lb (6 + j) - 1630).toNat (by omega)
            rw [show 1630 + (alk lb (6 + j) - 1630).toNat = (alk lb (6 + j)).toNat by omega] at this
            rw [this]
    refine ⟨T1, T2, T3, ?_, SC, ⟨?_, ?_, ?_, ?_, ?_⟩, fun k hk => ⟨?_, fun h4 => ?_⟩⟩
    · rw [r14 4 (by decide)]; exact of_decide_eq_true k3
    · rw [r13 0 (by decide)]; exact of_decide_eq_true w0
    · rw [r13 1 (by decide)]; exact of_decide_eq_true w1
    · rw [r13 2 (by decide)]; exact of_decide_eq_true w2
    · rw [r13 3 (by decide)]; exact of_decide_eq_true w3
    · rw [r13 5 (by decide)]; exact of_decide_eq_true w5
    · rw [r16 k (by omega)]; exact (row k (by omega)).2.1
    · rw [r14 k (by omega)]; exact neg k hk h4
  · cases ck
end
