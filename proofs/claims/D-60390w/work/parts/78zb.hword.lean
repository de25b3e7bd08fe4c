/-! HACK, 1: single words; the lemmas c_.. are printed by gen/hwords.py -/
abbrev hX : Type := Int × Int × Int × (Nat → Int)
/-- a heap with another memory of the processor -/
def rr (h : am_H) (r : Nat → Int) : am_H := fun b => if b = 18 then r else h b
theorem rr_18 (h : am_H) (r : Nat → Int) : rr h r 18 = r := if_pos rfl
theorem rr_n (h : am_H) (r : Nat → Int) {b : Nat} (hb : b ≠ 18) : rr h r b = h b := if_neg hb
theorem rr_id (h : am_H) : rr h (h 18) = h := by
  funext b; by_cases z : b = 18
  · rw [z, rr_18]
  · rw [rr_n _ _ z]
theorem rr_up (h : am_H) (r : Nat → Int) (k : Nat) (v : Int) : am_up (rr h r) 18 k v = rr h (p_set r k v) := by
  funext b; by_cases z : b = 18
  · rw [z, rr_18, p_up_f, rr_18]
  · rw [p_up_c _ _ _ _ _ z, rr_n _ _ z, rr_n _ _ z]
/-- where the processor stands: ahead of what is watched, behind it -/
def H3 (L n : Nat) (h : am_H) (x : hX) (o : Option am_O) : Prop := ∀ u1 u2 u6 u7 u8 u9 u10, am_E (am_D (n + 3)) m_10_7 (.inl 3) [some (am_r (am_a 17)), u1, u2, some (am_i x.1), some (am_i x.2.1), some (am_i x.2.2.1), u6, u7, u8, u9, u10] [] (zS L, rr h x.2.2.2) = o
def H4 (L n : Nat) (h : am_H) (x : hX) (o : Option am_O) : Prop := ∀ u1 u2 u6 u7 u8 u9 u10, am_E (am_D (n + 3)) m_10_7 (.inl 4) [some (am_r (am_a 17)), u1, u2, some (am_i x.1), some (am_i x.2.1), some (am_i x.2.2.1), u6, u7, u8, u9, u10] [] (zS L, rr h x.2.2.2) = o
def hrg (x : hX) : Prop := rg16 x.2.1 ∧ rg16 x.2.2.1 ∧ ∀ k, rg16 (x.2.2.2 k)
/-- words lead from one place to another -/
def Hq (L n : Nat) (h : am_H) (x y : hX) : Prop := hrg x → hrg y ∧ ∀ o, H3 L n h y o → H4 L n h x o
section
variable {L n : Nat} {h : am_H}
theorem h34 {p : Nat} {a d : Int} {r : Nat → Int} {o : Option am_O} (E : h 17 14 ≠ 0) (hp : p < 32768) (hm : h 16 p = 0) (H : H4 L n h ((p : Int), a, d, r) o) : H3 L n h ((p : Int), a, d, r) o := by
  intro u1 u2 u6 u7 u8 u9 u10
  dsimp only
  rw [q_10_7_3, rr_n _ _ (by decide), if_neg E, p_idx (by omega) (by omega), rr_n _ _ (by decide), Int.toNat_natCast, if_pos hm]
  exact H u1 u2 _ u7 u8 u9 u10
theorem Hq.then {x z : hX} {p : Nat} {a d : Int} {r : Nat → Int} (A : Hq L n h x ((p : Int), a, d, r)) (E : h 17 14 ≠ 0) (hp : p < 32768) (hm : h 16 p = 0) (B : Hq L n h ((p : Int), a, d, r) z) : Hq L n h x z := fun rx => by
  obtain ⟨ry, f⟩ := A rx
  obtain ⟨rz, g⟩ := B ry
  exact ⟨rz, fun o H => f o (h34 E hp hm (g o H))⟩
theorem hAw {p : Nat} {a d w : Int} {r : Nat → Int} (E : h 17 14 ≠ 0) (hp : p < 32768) (hw : h 13 p = w) (w0 : 0 ≤ w) (w1 : w ≤ 32767) : Hq L n h ((p : Int), a, d, r) ((p : Int) + 1, w, d, r) := by
  intro ⟨ra, rd, rr'⟩
  refine ⟨⟨⟨by show (-32768 : Int) ≤ w; omega, w1⟩, rd, rr'⟩, fun o H => ?_⟩
  intro u1 u2 u6 u7 u8 u9 u10
  dsimp only
  rw [q_10_7_4, p_idx (by omega) (by omega), rr_n _ _ (by decide), if_neg E, rr_n _ _ (by decide), Int.toNat_natCast, hw, if_neg (by omega), p_w (by omega) (by omega)]
  exact H u1 u2 _ _ u8 u9 u10
theorem hC {p : Nat} {a d w y v : Int} {r : Nat → Int} {o : Option am_O} (E : h 17 14 ≠ 0) (hp : p < 32768) (hw : h 13 p = w) (wn : w < 0) (hy : (if am_and w 4096 = 0 then a else r (am_and a 32767).toNat) = y) (hd : am_and w 4096 ≠ 0 ∨ am_and w 8 ≠ 0 → am_and a 32767 < 32000) (hv : v = pb_work (am_and (am_shr w 6) 63) d y)
    (H : H3 L n h (if pb_jmp w v then am_and a 32767 else (p : Int) + 1, if am_and w 32 = 0 then a else v, if am_and w 16 = 0 then d else v, if am_and w 8 = 0 then r else p_set r (am_and a 32767).toNat v) o) : H4 L n h ((p : Int), a, d, r) o := by
  intro u1 u2 u6 u7 u8 u9 u10
  dsimp only
  have a0 := p_and_nn a 32767 (by decide)
  have rv : rg16 v := by rw [hv]; exact pb_work_rg _ _ _
  -- the last part
  have fin : ∀ (u6 u7 u8 u9 : Option am_V) (r' : Nat → Int), H3 L n h (if pb_jmp w v then am_and a 32767 else (p : Int) + 1, if am_and w 32 = 0 then a else v, if am_and w 16 = 0 then d else v, r') o → am_E (am_D (n + 3)) m_10_7 (.inl 9) [some (am_r (am_a 17)), u1, u2, some (am_i ((p : Int) + 1)), some (am_i a), some (am_i d), u6, some (am_i w), u8, some (am_i v), u10] [] (zS L, rr h r') = o := by
    intro u6 u7 u8 u9 r' H
    have e11 : ∀ a' d', am_E (am_D (n + 3)) m_10_7 (.inl 11) [some (am_r (am_a 17)), u1, u2, some (am_i ((p : Int) + 1)), some (am_i a'), some (am_i d'), u6, some (am_i w), u8, some (am_i v), some (am_i a)] [] (zS L, rr h r') = am_E (am_D (n + 3)) m_10_7 (.inl 3) [some (am_r (am_a 17)), u1, u2, some (am_i (if pb_jmp w v then am_and a 32767 else (p : Int) + 1)), some (am_i a'), some (am_i d'), u6, some (am_i w), u8, some (am_i v), some (am_i a)] [] (zS L, rr h r') := by
      intro a' d'
      rw [q_10_7_11, pb_D_10_6, p_xI]
      by_cases c : pb_jmp w v
      · rw [pB_t ((pb_jmp_7 w v).2 c), if_neg (by decide), if_pos c]
      · rw [pB_f (fun z => c ((pb_jmp_7 w v).1 z)), if_pos rfl, if_neg c]
    have H := H u1 u2 u6 (some (am_i w)) u8 (some (am_i v)) (some (am_i a))
    dsimp only at H
    rw [q_10_7_9]
    by_cases c1 : am_and w 32 = 0
    · rw [if_pos c1] at H ⊢
      by_cases c2 : am_and w 16 = 0
      · rw [if_pos c2] at H ⊢; rw [e11]; exact H
      · rw [if_neg c2] at H ⊢; rw [e11]; exact H
    · rw [if_neg c1] at H ⊢
      by_cases c2 : am_and w 16 = 0
      · rw [if_pos c2] at H ⊢; rw [e11]; exact H
      · rw [if_neg c2] at H ⊢; rw [e11]; exact H
  have e8 : ∀ u6 u7 u8 u9 : Option am_V, am_E (am_D (n + 3)) m_10_7 (.inl 8) [some (am_r (am_a 17)), u1, u2, some (am_i ((p : Int) + 1)), some (am_i a), some (am_i d), u6, some (am_i w), u8, u9, u10] [am_i y] (zS L, rr h r) = o := by
    intro u6 u7 u8 u9
    rw [q_10_7_8, pb_D_10_5, ← hv, p_xI]
    by_cases c : am_and w 8 = 0
    · rw [if_pos c] at H ⊢; exact fin u6 none _ none r H
    · rw [if_neg c] at H ⊢
      have hk := hd (Or.inr c)
      rw [D_10_2, if_pos hk, p_idx a0.1 (by omega), p_s16_s16, s16_id rv, p_xV, rr_up]
      exact fin u6 none _ none _ H
  rw [q_10_7_4, p_idx (by omega) (by omega), rr_n _ _ (by decide), if_neg E, rr_n _ _ (by decide), Int.toNat_natCast, hw, if_pos wn, p_w (by omega) (by omega)]
  by_cases c : am_and w 4096 = 0
  · rw [if_pos c] at hy ⊢; subst hy; exact e8 u6 none u8 u9
  · rw [if_neg c] at hy ⊢
    have hk := hd (Or.inl c)
    rw [D_10_1, if_pos hk, p_idx a0.1 (by omega), rr_18, hy, p_xI]; exact e8 u6 none u8 u9
theorem ka (k : Nat) (hk : k < 32000) : am_and (k : Int) 32767 = (k : Int) := by rw [p_and32767]; omega
theorem ka2 (k : Nat) (hk : k < 32768) : am_and (k : Int) 32767 = (k : Int) := by rw [p_and32767]; omega
theorem c_DeA {a : Int} {p : Nat} {d : Int} {r : Nat → Int} (E : h 17 14 ≠ 0) (hp : p < 32768) (hw : h 13 p = -5104) : Hq L n h ((p : Int), a, d, r) ((p : Int) + 1, a, a, r) := by
  intro ⟨ra, rd, rr'⟩
  have ev : pb_work 48 d (a) = a := wk_y rd ra
  refine ⟨⟨ra, (by rw [← ev]; exact pb_work_rg _ _ _), rr'⟩, fun o H => ?_⟩
  refine hC (y := a) (v := a) E hp hw (by decide) (by rw [if_pos (by decide)]) (fun z => by rcases z with z | z <;> exact absurd (by decide) z) ?_ ?_
  · rw [show am_and (am_shr (-5104) 6) 63 = 48 by decide]; exact ev.symm
  · rw [if_neg (by intro z; rcases z with z | z | z <;> exact z.1 (by decide)), if_pos (show am_and (-5104) 32 = 0 by decide), if_neg (show ¬ am_and (-5104) 16 = 0 by decide), if_pos (show am_and (-5104) 8 = 0 by decide)]
    exact H
theorem c_DeM {k : Nat} {p : Nat} {d : Int} {r : Nat → Int} (E : h 17 14 ≠ 0) (hk : k < 32000) (hp : p < 32768) (hw : h 13 p = -1008) : Hq L n h ((p : Int), (k : Int), d, r) ((p : Int) + 1, (k : Int), r k, r) := by
  intro ⟨ra, rd, rr'⟩
  have ev : pb_work 48 d (r k) = r k := wk_y rd (rr' k)
  refine ⟨⟨ra, (by rw [← ev]; exact pb_work_rg _ _ _), rr'⟩, fun o H => ?_⟩
  refine hC (y := r k) (v := r k) E hp hw (by decide) (by rw [if_neg (by decide), ka k hk, Int.toNat_natCast]) (fun _ => by rw [ka k hk]; omega) ?_ ?_
  · rw [show am_and (am_shr (-1008) 6) 63 = 48 by decide]; exact ev.symm
  · rw [if_neg (by intro z; rcases z with z | z | z <;> exact z.1 (by decide)), if_pos (show am_and (-1008) 32 = 0 by decide), if_neg (show ¬ am_and (-1008) 16 = 0 by decide), if_pos (show am_and (-1008) 8 = 0 by decide)]
    exact H
theorem c_AeM {k : Nat} {p : Nat} {d : Int} {r : Nat → Int} (E : h 17 14 ≠ 0) (hk : k < 32000) (hp : p < 32768) (hw : h 13 p = -992) : Hq L n h ((p : Int), (k : Int), d, r) ((p : Int) + 1, r k, d, r) := by
  intro ⟨ra, rd, rr'⟩
  have ev : pb_work 48 d (r k) = r k := wk_y rd (rr' k)
  refine ⟨⟨(by rw [← ev]; exact pb_work_rg _ _ _), rd, rr'⟩, fun o H => ?_⟩
  refine hC (y := r k) (v := r k) E hp hw (by decide) (by rw [if_neg (by decide), ka k hk, Int.toNat_natCast]) (fun _ => by rw [ka k hk]; omega) ?_ ?_
  · rw [show am_and (am_shr (-992) 6) 63 = 48 by decide]; exact ev.symm
  · rw [if_neg (by intro z; rcases z with z | z | z <;> exact z.1 (by decide)), if_neg (show ¬ am_and (-992) 32 = 0 by decide), if_pos (show am_and (-992) 16 = 0 by decide), if_pos (show am_and (-992) 8 = 0 by decide)]
    exact H
theorem c_AMip {k : Nat} {p : Nat} {d : Int} {r : Nat → Int} (E : h 17 14 ≠ 0) (hk : k < 32000) (hp : p < 32768) (hw : h 13 p = -536) : Hq L n h ((p : Int), (k : Int), d, r) ((p : Int) + 1, am_s16 (r k + 1), d, p_set r k (am_s16 (r k + 1))) := by
  intro ⟨ra, rd, rr'⟩
  have ev : pb_work 55 d (r k) = am_s16 (r k + 1) := wk_y1 rd (rr' k)
  refine ⟨⟨(by rw [← ev]; exact pb_work_rg _ _ _), rd, (fun j => by
    dsimp only
    by_cases z : j = k
    · rw [z, p_set_s, ← ev]; exact pb_work_rg _ _ _
    · rw [p_set_n _ _ _ _ z]; exact rr' j)⟩, fun o H => ?_⟩
  refine hC (y := r k) (v := am_s16 (r k + 1)) E hp hw (by decide) (by rw [if_neg (by decide), ka k hk, Int.toNat_natCast]) (fun _ => by rw [ka k hk]; omega) ?_ ?_
  · rw [show am_and (am_shr (-536) 6) 63 = 55 by decide]; exact ev.symm
  · rw [if_neg (by intro z; rcases z with z | z | z <;> exact z.1 (by decide)), if_neg (show ¬ am_and (-536) 32 = 0 by decide), if_pos (show am_and (-536) 16 = 0 by decide), if_neg (show ¬ am_and (-536) 8 = 0 by decide)]
    rw [ka k hk, Int.toNat_natCast]; exact H
theorem c_AMim {k : Nat} {p : Nat} {d : Int} {r : Nat → Int} (E : h 17 14 ≠ 0) (hk : k < 32000) (hp : p < 32768) (hw : h 13 p = -856) : Hq L n h ((p : Int), (k : Int), d, r) ((p : Int) + 1, am_s16 (r k - 1), d, p_set r k (am_s16 (r k - 1))) := by
  intro ⟨ra, rd, rr'⟩
  have ev : pb_work 50 d (r k) = am_s16 (r k - 1) := wk_ym rd (rr' k)
  refine ⟨⟨(by rw [← ev]; exact pb_work_rg _ _ _), rd, (fun j => by
    dsimp only
    by_cases z : j = k
    · rw [z, p_set_s, ← ev]; exact pb_work_rg _ _ _
    · rw [p_set_n _ _ _ _ z]; exact rr' j)⟩, fun o H => ?_⟩
  refine hC (y := r k) (v := am_s16 (r k - 1)) E hp hw (by decide) (by rw [if_neg (by decide), ka k hk, Int.toNat_natCast]) (fun _ => by rw [ka k hk]; omega) ?_ ?_
  · rw [show am_and (am_shr (-856) 6) 63 = 50 by decide]; exact ev.symm
  · rw [if_neg (by intro z; rcases z with z | z | z <;> exact z.1 (by decide)), if_neg (show ¬ am_and (-856) 32 = 0 by decide), if_pos (show am_and (-856) 16 = 0 by decide), if_neg (show ¬ am_and (-856) 8 = 0 by decide)]
    rw [ka k hk, Int.toNat_natCast]; exact H
theorem c_Ad {a : Int} {p : Nat} {d : Int} {r : Nat → Int} (E : h 17 14 ≠ 0) (hp : p < 32768) (hw : h 13 p = -4960) : Hq L n h ((p : Int), a, d, r) ((p : Int) + 1, am_s16 (a - 1), d, r) := by
  intro ⟨ra, rd, rr'⟩
  have ev : pb_work 50 d (a) = am_s16 (a - 1) := wk_ym rd ra
  refine ⟨⟨(by rw [← ev]; exact pb_work_rg _ _ _), rd, rr'⟩, fun o H => ?_⟩
  refine hC (y := a) (v := am_s16 (a - 1)) E hp hw (by decide) (by rw [if_pos (by decide)]) (fun z => by rcases z with z | z <;> exact absurd (by decide) z) ?_ ?_
  · rw [show am_and (am_shr (-4960) 6) 63 = 50 by decide]; exact ev.symm
  · rw [if_neg (by intro z; rcases z with z | z | z <;> exact z.1 (by decide)), if_neg (show ¬ am_and (-4960) 32 = 0 by decide), if_pos (show am_and (-4960) 16 = 0 by decide), if_pos (show am_and (-4960) 8 = 0 by decide)]
    exact H
theorem c_MeD {k : Nat} {p : Nat} {d : Int} {r : Nat → Int} (E : h 17 14 ≠ 0) (hk : k < 32000) (hp : p < 32768) (hw : h 13 p = -7416) : Hq L n h ((p : Int), (k : Int), d, r) ((p : Int) + 1, (k : Int), d, p_set r k (d)) := by
  intro ⟨ra, rd, rr'⟩
  have ev : pb_work 12 d ((k : Int)) = d := wk_d rd ra
  refine ⟨⟨ra, rd, (fun j => by
    dsimp only
    by_cases z : j = k
    · rw [z, p_set_s, ← ev]; exact pb_work_rg _ _ _
    · rw [p_set_n _ _ _ _ z]; exact rr' j)⟩, fun o H => ?_⟩
  refine hC (y := (k : Int)) (v := d) E hp hw (by decide) (by rw [if_pos (by decide)]) (fun _ => by rw [ka k hk]; omega) ?_ ?_
  · rw [show am_and (am_shr (-7416) 6) 63 = 12 by decide]; exact ev.symm
  · rw [if_neg (by intro z; rcases z with z | z | z <;> exact z.1 (by decide)), if_pos (show am_and (-7416) 32 = 0 by decide), if_pos (show am_and (-7416) 16 = 0 by decide), if_neg (show ¬ am_and (-7416) 8 = 0 by decide)]
    rw [ka k hk, Int.toNat_natCast]; exact H
theorem c_AeMd {k : Nat} {p : Nat} {d : Int} {r : Nat → Int} (E : h 17 14 ≠ 0) (hk : k < 32000) (hp : p < 32768) (hw : h 13 p = -864) : Hq L n h ((p : Int), (k : Int), d, r) ((p : Int) + 1, am_s16 (r k - 1), d, r) := by
  intro ⟨ra, rd, rr'⟩
  have ev : pb_work 50 d (r k) = am_s16 (r k - 1) := wk_ym rd (rr' k)
  refine ⟨⟨(by rw [← ev]; exact pb_work_rg _ _ _), rd, rr'⟩, fun o H => ?_⟩
  refine hC (y := r k) (v := am_s16 (r k - 1)) E hp hw (by decide) (by rw [if_neg (by decide), ka k hk, Int.toNat_natCast]) (fun _ => by rw [ka k hk]; omega) ?_ ?_
  · rw [show am_and (am_shr (-864) 6) 63 = 50 by decide]; exact ev.symm
  · rw [if_neg (by intro z; rcases z with z | z | z <;> exact z.1 (by decide)), if_neg (show ¬ am_and (-864) 32 = 0 by decide), if_pos (show am_and (-864) 16 = 0 by decide), if_pos (show am_and (-864) 8 = 0 by decide)]
    exact H
theorem c_DmA {a : Int} {p : Nat} {d : Int} {r : Nat → Int} (E : h 17 14 ≠ 0) (hp : p < 32768) (hw : h 13 p = -6960) : Hq L n h ((p : Int), a, d, r) ((p : Int) + 1, a, am_s16 (d - a), r) := by
  intro ⟨ra, rd, rr'⟩
  have ev : pb_work 19 d (a) = am_s16 (d - a) := wk_sub rd ra
  refine ⟨⟨ra, (by rw [← ev]; exact pb_work_rg _ _ _), rr'⟩, fun o H => ?_⟩
  refine hC (y := a) (v := am_s16 (d - a)) E hp hw (by decide) (by rw [if_pos (by decide)]) (fun z => by rcases z with z | z <;> exact absurd (by decide) z) ?_ ?_
  · rw [show am_and (am_shr (-6960) 6) 63 = 19 by decide]; exact ev.symm
  · rw [if_neg (by intro z; rcases z with z | z | z <;> exact z.1 (by decide)), if_pos (show am_and (-6960) 32 = 0 by decide), if_neg (show ¬ am_and (-6960) 16 = 0 by decide), if_pos (show am_and (-6960) 8 = 0 by decide)]
    exact H
theorem c_AeDmA {a : Int} {p : Nat} {d : Int} {r : Nat → Int} (E : h 17 14 ≠ 0) (hp : p < 32768) (hw : h 13 p = -6944) : Hq L n h ((p : Int), a, d, r) ((p : Int) + 1, am_s16 (d - a), d, r) := by
  intro ⟨ra, rd, rr'⟩
  have ev : pb_work 19 d (a) = am_s16 (d - a) := wk_sub rd ra
  refine ⟨⟨(by rw [← ev]; exact pb_work_rg _ _ _), rd, rr'⟩, fun o H => ?_⟩
  refine hC (y := a) (v := am_s16 (d - a)) E hp hw (by decide) (by rw [if_pos (by decide)]) (fun z => by rcases z with z | z <;> exact absurd (by decide) z) ?_ ?_
  · rw [show am_and (am_shr (-6944) 6) 63 = 19 by decide]; exact ev.symm
  · rw [if_neg (by intro z; rcases z with z | z | z <;> exact z.1 (by decide)), if_neg (show ¬ am_and (-6944) 32 = 0 by decide), if_pos (show am_and (-6944) 16 = 0 by decide), if_pos (show am_and (-6944) 8 = 0 by decide)]
    exact H
theorem c_DmM {k : Nat} {p : Nat} {d : Int} {r : Nat → Int} (E : h 17 14 ≠ 0) (hk : k < 32000) (hp : p < 32768) (hw : h 13 p = -2864) : Hq L n h ((p : Int), (k : Int), d, r) ((p : Int) + 1, (k : Int), am_s16 (d - r k), r) := by
  intro ⟨ra, rd, rr'⟩
  have ev : pb_work 19 d (r k) = am_s16 (d - r k) := wk_sub rd (rr' k)
  refine ⟨⟨ra, (by rw [← ev]; exact pb_work_rg _ _ _), rr'⟩, fun o H => ?_⟩
  refine hC (y := r k) (v := am_s16 (d - r k)) E hp hw (by decide) (by rw [if_neg (by decide), ka k hk, Int.toNat_natCast]) (fun _ => by rw [ka k hk]; omega) ?_ ?_
  · rw [show am_and (am_shr (-2864) 6) 63 = 19 by decide]; exact ev.symm
  · rw [if_neg (by intro z; rcases z with z | z | z <;> exact z.1 (by decide)), if_pos (show am_and (-2864) 32 = 0 by decide), if_neg (show ¬ am_and (-2864) 16 = 0 by decide), if_pos (show am_and (-2864) 8 = 0 by decide)]
    exact H
theorem c_MeDp {k : Nat} {p : Nat} {d : Int} {r : Nat → Int} (E : h 17 14 ≠ 0) (hk : k < 32000) (hp : p < 32768) (hw : h 13 p = -6200) : Hq L n h ((p : Int), (k : Int), d, r) ((p : Int) + 1, (k : Int), d, p_set r k (am_s16 (d + 1))) := by
  intro ⟨ra, rd, rr'⟩
  have ev : pb_work 31 d ((k : Int)) = am_s16 (d + 1) := wk_d1 rd ra
  refine ⟨⟨ra, rd, (fun j => by
    dsimp only
    by_cases z : j = k
    · rw [z, p_set_s, ← ev]; exact pb_work_rg _ _ _
    · rw [p_set_n _ _ _ _ z]; exact rr' j)⟩, fun o H => ?_⟩
  refine hC (y := (k : Int)) (v := am_s16 (d + 1)) E hp hw (by decide) (by rw [if_pos (by decide)]) (fun _ => by rw [ka k hk]; omega) ?_ ?_
  · rw [show am_and (am_shr (-6200) 6) 63 = 31 by decide]; exact ev.symm
  · rw [if_neg (by intro z; rcases z with z | z | z <;> exact z.1 (by decide)), if_pos (show am_and (-6200) 32 = 0 by decide), if_pos (show am_and (-6200) 16 = 0 by decide), if_neg (show ¬ am_and (-6200) 8 = 0 by decide)]
    rw [ka k hk, Int.toNat_natCast]; exact H
theorem c_Mm1 {k : Nat} {p : Nat} {d : Int} {r : Nat → Int} (E : h 17 14 ≠ 0) (hk : k < 32000) (hp : p < 32768) (hw : h 13 p = -4472) : Hq L n h ((p : Int), (k : Int), d, r) ((p : Int) + 1, (k : Int), d, p_set r k (-1)) := by
  intro ⟨ra, rd, rr'⟩
  have ev : pb_work 58 d ((k : Int)) = -1 := wk_m1 rd ra
  refine ⟨⟨ra, rd, (fun j => by
    dsimp only
    by_cases z : j = k
    · rw [z, p_set_s, ← ev]; exact pb_work_rg _ _ _
    · rw [p_set_n _ _ _ _ z]; exact rr' j)⟩, fun o H => ?_⟩
  refine hC (y := (k : Int)) (v := -1) E hp hw (by decide) (by rw [if_pos (by decide)]) (fun _ => by rw [ka k hk]; omega) ?_ ?_
  · rw [show am_and (am_shr (-4472) 6) 63 = 58 by decide]; exact ev.symm
  · rw [if_neg (by intro z; rcases z with z | z | z <;> exact z.1 (by decide)), if_pos (show am_and (-4472) 32 = 0 by decide), if_pos (show am_and (-4472) 16 = 0 by decide), if_neg (show ¬ am_and (-4472) 8 = 0 by decide)]
    rw [ka k hk, Int.toNat_natCast]; exact H
theorem c_M0 {k : Nat} {p : Nat} {d : Int} {r : Nat → Int} (E : h 17 14 ≠ 0) (hk : k < 32000) (hp : p < 32768) (hw : h 13 p = -5496) : Hq L n h ((p : Int), (k : Int), d, r) ((p : Int) + 1, (k : Int), d, p_set r k (0)) := by
  intro ⟨ra, rd, rr'⟩
  have ev : pb_work 42 d ((k : Int)) = 0 := wk_0 rd ra
  refine ⟨⟨ra, rd, (fun j => by
    dsimp only
    by_cases z : j = k
    · rw [z, p_set_s, ← ev]; exact pb_work_rg _ _ _
    · rw [p_set_n _ _ _ _ z]; exact rr' j)⟩, fun o H => ?_⟩
  refine hC (y := (k : Int)) (v := 0) E hp hw (by decide) (by rw [if_pos (by decide)]) (fun _ => by rw [ka k hk]; omega) ?_ ?_
  · rw [show am_and (am_shr (-5496) 6) 63 = 42 by decide]; exact ev.symm
  · rw [if_neg (by intro z; rcases z with z | z | z <;> exact z.1 (by decide)), if_pos (show am_and (-5496) 32 = 0 by decide), if_pos (show am_and (-5496) 16 = 0 by decide), if_neg (show ¬ am_and (-5496) 8 = 0 by decide)]
    rw [ka k hk, Int.toNat_natCast]; exact H
theorem c_D0 {a : Int} {p : Nat} {d : Int} {r : Nat → Int} (E : h 17 14 ≠ 0) (hp : p < 32768) (hw : h 13 p = -5488) : Hq L n h ((p : Int), a, d, r) ((p : Int) + 1, a, 0, r) := by
  intro ⟨ra, rd, rr'⟩
  have ev : pb_work 42 d (a) = 0 := wk_0 rd ra
  refine ⟨⟨ra, (show rg16 (0) from ⟨by decide, by decide⟩), rr'⟩, fun o H => ?_⟩
  refine hC (y := a) (v := 0) E hp hw (by decide) (by rw [if_pos (by decide)]) (fun z => by rcases z with z | z <;> exact absurd (by decide) z) ?_ ?_
  · rw [show am_and (am_shr (-5488) 6) 63 = 42 by decide]; exact ev.symm
  · rw [if_neg (by intro z; rcases z with z | z | z <;> exact z.1 (by decide)), if_pos (show am_and (-5488) 32 = 0 by decide), if_neg (show ¬ am_and (-5488) 16 = 0 by decide), if_pos (show am_and (-5488) 8 = 0 by decide)]
    exact H
theorem c_DeMmD {k : Nat} {p : Nat} {d : Int} {r : Nat → Int} (E : h 17 14 ≠ 0) (hk : k < 32000) (hp : p < 32768) (hw : h 13 p = -3632) : Hq L n h ((p : Int), (k : Int), d, r) ((p : Int) + 1, (k : Int), am_s16 (r k - d), r) := by
  intro ⟨ra, rd, rr'⟩
  have ev : pb_work 7 d (r k) = am_s16 (r k - d) := wk_bus rd (rr' k)
  refine ⟨⟨ra, (by rw [← ev]; exact pb_work_rg _ _ _), rr'⟩, fun o H => ?_⟩
  refine hC (y := r k) (v := am_s16 (r k - d)) E hp hw (by decide) (by rw [if_neg (by decide), ka k hk, Int.toNat_natCast]) (fun _ => by rw [ka k hk]; omega) ?_ ?_
  · rw [show am_and (am_shr (-3632) 6) 63 = 7 by decide]; exact ev.symm
  · rw [if_neg (by intro z; rcases z with z | z | z <;> exact z.1 (by decide)), if_pos (show am_and (-3632) 32 = 0 by decide), if_neg (show ¬ am_and (-3632) 16 = 0 by decide), if_pos (show am_and (-3632) 8 = 0 by decide)]
    exact H
theorem c_AeDpM {k : Nat} {p : Nat} {d : Int} {r : Nat → Int} (E : h 17 14 ≠ 0) (hk : k < 32000) (hp : p < 32768) (hw : h 13 p = -3936) : Hq L n h ((p : Int), (k : Int), d, r) ((p : Int) + 1, am_s16 (d + r k), d, r) := by
  intro ⟨ra, rd, rr'⟩
  have ev : pb_work 2 d (r k) = am_s16 (d + r k) := wk_add rd (rr' k)
  refine ⟨⟨(by rw [← ev]; exact pb_work_rg _ _ _), rd, rr'⟩, fun o H => ?_⟩
  refine hC (y := r k) (v := am_s16 (d + r k)) E hp hw (by decide) (by rw [if_neg (by decide), ka k hk, Int.toNat_natCast]) (fun _ => by rw [ka k hk]; omega) ?_ ?_
  · rw [show am_and (am_shr (-3936) 6) 63 = 2 by decide]; exact ev.symm
  · rw [if_neg (by intro z; rcases z with z | z | z <;> exact z.1 (by decide)), if_neg (show ¬ am_and (-3936) 32 = 0 by decide), if_pos (show am_and (-3936) 16 = 0 by decide), if_pos (show am_and (-3936) 8 = 0 by decide)]
    exact H
theorem c_DpM {k : Nat} {p : Nat} {d : Int} {r : Nat → Int} (E : h 17 14 ≠ 0) (hk : k < 32000) (hp : p < 32768) (hw : h 13 p = -3952) : Hq L n h ((p : Int), (k : Int), d, r) ((p : Int) + 1, (k : Int), am_s16 (d + r k), r) := by
  intro ⟨ra, rd, rr'⟩
  have ev : pb_work 2 d (r k) = am_s16 (d + r k) := wk_add rd (rr' k)
  refine ⟨⟨ra, (by rw [← ev]; exact pb_work_rg _ _ _), rr'⟩, fun o H => ?_⟩
  refine hC (y := r k) (v := am_s16 (d + r k)) E hp hw (by decide) (by rw [if_neg (by decide), ka k hk, Int.toNat_natCast]) (fun _ => by rw [ka k hk]; omega) ?_ ?_
  · rw [show am_and (am_shr (-3952) 6) 63 = 2 by decide]; exact ev.symm
  · rw [if_neg (by intro z; rcases z with z | z | z <;> exact z.1 (by decide)), if_pos (show am_and (-3952) 32 = 0 by decide), if_neg (show ¬ am_and (-3952) 16 = 0 by decide), if_pos (show am_and (-3952) 8 = 0 by decide)]
    exact H
theorem c_MpD {k : Nat} {p : Nat} {d : Int} {r : Nat → Int} (E : h 17 14 ≠ 0) (hk : k < 32000) (hp : p < 32768) (hw : h 13 p = -3960) : Hq L n h ((p : Int), (k : Int), d, r) ((p : Int) + 1, (k : Int), d, p_set r k (am_s16 (d + r k))) := by
  intro ⟨ra, rd, rr'⟩
  have ev : pb_work 2 d (r k) = am_s16 (d + r k) := wk_add rd (rr' k)
  refine ⟨⟨ra, rd, (fun j => by
    dsimp only
    by_cases z : j = k
    · rw [z, p_set_s, ← ev]; exact pb_work_rg _ _ _
    · rw [p_set_n _ _ _ _ z]; exact rr' j)⟩, fun o H => ?_⟩
  refine hC (y := r k) (v := am_s16 (d + r k)) E hp hw (by decide) (by rw [if_neg (by decide), ka k hk, Int.toNat_natCast]) (fun _ => by rw [ka k hk]; omega) ?_ ?_
  · rw [show am_and (am_shr (-3960) 6) 63 = 2 by decide]; exact ev.symm
  · rw [if_neg (by intro z; rcases z with z | z | z <;> exact z.1 (by decide)), if_pos (show am_and (-3960) 32 = 0 by decide), if_pos (show am_and (-3960) 16 = 0 by decide), if_neg (show ¬ am_and (-3960) 8 = 0 by decide)]
    rw [ka k hk, Int.toNat_natCast]; exact H
theorem c_MmD {k : Nat} {p : Nat} {d : Int} {r : Nat → Int} (E : h 17 14 ≠ 0) (hk : k < 32000) (hp : p < 32768) (hw : h 13 p = -3640) : Hq L n h ((p : Int), (k : Int), d, r) ((p : Int) + 1, (k : Int), d, p_set r k (am_s16 (r k - d))) := by
  intro ⟨ra, rd, rr'⟩
  have ev : pb_work 7 d (r k) = am_s16 (r k - d) := wk_bus rd (rr' k)
  refine ⟨⟨ra, rd, (fun j => by
    dsimp only
    by_cases z : j = k
    · rw [z, p_set_s, ← ev]; exact pb_work_rg _ _ _
    · rw [p_set_n _ _ _ _ z]; exact rr' j)⟩, fun o H => ?_⟩
  refine hC (y := r k) (v := am_s16 (r k - d)) E hp hw (by decide) (by rw [if_neg (by decide), ka k hk, Int.toNat_natCast]) (fun _ => by rw [ka k hk]; omega) ?_ ?_
  · rw [show am_and (am_shr (-3640) 6) 63 = 7 by decide]; exact ev.symm
  · rw [if_neg (by intro z; rcases z with z | z | z <;> exact z.1 (by decide)), if_pos (show am_and (-3640) 32 = 0 by decide), if_pos (show am_and (-3640) 16 = 0 by decide), if_neg (show ¬ am_and (-3640) 8 = 0 by decide)]
    rw [ka k hk, Int.toNat_natCast]; exact H
theorem c_MaD {k : Nat} {p : Nat} {d : Int} {r : Nat → Int} (E : h 17 14 ≠ 0) (hk : k < 32000) (hp : p < 32768) (hw : h 13 p = -4088) : Hq L n h ((p : Int), (k : Int), d, r) ((p : Int) + 1, (k : Int), d, p_set r k (am_and d (r k))) := by
  intro ⟨ra, rd, rr'⟩
  have ev : pb_work 0 d (r k) = am_and d (r k) := wk_and rd (rr' k)
  refine ⟨⟨ra, rd, (fun j => by
    dsimp only
    by_cases z : j = k
    · rw [z, p_set_s, ← ev]; exact pb_work_rg _ _ _
    · rw [p_set_n _ _ _ _ z]; exact rr' j)⟩, fun o H => ?_⟩
  refine hC (y := r k) (v := am_and d (r k)) E hp hw (by decide) (by rw [if_neg (by decide), ka k hk, Int.toNat_natCast]) (fun _ => by rw [ka k hk]; omega) ?_ ?_
  · rw [show am_and (am_shr (-4088) 6) 63 = 0 by decide]; exact ev.symm
  · rw [if_neg (by intro z; rcases z with z | z | z <;> exact z.1 (by decide)), if_pos (show am_and (-4088) 32 = 0 by decide), if_pos (show am_and (-4088) 16 = 0 by decide), if_neg (show ¬ am_and (-4088) 8 = 0 by decide)]
    rw [ka k hk, Int.toNat_natCast]; exact H
theorem c_MoD {k : Nat} {p : Nat} {d : Int} {r : Nat → Int} (E : h 17 14 ≠ 0) (hk : k < 32000) (hp : p < 32768) (hw : h 13 p = -2744) : Hq L n h ((p : Int), (k : Int), d, r) ((p : Int) + 1, (k : Int), d, p_set r k (am_or d (r k))) := by
  intro ⟨ra, rd, rr'⟩
  have ev : pb_work 21 d (r k) = am_or d (r k) := wk_or rd (rr' k)
  refine ⟨⟨ra, rd, (fun j => by
    dsimp only
    by_cases z : j = k
    · rw [z, p_set_s, ← ev]; exact pb_work_rg _ _ _
    · rw [p_set_n _ _ _ _ z]; exact rr' j)⟩, fun o H => ?_⟩
  refine hC (y := r k) (v := am_or d (r k)) E hp hw (by decide) (by rw [if_neg (by decide), ka k hk, Int.toNat_natCast]) (fun _ => by rw [ka k hk]; omega) ?_ ?_
  · rw [show am_and (am_shr (-2744) 6) 63 = 21 by decide]; exact ev.symm
  · rw [if_neg (by intro z; rcases z with z | z | z <;> exact z.1 (by decide)), if_pos (show am_and (-2744) 32 = 0 by decide), if_pos (show am_and (-2744) 16 = 0 by decide), if_neg (show ¬ am_and (-2744) 8 = 0 by decide)]
    rw [ka k hk, Int.toNat_natCast]; exact H
theorem c_Mneg {k : Nat} {p : Nat} {d : Int} {r : Nat → Int} (E : h 17 14 ≠ 0) (hk : k < 32000) (hp : p < 32768) (hw : h 13 p = -824) : Hq L n h ((p : Int), (k : Int), d, r) ((p : Int) + 1, (k : Int), d, p_set r k (am_s16 (-r k))) := by
  intro ⟨ra, rd, rr'⟩
  have ev : pb_work 51 d (r k) = am_s16 (-r k) := wk_my rd (rr' k)
  refine ⟨⟨ra, rd, (fun j => by
    dsimp only
    by_cases z : j = k
    · rw [z, p_set_s, ← ev]; exact pb_work_rg _ _ _
    · rw [p_set_n _ _ _ _ z]; exact rr' j)⟩, fun o H => ?_⟩
  refine hC (y := r k) (v := am_s16 (-r k)) E hp hw (by decide) (by rw [if_neg (by decide), ka k hk, Int.toNat_natCast]) (fun _ => by rw [ka k hk]; omega) ?_ ?_
  · rw [show am_and (am_shr (-824) 6) 63 = 51 by decide]; exact ev.symm
  · rw [if_neg (by intro z; rcases z with z | z | z <;> exact z.1 (by decide)), if_pos (show am_and (-824) 32 = 0 by decide), if_pos (show am_and (-824) 16 = 0 by decide), if_neg (show ¬ am_and (-824) 8 = 0 by decide)]
    rw [ka k hk, Int.toNat_natCast]; exact H
theorem c_Mnot {k : Nat} {p : Nat} {d : Int} {r : Nat → Int} (E : h 17 14 ≠ 0) (hk : k < 32000) (hp : p < 32768) (hw : h 13 p = -952) : Hq L n h ((p : Int), (k : Int), d, r) ((p : Int) + 1, (k : Int), d, p_set r k (-r k - 1)) := by
  intro ⟨ra, rd, rr'⟩
  have ev : pb_work 49 d (r k) = -r k - 1 := wk_ny rd (rr' k)
  refine ⟨⟨ra, rd, (fun j => by
    dsimp only
    by_cases z : j = k
    · rw [z, p_set_s, ← ev]; exact pb_work_rg _ _ _
    · rw [p_set_n _ _ _ _ z]; exact rr' j)⟩, fun o H => ?_⟩
  refine hC (y := r k) (v := -r k - 1) E hp hw (by decide) (by rw [if_neg (by decide), ka k hk, Int.toNat_natCast]) (fun _ => by rw [ka k hk]; omega) ?_ ?_
  · rw [show am_and (am_shr (-952) 6) 63 = 49 by decide]; exact ev.symm
  · rw [if_neg (by intro z; rcases z with z | z | z <;> exact z.1 (by decide)), if_pos (show am_and (-952) 32 = 0 by decide), if_pos (show am_and (-952) 16 = 0 by decide), if_neg (show ¬ am_and (-952) 8 = 0 by decide)]
    rw [ka k hk, Int.toNat_natCast]; exact H
/-- jumps -/
theorem c_jmp {p k : Nat} {d : Int} {r : Nat → Int} (E : h 17 14 ≠ 0) (hp : p < 32768) (hk : k < 32768) (hw : h 13 p = -5497) : Hq L n h ((p : Int), (k : Int), d, r) ((k : Int), (k : Int), d, r) := by
  intro ⟨ra, rd, rr'⟩
  refine ⟨⟨ra, rd, rr'⟩, fun o H => ?_⟩
  refine hC (y := (k : Int)) (v := 0) E hp hw (by decide) (by rw [if_pos (by decide)]) (fun z => by rcases z with z | z <;> exact absurd (by decide) z) ?_ ?_
  · rw [show am_and (am_shr (-5497) 6) 63 = 42 by decide]; exact (wk_0 rd ra).symm
  · rw [if_pos (by decide), if_pos (show am_and (-5497) 32 = 0 by decide), if_pos (show am_and (-5497) 16 = 0 by decide), if_pos (show am_and (-5497) 8 = 0 by decide), ka2 k hk]
    exact H
theorem c_jd {p k : Nat} {d w : Int} {r : Nat → Int} {q : Prop} [Decidable q] (E : h 17 14 ≠ 0) (hp : p < 32768) (hk : k < 32768) (hw : h 13 p = w) (wn : w < 0) (hq : pb_jmp w d ↔ q) (h1 : am_and w 4096 = 0 ∧ am_and w 32 = 0 ∧ am_and w 16 = 0 ∧ am_and w 8 = 0 ∧ am_and (am_shr w 6) 63 = 12) : Hq L n h ((p : Int), (k : Int), d, r) (if q then (k : Int) else (p : Int) + 1, (k : Int), d, r) := by
  intro ⟨ra, rd, rr'⟩
  refine ⟨⟨ra, rd, rr'⟩, fun o H => ?_⟩
  obtain ⟨g1, g2, g3, g4, g5⟩ := h1
  refine hC (y := (k : Int)) (v := d) E hp hw wn (by rw [if_pos g1]) (fun z => by rcases z with z | z; exact absurd g1 z; exact absurd g4 z) ?_ ?_
  · rw [g5]; exact (wk_d rd ra).symm
  · rw [if_pos g2, if_pos g3, if_pos g4, ka2 k hk]
    by_cases c : q
    · rw [if_pos c] at H; rw [if_pos (hq.2 c)]; exact H
    · rw [if_neg c] at H; rw [if_neg (fun z => c (hq.1 z))]; exact H
theorem c_jeq {p k : Nat} {d : Int} {r : Nat → Int} (E : h 17 14 ≠ 0) (hp : p < 32768) (hk : k < 32768) (hw : h 13 p = -7422) : Hq L n h ((p : Int), (k : Int), d, r) (if d = 0 then (k : Int) else (p : Int) + 1, (k : Int), d, r) :=
  c_jd E hp hk hw (by decide) (by unfold pb_jmp; rw [show am_and (-7422) 4 = 0 by decide, show am_and (-7422) 2 = 2 by decide, show am_and (-7422) 1 = 0 by decide]; omega) (by decide)
theorem c_jlt {p k : Nat} {d : Int} {r : Nat → Int} (E : h 17 14 ≠ 0) (hp : p < 32768) (hk : k < 32768) (hw : h 13 p = -7420) : Hq L n h ((p : Int), (k : Int), d, r) (if d < 0 then (k : Int) else (p : Int) + 1, (k : Int), d, r) :=
  c_jd E hp hk hw (by decide) (by unfold pb_jmp; rw [show am_and (-7420) 4 = 4 by decide, show am_and (-7420) 2 = 0 by decide, show am_and (-7420) 1 = 0 by decide]; omega) (by decide)
theorem c_jge {p k : Nat} {d : Int} {r : Nat → Int} (E : h 17 14 ≠ 0) (hp : p < 32768) (hk : k < 32768) (hw : h 13 p = -7421) : Hq L n h ((p : Int), (k : Int), d, r) (if 0 ≤ d then (k : Int) else (p : Int) + 1, (k : Int), d, r) :=
  c_jd E hp hk hw (by decide) (by unfold pb_jmp; rw [show am_and (-7421) 4 = 0 by decide, show am_and (-7421) 2 = 2 by decide, show am_and (-7421) 1 = 1 by decide]; omega) (by decide)
theorem c_jne {p k : Nat} {d : Int} {r : Nat → Int} (E : h 17 14 ≠ 0) (hp : p < 32768) (hk : k < 32768) (hw : h 13 p = -7419) : Hq L n h ((p : Int), (k : Int), d, r) (if d ≠ 0 then (k : Int) else (p : Int) + 1, (k : Int), d, r) :=
  c_jd E hp hk hw (by decide) (by unfold pb_jmp; rw [show am_and (-7419) 4 = 4 by decide, show am_and (-7419) 2 = 0 by decide, show am_and (-7419) 1 = 1 by decide]; omega) (by decide)
end
