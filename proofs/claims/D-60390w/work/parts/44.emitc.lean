/-! PURE LAYER, 14: the component's emission is what 42 says -/
section
variable {K V P : Nat → Int} {sy w : Bool} {i deep st : Nat} {g h : am_H}
theorem pc_R.eq (R : pc_R K V P sy w i deep st g h) (a j : Nat) (h2 : pc_ps.contains (a, j) = false) : h a j = g a j := R.1 a j rfl h2
/-- the same change on both sides -/
theorem pc_R.upd (R : pc_R K V P sy w i deep st g h) {g' h' : am_H} (f : p_fr [] pc_ps g' h') (e8 : h' 212 8 = h 212 8) (e11 : h' 212 11 = h 212 11) (e12 : h' 212 12 = h 212 12) (q : p_fr pc_C pc_P g g') (ok : ce_ok g') : pc_R K V P sy w i deep st g' h' :=
  ⟨f, by rw [e8]; exact R.2.1, by rw [e11]; exact R.2.2.1, by rw [e12]; exact R.2.2.2.1, by rw [q 212 23 rfl rfl]; exact R.2.2.2.2.1, by rw [q 212 24 rfl rfl]; exact R.2.2.2.2.2.1, by rw [q.cell 241 rfl rfl]; exact R.2.2.2.2.2.2.1, by rw [q.cell 242 rfl rfl]; exact R.2.2.2.2.2.2.2.1, by rw [q.cell 243 rfl rfl]; exact R.2.2.2.2.2.2.2.2.1, ok⟩
theorem ce_add_Q (op a b : Int) (g : am_H) (h0 : 0 ≤ g 8 3) : ce_Q g (ce_add op a b g) := by
  unfold ce_add
  refine ⟨(((((p_fr.refl g).upc _ _ _ rfl).upc _ _ _ rfl).upc _ _ _ rfl).upf _ _ _ rfl), by rw [p_up_s]; omega, fun k hk => ?_, fun k hk => ?_, fun k hk => ?_⟩
  · have : k ≠ (g 8 3).toNat := by omega
    simp [p_up, this]
  · simp [p_up]
  · simp [p_up]
theorem ce_add_ok (op a b : Int) (g : am_H) (ok : ce_ok g) (h9 : g 8 3 < 9000) : ce_ok (ce_add op a b g) := by
  unfold ce_ok ce_add at *
  simp only [p_up, show ¬ (8 = 9) by decide, show ¬ (8 = 10) by decide, show ¬ (8 = 11) by decide, show ¬ (4 = 3) by decide, show ¬ (235 = 8) by decide, show ¬ (235 = 9) by decide, show ¬ (235 = 10) by decide, show ¬ (235 = 11) by decide, show ¬ (213 = 8) by decide, show ¬ (213 = 9) by decide, show ¬ (213 = 10) by decide, show ¬ (213 = 11) by decide, show ¬ (217 = 8) by decide, show ¬ (217 = 9) by decide, show ¬ (217 = 10) by decide, show ¬ (217 = 11) by decide, show ¬ (223 = 8) by decide, show ¬ (223 = 9) by decide, show ¬ (223 = 10) by decide, show ¬ (223 = 11) by decide, show ¬ (229 = 8) by decide, show ¬ (229 = 9) by decide, show ¬ (229 = 10) by decide, show ¬ (229 = 11) by decide, false_and, and_false, and_true, if_false, and_self, if_true]
  omega
theorem ce_tel_Q (op a b : Int) (g : am_H) : ce_Q g (ce_tel op a b g) := by
  unfold ce_tel
  refine ⟨(((((p_fr.refl g).upc _ _ _ rfl).upc _ _ _ rfl).upc _ _ _ rfl).upf _ _ _ rfl), by simp [p_up], fun k hk => ?_, fun k hk => ?_, fun k hk => ?_⟩ <;> simp [p_up]
theorem ce_tel_ok (op a b : Int) (g : am_H) (ok : ce_ok g) (h9 : g 235 3 < 8000) : ce_ok (ce_tel op a b g) := by
  unfold ce_ok ce_tel at *
  simp only [p_up, show ¬ (235 = 236) by decide, show ¬ (235 = 237) by decide, show ¬ (235 = 238) by decide, show ¬ (4 = 3) by decide, show ¬ (8 = 235) by decide, show ¬ (8 = 236) by decide, show ¬ (8 = 237) by decide, show ¬ (8 = 238) by decide, show ¬ (213 = 235) by decide, show ¬ (213 = 236) by decide, show ¬ (213 = 237) by decide, show ¬ (213 = 238) by decide, show ¬ (217 = 235) by decide, show ¬ (217 = 236) by decide, show ¬ (217 = 237) by decide, show ¬ (217 = 238) by decide, show ¬ (223 = 235) by decide, show ¬ (223 = 236) by decide, show ¬ (223 = 237) by decide, show ¬ (223 = 238) by decide, show ¬ (229 = 235) by decide, show ¬ (229 = 236) by decide, show ¬ (229 = 237) by decide, show ¬ (229 = 238) by decide, false_and, and_false, and_true, if_false, and_self, if_true]
  omega
/-- the outcome of an emission -/
abbrev pc_E (K V P : Nat → Int) (sy w : Bool) (i deep st L : Nat) (D : Option am_O) (g : am_H) (r : gx_R am_H) : Prop := pc_o L D g r (fun g' D => ∃ h1, D = pV L h1 ∧ pc_R K V P sy w i deep st g' h1 ∧ ce_Q g g')
section
variable (d L : Nat)
theorem em_add (R : pc_R K V P sy w i deep st g h) {op : Int} (hop : -128 ≤ op ∧ op ≤ 127) (a b : Int) : pc_E K V P sy w i deep st L (am_D (d + 1) 16 1 [am_r (am_a 8), am_i op, am_i a, am_i b] (zS L, h)) g (ce_q (g 8 3 < 9000) (.inr (ce_add op a b g))) := by
  unfold ce_q
  have h0 := R.ok.1
  have e83 : h 8 3 = g 8 3 := R.eq 8 3 rfl
  by_cases c : g 8 3 < 9000
  · rw [if_pos c, D_16_1, e83, p_idx (by omega) (by omega), p_idx (by omega) (by omega), p_idx (by omega) (by omega), p_s8_s8, p_s16_s16, p_s16_s16, p_s8 hop.1 hop.2, p_w (by omega) (by omega)]
    refine ⟨_, rfl, R.upd (g' := ce_add op a b g) ?_ ?_ ?_ ?_ (ce_add_Q op a b g h0.1).1 (ce_add_ok op a b g R.ok c), ce_add_Q op a b g h0.1⟩
    · exact pc_fr_both (pc_fr_both (pc_fr_both (pc_fr_both R.1 _ _ _) _ _ _) _ _ _) _ _ _
    · simp [p_up]
    · simp [p_up]
    · simp [p_up]
  · rw [if_neg c]; intro z; exact absurd z (by decide)
theorem em_tel (R : pc_R K V P sy w i deep st g h) {op : Int} (hop : -128 ≤ op ∧ op ≤ 127) (a b : Int) : pc_E K V P sy w i deep st L (am_D (d + 1) 8 1 [am_r (am_a 235), am_i op, am_i a, am_i b] (zS L, h)) g (ce_q (g 235 3 < 8000) (.inr (ce_tel op a b g))) := by
  unfold ce_q
  have h0 := R.ok.2.2.1
  have e83 : h 235 3 = g 235 3 := R.eq 235 3 rfl
  by_cases c : g 235 3 < 8000
  · rw [if_pos c, D_8_1, e83, p_idx (by omega) (by omega), p_idx (by omega) (by omega), p_idx (by omega) (by omega), p_s8_s8, p_s16_s16, p_s16_s16, p_s8 hop.1 hop.2, p_w (by omega) (by omega)]
    refine ⟨_, rfl, R.upd (g' := ce_tel op a b g) ?_ ?_ ?_ ?_ (ce_tel_Q op a b g).1 (ce_tel_ok op a b g R.ok c), ce_tel_Q op a b g⟩
    · exact pc_fr_both (pc_fr_both (pc_fr_both (pc_fr_both R.1 _ _ _) _ _ _) _ _ _) _ _ _
    · simp [p_up]
    · simp [p_up]
    · simp [p_up]
  · rw [if_neg c]; intro z; exact absurd z (by decide)
/-- behind a call that returns nothing -/
theorem em_ret {D : Option am_O} {r : gx_R am_H} (hX : pc_E K V P sy w i deep st L D g r) : pc_E K V P sy w i deep st L (am_xV (zS L) D (am_up1 (zS L)) (fun h1 => some (.inl none, (zS L, h1)))) g r := by
  have e : r = gx_b r fun a => .inr a := by cases r <;> rfl
  rw [e]
  refine pc_bV hX ?_
  rintro a h1 - hp
  exact ⟨h1, rfl, hp⟩
/-- one emission behind another -/
theorem em_b {D : Option am_O} {r : gx_R am_H} {k : am_H → Option am_O} {f : am_H → gx_R am_H} (hX : pc_E K V P sy w i deep st L D g r) (hk : ∀ g1 h1, r = .inr g1 → pc_R K V P sy w i deep st g1 h1 → ce_Q g g1 → pc_E K V P sy w i deep st L (k h1) g1 (f g1)) : pc_E K V P sy w i deep st L (am_xV (zS L) D (am_up1 (zS L)) k) g (gx_b r f) := by
  refine pc_bV hX ?_
  rintro a h1 hr ⟨hp, hq⟩
  refine ((hk a h1 hr hp hq).mono hq).imp ?_
  rintro a2 D2 - ⟨h2, e2, p2, q2⟩
  exact ⟨h2, e2, p2, hq.trans q2⟩
theorem em_id (R : pc_R K V P sy w i deep st g h) : pc_E K V P sy w i deep st L (some (.inl none, (zS L, h))) g (.inr g) := ⟨h, rfl, R, ce_Q.refl g⟩
/-- Compiler.add, push, pop, op, tell -/
theorem em_vm (R : pc_R K V P sy w i deep st g h) {op : Int} (hop : -128 ≤ op ∧ op ≤ 127) (a b : Int) : pc_E K V P sy w i deep st L (am_D (d + 2) 7 17 [am_r (am_a 212), am_i op, am_i a, am_i b] (zS L, h)) g (ce_vm w op a b g) := by
  rw [D_7_17, R.wr]
  simp only [pB_0]
  unfold ce_vm
  by_cases hw : w = true
  · rw [if_neg (fun z => z hw), if_pos hw]; exact em_ret L (em_add d L R hop a b)
  · rw [if_pos hw, if_neg hw]; exact em_id L R
theorem em_push (R : pc_R K V P sy w i deep st g h) (a b : Int) : pc_E K V P sy w i deep st L (am_D (d + 3) 7 14 [am_r (am_a 212), am_i a, am_i b] (zS L, h)) g (ce_vm w 0 a b g) := by
  rw [D_7_14, R.wr]
  simp only [pB_0]
  unfold ce_vm
  by_cases hw : w = true
  · rw [if_neg (fun z => z hw), if_pos hw, D_16_3]; exact em_ret L (em_ret L (em_add d L R (by omega) a b))
  · rw [if_pos hw, if_neg hw]; exact em_id L R
theorem em_pop (R : pc_R K V P sy w i deep st g h) (a b : Int) : pc_E K V P sy w i deep st L (am_D (d + 3) 7 15 [am_r (am_a 212), am_i a, am_i b] (zS L, h)) g (ce_vm w 1 a b g) := by
  rw [D_7_15, R.wr]
  simp only [pB_0]
  unfold ce_vm
  by_cases hw : w = true
  · rw [if_neg (fun z => z hw), if_pos hw, D_16_4]; exact em_ret L (em_ret L (em_add d L R (by omega) a b))
  · rw [if_pos hw, if_neg hw]; exact em_id L R
theorem em_op (R : pc_R K V P sy w i deep st g h) {op : Int} (hop : -128 ≤ op ∧ op ≤ 127) : pc_E K V P sy w i deep st L (am_D (d + 3) 7 16 [am_r (am_a 212), am_i op] (zS L, h)) g (ce_vm w op 0 0 g) := by
  rw [D_7_16, R.wr]
  simp only [pB_0]
  unfold ce_vm
  by_cases hw : w = true
  · rw [if_neg (fun z => z hw), if_pos hw, D_16_2]; exact em_ret L (em_ret L (em_add d L R hop 0 0))
  · rw [if_pos hw, if_neg hw]; exact em_id L R
theorem em_li (R : pc_R K V P sy w i deep st g h) {op : Int} (hop : -128 ≤ op ∧ op ≤ 127) (a b : Int) : pc_E K V P sy w i deep st L (am_D (d + 2) 7 19 [am_r (am_a 212), am_i op, am_i a, am_i b] (zS L, h)) g (ce_li w sy op a b g) := by
  rw [D_7_19, R.wr, R.syq]
  simp only [pB_0]
  unfold ce_li
  by_cases hw : w = true
  · rw [if_neg (fun z => z hw)]
    by_cases hs : sy = true
    · rw [if_neg (fun z => z hs), if_neg (by rw [hs]; simp)]; exact em_id L R
    · rw [if_pos hs, if_pos ⟨hw, by simpa using hs⟩]; exact em_ret L (em_tel d L R hop a b)
  · rw [if_pos hw, if_neg (fun z => hw z.1)]; exact em_id L R
theorem em_both (R : pc_R K V P sy w i deep st g h) {op told : Int} (hop : -128 ≤ op ∧ op ≤ 127) (ht : -128 ≤ told ∧ told ≤ 127) : pc_E K V P sy w i deep st L (am_D (d + 4) 7 61 [am_r (am_a 212), am_i op, am_i told] (zS L, h)) g (ce_both w sy op told g) := by
  rw [D_7_61]
  unfold ce_both
  refine em_b L (em_op d L R hop) ?_
  intro g1 h1 hr R1 q1
  exact em_ret L (em_li (d + 1) L R1 ht 0 0)
end
end
