/-! PURE LAYER, 15: what is declared is found; variables, calls, signs -/
section
variable (d L : Nat) {h : am_H}
theorem fi_cls (x : Int) (h0 : 0 ≤ h 213 3 ∧ h 213 3 ≤ 24) : am_D (d + 1) 6 1 [am_r (am_a 213), am_i x] (zS L, h) = pI L (ce_cls h x) h := by
  have key : ∀ (m k : Nat), (k : Int) + m = h 213 3 → am_E (am_D d) m_6_1 (.inl 1) [some (am_r (am_a 213)), some (am_i x), some (am_i k)] [] (zS L, h) = pI L (p_find (h 214) x m k) h := by
    intro m
    induction m with
    | zero => intro k e; rw [q_6_1_1, if_neg (by omega)]; rfl
    | succ m ih =>
      intro k e
      rw [q_6_1_1, if_pos (by omega), p_idx (by omega) (by omega), Int.toNat_natCast]
      unfold p_find
      by_cases c : h 214 k = x
      · rw [if_pos c, if_pos c]
      · rw [if_neg c, if_neg c, p_w (by omega) (by omega)]; exact ih (k + 1) (by omega)
  rw [D_6_1]
  exact key (h 213 3).toNat 0 (by omega)
theorem fi_sub (o x : Int) (h0 : 0 ≤ h 217 5 ∧ h 217 5 ≤ 130) : am_D (d + 1) 12 1 [am_r (am_a 217), am_i o, am_i x] (zS L, h) = pI L (ce_sub h o x) h := by
  have key : ∀ (m k : Nat), (k : Int) + m = h 217 5 → am_E (am_D d) m_12_1 (.inl 1) [some (am_r (am_a 217)), some (am_i o), some (am_i x), some (am_i k)] [] (zS L, h) = pI L (p_find2 (h 218) (h 219) o x m k) h := by
    intro m
    induction m with
    | zero => intro k e; rw [q_12_1_1, if_neg (by omega)]; rfl
    | succ m ih =>
      intro k e
      rw [q_12_1_1, if_pos (by omega), p_idx (by omega) (by omega), p_idx (by omega) (by omega), Int.toNat_natCast]
      unfold p_find2
      by_cases c : h 218 k = o
      · rw [if_pos c]
        by_cases c2 : h 219 k = x
        · rw [if_pos c2, if_pos ⟨c, c2⟩]
        · rw [if_neg c2, if_neg (fun z => c2 z.2), p_w (by omega) (by omega)]; exact ih (k + 1) (by omega)
      · rw [if_neg c, if_neg (fun z => c z.1), p_w (by omega) (by omega)]; exact ih (k + 1) (by omega)
  rw [D_12_1]
  exact key (h 217 5).toNat 0 (by omega)
theorem fi_vc (x : Int) (h0 : 0 ≤ h 223 5 ∧ h 223 5 ≤ 50) : am_D (d + 1) 15 1 [am_r (am_a 223), am_i x] (zS L, h) = pI L (ce_vc h x) h := by
  have key : ∀ (m k : Nat), (k : Int) + m = h 223 5 → am_E (am_D d) m_15_1 (.inl 1) [some (am_r (am_a 223)), some (am_i x), some (am_i k)] [] (zS L, h) = pI L (p_find (h 224) x m k) h := by
    intro m
    induction m with
    | zero => intro k e; rw [q_15_1_1_223, if_neg (by omega)]; rfl
    | succ m ih =>
      intro k e
      rw [q_15_1_1_223, if_pos (by omega), p_idx (by omega) (by omega), Int.toNat_natCast]
      unfold p_find
      by_cases c : h 224 k = x
      · rw [if_pos c, if_pos c]
      · rw [if_neg c, if_neg c, p_w (by omega) (by omega)]; exact ih (k + 1) (by omega)
  rw [D_15_1_223]
  exact key (h 223 5).toNat 0 (by omega)
theorem fi_vs (x : Int) (h0 : 0 ≤ h 229 5 ∧ h 229 5 ≤ 50) : am_D (d + 1) 15 1 [am_r (am_a 229), am_i x] (zS L, h) = pI L (ce_vs h x) h := by
  have key : ∀ (m k : Nat), (k : Int) + m = h 229 5 → am_E (am_D d) m_15_1 (.inl 1) [some (am_r (am_a 229)), some (am_i x), some (am_i k)] [] (zS L, h) = pI L (p_find (h 230) x m k) h := by
    intro m
    induction m with
    | zero => intro k e; rw [q_15_1_1_229, if_neg (by omega)]; rfl
    | succ m ih =>
      intro k e
      rw [q_15_1_1_229, if_pos (by omega), p_idx (by omega) (by omega), Int.toNat_natCast]
      unfold p_find
      by_cases c : h 230 k = x
      · rw [if_pos c, if_pos c]
      · rw [if_neg c, if_neg c, p_w (by omega) (by omega)]; exact ih (k + 1) (by omega)
  rw [D_15_1_229]
  exact key (h 229 5).toNat 0 (by omega)
theorem fi_own (x : Int) (h0 : 0 ≤ h 213 3 ∧ h 213 3 ≤ 24) (h1 : 0 ≤ h 212 20 ∧ h 212 20 ≤ h 213 3) : am_D (d + 1) 7 31 [am_r (am_a 212), am_i x] (zS L, h) = pI L (ce_own h x) h := by
  have key : ∀ (m k : Nat), (k : Int) + m = h 213 3 → am_E (am_D d) m_7_31 (.inl 1) [some (am_r (am_a 212)), some (am_i x), some (am_i k)] [] (zS L, h) = pI L (p_find (h 214) x m k) h := by
    intro m
    induction m with
    | zero => intro k e; rw [q_7_31_1, if_neg (by omega)]; rfl
    | succ m ih =>
      intro k e
      rw [q_7_31_1, if_pos (by omega), p_idx (by omega) (by omega), Int.toNat_natCast]
      unfold p_find
      by_cases c : h 214 k = x
      · rw [if_pos c, if_pos c]
      · rw [if_neg c, if_neg c, p_w (by omega) (by omega)]; exact ih (k + 1) (by omega)
  rw [D_7_31]
  have := key (h 213 3 - h 212 20).toNat (h 212 20).toNat (by omega)
  rw [show (((h 212 20).toNat : Nat) : Int) = h 212 20 by omega] at this
  exact this
theorem fi_hid (x : Int) (hn : ce_nm h x) : am_D (d + 1) 9 3 [am_r (am_a 4), am_i x] (zS L, h) = pI L (pB (ce_hid h x)) h := by
  obtain ⟨a, b, c, e⟩ := hn
  rw [D_9_3_4, p_idx a (by omega), p_idx c (by omega), p_bit0, p_bit1]
  by_cases z : h 5 (h 6 x.toNat).toNat = 95
  · rw [if_pos z, pB_t (show ce_hid h x from z)]
  · rw [if_neg z, pB_f (show ¬ ce_hid h x from z)]
theorem fi_cof {sy : Bool} (hs : h 212 23 = pB (sy = true)) (x : Int) (hn : ce_nm h x) (h0 : 0 ≤ h 213 3 ∧ h 213 3 ≤ 24) (h1 : 0 ≤ h 212 20 ∧ h 212 20 ≤ h 213 3) : am_D (d + 2) 7 32 [am_r (am_a 212), am_i x] (zS L, h) = pI L (ce_cof sy h x) h := by
  have e3 : ∀ s0 : Int, am_E (am_D (d + 1)) m_7_32 (.inl 3) [some (am_r (am_a 212)), some (am_i x), none] [am_i s0] (zS L, h) = pI L (if s0 = -1 ∨ h 212 20 ≤ s0 then ce_own h x else s0) h := by
    intro s0
    rw [q_7_32_3]
    simp only [fi_own d L x h0 h1, p_xI]
    by_cases c : s0 = -1
    · rw [if_pos c, if_pos (Or.inl c)]
    · rw [if_neg c]
      by_cases c2 : s0 < h 212 20
      · rw [if_pos c2, if_neg (by omega)]
      · rw [if_neg c2, if_pos (by omega)]
  rw [D_7_32, hs]
  simp only [pB_0, fi_hid d L x hn, fi_cls d L x h0, p_xI, e3]
  unfold ce_cof
  by_cases c : sy = true
  · rw [if_neg (fun z => z c), if_pos (Or.inl c)]
  · rw [if_pos c]
    by_cases c2 : ce_hid h x
    · have n1 : ¬ (sy = true ∨ ¬ ce_hid h x) := by rintro (z | z); exact c z; exact z c2
      rw [if_neg (fun z => z c2), if_neg n1]
      simp
    · rw [if_pos c2, if_pos (Or.inr c2)]
theorem fi_sof {sy : Bool} (hs : h 212 23 = pB (sy = true)) (o x : Int) (hn : ce_nm h x) (h0 : 0 ≤ h 217 5 ∧ h 217 5 ≤ 130) : am_D (d + 2) 7 33 [am_r (am_a 212), am_i o, am_i x] (zS L, h) = pI L (ce_sof sy h o x) h := by
  rw [D_7_33, hs]
  simp only [pB_0, fi_hid d L x hn, fi_sub d L o x h0, p_xI]
  unfold ce_sof
  by_cases c : sy = true
  · rw [if_neg (fun z => z c), if_neg (by rw [c]; simp)]
  · have c' : sy = false := by simpa using c
    rw [if_pos c]
    by_cases c2 : o < h 212 20
    · rw [if_pos c2]
      by_cases c3 : ce_hid h x
      · rw [if_neg (fun z => z c3), if_pos ⟨c', c2, c3⟩]
      · rw [if_pos c3, if_neg (fun z => c3 z.2.2)]
    · rw [if_neg c2, if_neg (fun z => c2 z.2.1)]
end
/-! what is asked of the heap alone is the same of both -/
section
variable {K V P : Nat → Int} {sy w : Bool} {i deep st : Nat} {g h : am_H}
theorem pc_R.cell (R : pc_R K V P sy w i deep st g h) (a : Nat) (h2 : (pc_ps.map (·.1)).contains a = false) : h a = g a := R.1.cell a rfl h2
theorem pc_R.cls (R : pc_R K V P sy w i deep st g h) (x : Int) : ce_cls h x = ce_cls g x := by unfold ce_cls; rw [R.cell 214 rfl, R.cell 213 rfl]
theorem pc_R.sub (R : pc_R K V P sy w i deep st g h) (o x : Int) : ce_sub h o x = ce_sub g o x := by unfold ce_sub; rw [R.cell 218 rfl, R.cell 219 rfl, R.cell 217 rfl]
theorem pc_R.vc (R : pc_R K V P sy w i deep st g h) (x : Int) : ce_vc h x = ce_vc g x := by unfold ce_vc; rw [R.cell 224 rfl, R.cell 223 rfl]
theorem pc_R.vs (R : pc_R K V P sy w i deep st g h) (x : Int) : ce_vs h x = ce_vs g x := by unfold ce_vs; rw [R.cell 230 rfl, R.cell 229 rfl]
theorem pc_R.own (R : pc_R K V P sy w i deep st g h) (x : Int) : ce_own h x = ce_own g x := by unfold ce_own; rw [R.cell 214 rfl, R.cell 213 rfl, R.eq 212 20 rfl]
theorem pc_R.nm (R : pc_R K V P sy w i deep st g h) (x : Int) : ce_nm h x ↔ ce_nm g x := by unfold ce_nm; rw [R.cell 6 rfl]
theorem pc_R.hid (R : pc_R K V P sy w i deep st g h) (x : Int) : ce_hid h x ↔ ce_hid g x := by unfold ce_hid; rw [R.cell 6 rfl, R.cell 5 rfl]
theorem pc_R.cof (R : pc_R K V P sy w i deep st g h) (x : Int) : ce_cof sy h x = ce_cof sy g x := by
  unfold ce_cof
  rw [R.own, R.cls, R.eq 212 20 rfl]
  by_cases c : sy = true ∨ ¬ ce_hid g x
  · rw [if_pos c, if_pos (by rcases c with z | z; exact Or.inl z; exact Or.inr (fun y => z ((R.hid x).mp y)))]
  · rw [if_neg c, if_neg (by rintro (z | z); exact c (Or.inl z); exact c (Or.inr (fun y => z ((R.hid x).mpr y))))]
theorem pc_R.sof (R : pc_R K V P sy w i deep st g h) (o x : Int) : ce_sof sy h o x = ce_sof sy g o x := by
  unfold ce_sof
  rw [R.sub, R.eq 212 20 rfl]
  by_cases c : sy = false ∧ o < g 212 20 ∧ ce_hid g x
  · rw [if_pos c, if_pos ⟨c.1, c.2.1, (R.hid x).mpr c.2.2⟩]
  · rw [if_neg c, if_neg (fun z => c ⟨z.1, z.2.1, (R.hid x).mp z.2.2⟩)]
theorem pc_R.var (R : pc_R K V P sy w i deep st g h) (x : Int) : ce_var h x ↔ ce_var g x := by unfold ce_var; rw [R.vs, R.vc]
theorem pc_R.kd (R : pc_R K V P sy w i deep st g h) (x : Int) : ce_kd h x = ce_kd g x := by unfold ce_kd; rw [R.vs, R.vc, R.cell 231 rfl, R.cell 225 rfl]
theorem pc_R.pl (R : pc_R K V P sy w i deep st g h) (x : Int) : ce_pl h x = ce_pl g x := by unfold ce_pl; rw [R.vs, R.vc, R.cell 232 rfl, R.cell 226 rfl]
theorem pc_R.ty (R : pc_R K V P sy w i deep st g h) (x : Int) : ce_ty h x = ce_ty g x := by unfold ce_ty; rw [R.vs, R.vc, R.cell 233 rfl, R.cell 227 rfl]
theorem pc_R.no (R : pc_R K V P sy w i deep st g h) (x : Int) : ce_no h x = ce_no g x := by unfold ce_no; rw [R.vs, R.vc, R.cell 234 rfl, R.cell 228 rfl]
theorem pc_R.okh (R : pc_R K V P sy w i deep st g h) : ce_ok h := by
  have := R.ok
  unfold ce_ok at *
  rw [R.cell 8 rfl, R.cell 235 rfl, R.cell 213 rfl, R.cell 217 rfl, R.cell 223 rfl, R.cell 229 rfl]; exact this
section
variable (d L : Nat)
theorem vr_is (R : pc_R K V P sy w i deep st g h) (x : Int) : am_D (d + 2) 7 51 [am_r (am_a 212), am_i x] (zS L, h) = pI L (pB (ce_var g x)) h := by
  have ok := R.okh
  rw [D_7_51, fi_vs d L x ok.2.2.2.2.2.2.2, p_xI, fi_vc d L x ok.2.2.2.2.2.2.1]
  simp only [p_xI, p_bit0, p_bit1]
  rw [R.vs, R.vc]
  by_cases c : ce_vs g x = -1
  · rw [if_pos c]
    by_cases c2 : ce_vc g x = -1
    · rw [if_pos c2, pB_f (show ¬ ce_var g x by rintro (z | z); exact z c; exact z c2)]
    · rw [if_neg c2, pB_t (show ce_var g x from Or.inr c2)]
  · rw [if_neg c, pB_t (show ce_var g x from Or.inl c)]
/-- the three questions that a variable is asked -/
theorem vr_kd (R : pc_R K V P sy w i deep st g h) (x : Int) (hv : ce_var g x) : am_D (d + 2) 7 52 [am_r (am_a 212), am_i x] (zS L, h) = pI L (ce_kd g x) h := by
  have ok := R.okh
  have o1 := ok.2.2.2.2.2.2.2
  have o2 := ok.2.2.2.2.2.2.1
  rw [D_7_52, fi_vs d L x o1, p_xI, fi_vc d L x o2]
  simp only [p_xI]
  unfold ce_kd
  by_cases c : ce_vs g x = -1
  · have c2 : ce_vc g x ≠ -1 := by rcases hv with z | z; exact absurd c z; exact z
    rw [R.vs, if_pos c, if_neg (fun z => z c), R.vc]
    rcases p_find_rg (g 224) x (g 223 5).toNat 0 with z | ⟨z1, z2, -⟩
    · exact absurd z c2
    · have o3 := R.ok.2.2.2.2.2.2.1
      have z1 : (0 : Int) ≤ ce_vc g x := z1
      have z2 : ce_vc g x < (0 : Nat) + ((g 223 5).toNat : Int) := z2
      rw [p_idx z1 (by omega), R.cell 225 rfl]
  · rw [R.vs, if_neg c, if_pos c, fi_vs d L x o1, p_xI, R.vs]
    rcases p_find_rg (g 230) x (g 229 5).toNat 0 with z | ⟨z1, z2, -⟩
    · exact absurd z c
    · have o3 := R.ok.2.2.2.2.2.2.2
      have z1 : (0 : Int) ≤ ce_vs g x := z1
      have z2 : ce_vs g x < (0 : Nat) + ((g 229 5).toNat : Int) := z2
      rw [p_idx z1 (by omega), R.cell 231 rfl]
theorem vr_ty (R : pc_R K V P sy w i deep st g h) (x : Int) (hv : ce_var g x) : am_D (d + 2) 7 53 [am_r (am_a 212), am_i x] (zS L, h) = pI L (ce_ty g x) h := by
  have ok := R.okh
  have o1 := ok.2.2.2.2.2.2.2
  have o2 := ok.2.2.2.2.2.2.1
  rw [D_7_53, fi_vs d L x o1, p_xI, fi_vc d L x o2]
  simp only [p_xI]
  unfold ce_ty
  by_cases c : ce_vs g x = -1
  · have c2 : ce_vc g x ≠ -1 := by rcases hv with z | z; exact absurd c z; exact z
    rw [R.vs, if_pos c, if_neg (fun z => z c), R.vc]
    rcases p_find_rg (g 224) x (g 223 5).toNat 0 with z | ⟨z1, z2, -⟩
    · exact absurd z c2
    · have o3 := R.ok.2.2.2.2.2.2.1
      have z1 : (0 : Int) ≤ ce_vc g x := z1
      have z2 : ce_vc g x < (0 : Nat) + ((g 223 5).toNat : Int) := z2
      rw [p_idx z1 (by omega), R.cell 227 rfl]
  · rw [R.vs, if_neg c, if_pos c, fi_vs d L x o1, p_xI, R.vs]
    rcases p_find_rg (g 230) x (g 229 5).toNat 0 with z | ⟨z1, z2, -⟩
    · exact absurd z c
    · have o3 := R.ok.2.2.2.2.2.2.2
      have z1 : (0 : Int) ≤ ce_vs g x := z1
      have z2 : ce_vs g x < (0 : Nat) + ((g 229 5).toNat : Int) := z2
      rw [p_idx z1 (by omega), R.cell 233 rfl]
theorem vr_pl (R : pc_R K V P sy w i deep st g h) (x : Int) (hv : ce_var g x) : am_D (d + 2) 7 54 [am_r (am_a 212), am_i x] (zS L, h) = pI L (ce_pl g x) h := by
  have ok := R.okh
  have o1 := ok.2.2.2.2.2.2.2
  have o2 := ok.2.2.2.2.2.2.1
  rw [D_7_54, fi_vs d L x o1, p_xI, fi_vc d L x o2]
  simp only [p_xI]
  unfold ce_pl
  by_cases c : ce_vs g x = -1
  · have c2 : ce_vc g x ≠ -1 := by rcases hv with z | z; exact absurd c z; exact z
    rw [R.vs, if_pos c, if_neg (fun z => z c), R.vc]
    rcases p_find_rg (g 224) x (g 223 5).toNat 0 with z | ⟨z1, z2, -⟩
    · exact absurd z c2
    · have o3 := R.ok.2.2.2.2.2.2.1
      have z1 : (0 : Int) ≤ ce_vc g x := z1
      have z2 : ce_vc g x < (0 : Nat) + ((g 223 5).toNat : Int) := z2
      rw [p_idx z1 (by omega), R.cell 226 rfl]
  · rw [R.vs, if_neg c, if_pos c, fi_vs d L x o1, p_xI, R.vs]
    rcases p_find_rg (g 230) x (g 229 5).toNat 0 with z | ⟨z1, z2, -⟩
    · exact absurd z c
    · have o3 := R.ok.2.2.2.2.2.2.2
      have z1 : (0 : Int) ≤ ce_vs g x := z1
      have z2 : ce_vs g x < (0 : Nat) + ((g 229 5).toNat : Int) := z2
      rw [p_idx z1 (by omega), R.cell 232 rfl]
theorem vr_seg (k : Int) : am_D (d + 1) 7 55 [am_i k] (zS L, h) = pI L (ce_seg k) h := by
  rw [D_7_55]
  unfold ce_seg
  by_cases c : k = 1
  · rw [if_pos c, if_pos c]
  · rw [if_neg c, if_neg c]
    by_cases c2 : k = 2
    · rw [if_pos c2, if_pos c2]
    · rw [if_neg c2, if_neg c2]
end
end
