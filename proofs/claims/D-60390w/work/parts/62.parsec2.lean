/-! PURE LAYER, 32: statics and fields of a class -/
theorem ce_cq_b2 {β : Type} (w : Bool) (p p2 : Prop) [Decidable p] [Decidable p2] (e : Int × Int) (y : β) : ce_chk w p e (ce_q p2 (.inr y : gx_R β)) = gx_b (ce_chk w p e (.inr ())) fun _ => gx_b (ce_q p2 (.inr ())) fun _ => .inr y := by
  unfold ce_chk ce_q
  split
  · rfl
  · split <;> rfl
section
variable {K V P : Nat → Int} {sy w : Bool} {Z : Nat} {g0 : am_H} {i deep st : Nat} {g h : am_H} (d L : Nat) {β : Type}
theorem pc_N.var1 (N : pc_N K V P sy w Z g0 i deep st g h) (h5 : g 223 5 < 50) (k pl ty no x : Int) :
    pc_N K V P sy w Z g0 i deep st (ce_var1 k pl ty no x g) (am_up (am_up (am_up (am_up (am_up (am_up h 224 (g 223 5).toNat x) 225 (g 223 5).toNat k) 226 (g 223 5).toNat pl) 227 (g 223 5).toNat ty) 228 (g 223 5).toNat no) 223 5 (g 223 5 + 1)) := by
  have o := N.R.ok
  have N1 := N.up 224 (g 223 5).toNat x rfl rfl rfl (by omega) (by omega) (o.upc rfl)
  have N2 := N1.up 225 (g 223 5).toNat k rfl rfl rfl (by omega) (by omega) ((o.upc rfl).upc rfl)
  have N3 := N2.up 226 (g 223 5).toNat pl rfl rfl rfl (by omega) (by omega) (((o.upc rfl).upc rfl).upc rfl)
  have N4 := N3.up 227 (g 223 5).toNat ty rfl rfl rfl (by omega) (by omega) ((((o.upc rfl).upc rfl).upc rfl).upc rfl)
  have o5 := (((((o.upc (a := 224) (k := (g 223 5).toNat) (v := x) rfl).upc (a := 225) (k := (g 223 5).toNat) (v := k) rfl).upc (a := 226) (k := (g 223 5).toNat) (v := pl) rfl).upc (a := 227) (k := (g 223 5).toNat) (v := ty) rfl).upc (a := 228) (k := (g 223 5).toNat) (v := no) rfl)
  have N5 := N4.up 228 (g 223 5).toNat no rfl rfl rfl (by omega) (by omega) o5
  refine N5.up 223 5 (g 223 5 + 1) rfl rfl rfl (by omega) (by omega) ?_
  have a := o.2.2.2.2.2.2.1
  unfold ce_ok at o5 ⊢
  rw [p_up_c _ _ _ _ 8 (by decide), p_up_c _ _ _ _ 235 (by decide), p_up_c _ _ _ _ 213 (by decide), p_up_c _ _ _ _ 217 (by decide), p_up_c _ _ _ _ 229 (by decide), p_up_s]
  exact ⟨o5.1, o5.2.1, o5.2.2.1, o5.2.2.2.1, o5.2.2.2.2.1, o5.2.2.2.2.2.1, ⟨by omega, by omega⟩, o5.2.2.2.2.2.2.2⟩
theorem ce_var1_c (k pl ty no x : Int) (g : am_H) : ce_var1 k pl ty no x g 212 = g 212 := by
  unfold ce_var1
  rw [p_up_c _ _ _ _ _ (by omega), p_up_c _ _ _ _ _ (by omega), p_up_c _ _ _ _ _ (by omega), p_up_c _ _ _ _ _ (by omega), p_up_c _ _ _ _ _ (by omega), p_up_c _ _ _ _ _ (by omega)]
/-- names behind static or field and a type -/
theorem pn_decl (fd : Bool) {F : Nat × Nat × ce_S → gx_R β} {ok : β → Option am_O → Prop} {c e t : Int} {l : List (Int × Int × Int × Int)} (g1 : am_H) {B : Nat} (hB : B ≤ 1400000000) (fn0 vn0 : Nat) (x4 : Int) (hx4 : x4 = t) (h22 : 0 ≤ g1 212 22)
    (hk : ∀ (j fn vn os : Nat) (g h : am_H) (x5 : Int), pc_N K V P sy w Z g0 j deep st g h → (∀ k, k ≠ 15 → g 212 k = g1 212 k) → g 212 15 = g 212 22 + vn → g 212 15 ≤ 100000 → (fd = true → vn = vn0) → (fd = false → fn = fn0) → fn ≤ B → vn ≤ B → os ≤ B → pc_o L (am_E (am_D (d + 6)) m_7_34 (.inl 14) [some (am_r (am_a 212)), some (am_i fn), some (am_i os), some (am_i (pB (fd = true))), some (am_i x4), some (am_i x5)] [] (zS L, h)) g0 (F (j, (if fd = true then fn else vn), (g, t, (fn : Int), (os : Int), c, e, l))) ok) :
    ∀ (f i fn vn os : Nat) (g h : am_H) (x5 : Int), x5 ≠ 0 → pc_N K V P sy w Z g0 i deep st g h → (∀ k, k ≠ 15 → g 212 k = g1 212 k) → g 212 15 = g 212 22 + vn → g 212 15 ≤ 100000 → (fd = true → vn = vn0) → (fd = false → fn = fn0) → fn + f ≤ B → vn + f ≤ B → os + f ≤ B →
    pc_o L (am_E (am_D (d + 6)) m_7_34 (.inl 16) [some (am_r (am_a 212)), some (am_i fn), some (am_i os), some (am_i (pB (fd = true))), some (am_i x4), some (am_i x5)] [] (zS L, h)) g0 (gx_b (gp_decl sy K V P (ce w sy K V P) fd f i (if fd = true then fn else vn) (g, t, (fn : Int), (os : Int), c, e, l)) F) ok := by
  subst hx4
  intro f
  induction f with
  | zero => intro i fn vn os g h x5 _ N _ _ _ _ _ _ _ _; exact fun z => absurd z (by decide)
  | succ f ih =>
    intro i fn vn os g h x5 h5 N hg hv h15 hv0 hf0 b1 b2 b3
    rw [q_7_34_16, if_neg h5, pc_token (d + 5) L N.R N.lt, p_xI, gp_decl]
    -- the check of the kind
    have e18 : ∀ X : gx_R β, pc_o L (am_E (am_D (d + 6)) m_7_34 (.inl 18) [some (am_r (am_a 212)), some (am_i fn), some (am_i os), some (am_i (pB (fd = true))), some (am_i x4), some (am_i x5)] [am_i (pB (K i = 2)), am_r (am_a 212)] (zS L, h)) g0 X ok → pc_o L (if K i = 2 then am_E (am_D (d + 6)) m_7_34 (.inl 18) [some (am_r (am_a 212)), some (am_i fn), some (am_i os), some (am_i (pB (fd = true))), some (am_i x4), some (am_i x5)] [am_i 1, am_r (am_a 212)] (zS L, h) else am_E (am_D (d + 6)) m_7_34 (.inl 18) [some (am_r (am_a 212)), some (am_i fn), some (am_i os), some (am_i (pB (fd = true))), some (am_i x4), some (am_i x5)] [am_i 0, am_r (am_a 212)] (zS L, h)) g0 X ok := by
      intro X hX
      by_cases c : K i = 2
      · rw [if_pos c]; rw [pB_t c] at hX; exact hX
      · rw [if_neg c]; rw [pB_f c] at hX; exact hX
    refine e18 _ ?_
    rw [q_7_34_18]
    have ef : ∀ (n : Nat) (X : gx_R (Nat × Nat × ce_S)), gx_b (gx_if (K i = 2) (1, P i) (gx_if (sy = true ∨ n < 12) (2, P i) X)) F = gx_if (K i = 2) (1, P i) (gx_if (sy = true ∨ n < 12) (2, P i) (gx_b X F)) := by
      intro n X; unfold gx_if; split
      · split <;> rfl
      · rfl
    rw [ef]
    refine pn_need (d + 4) L N _ (fun hK => ?_)
    rw [N.R.syq, N.R.eq 212 15 rfl, N.R.eq 212 22 rfl, hv, show g 212 22 + (vn : Int) - g 212 22 = vn by omega, p_w (by omega) (by omega)]
    simp only [pB_0]
    have e22 : ∀ X : gx_R β, pc_o L (am_E (am_D (d + 6)) m_7_34 (.inl 22) [some (am_r (am_a 212)), some (am_i fn), some (am_i os), some (am_i (pB (fd = true))), some (am_i x4), some (am_i x5)] [am_i (pB (sy = true ∨ (if fd = true then fn else vn) < 12)), am_r (am_a 212)] (zS L, h)) g0 X ok → pc_o L (if ¬sy = true then if ¬fd = true then if (vn : Int) < 12 then am_E (am_D (d + 6)) m_7_34 (.inl 22) [some (am_r (am_a 212)), some (am_i fn), some (am_i os), some (am_i (pB (fd = true))), some (am_i x4), some (am_i x5)] [am_i 1, am_r (am_a 212)] (zS L, h) else am_E (am_D (d + 6)) m_7_34 (.inl 22) [some (am_r (am_a 212)), some (am_i fn), some (am_i os), some (am_i (pB (fd = true))), some (am_i x4), some (am_i x5)] [am_i 0, am_r (am_a 212)] (zS L, h) else if (fn : Int) < 12 then am_E (am_D (d + 6)) m_7_34 (.inl 22) [some (am_r (am_a 212)), some (am_i fn), some (am_i os), some (am_i (pB (fd = true))), some (am_i x4), some (am_i x5)] [am_i 1, am_r (am_a 212)] (zS L, h) else am_E (am_D (d + 6)) m_7_34 (.inl 22) [some (am_r (am_a 212)), some (am_i fn), some (am_i os), some (am_i (pB (fd = true))), some (am_i x4), some (am_i x5)] [am_i 0, am_r (am_a 212)] (zS L, h) else am_E (am_D (d + 6)) m_7_34 (.inl 22) [some (am_r (am_a 212)), some (am_i fn), some (am_i os), some (am_i (pB (fd = true))), some (am_i x4), some (am_i x5)] [am_i 1, am_r (am_a 212)] (zS L, h)) g0 X ok := by
      intro X hX
      by_cases hs : sy = true
      · rw [if_neg (fun z => z hs)]; rw [pB_t (Or.inl hs)] at hX; exact hX
      · rw [if_pos hs]
        by_cases hf : fd = true
        · rw [if_neg (fun z => z hf)]
          rw [if_pos hf] at hX
          by_cases c : fn < 12
          · rw [if_pos (by omega)]; rw [pB_t (Or.inr c)] at hX; exact hX
          · rw [if_neg (by omega)]; rw [pB_f (show ¬ (sy = true ∨ fn < 12) from fun z => z.elim hs c)] at hX; exact hX
        · rw [if_pos hf]
          rw [if_neg hf] at hX
          by_cases c : vn < 12
          · rw [if_pos (by omega)]; rw [pB_t (Or.inr c)] at hX; exact hX
          · rw [if_neg (by omega)]; rw [pB_f (show ¬ (sy = true ∨ vn < 12) from fun z => z.elim hs c)] at hX; exact hX
    refine e22 _ ?_
    rw [q_7_34_22]
    refine pn_room (d + 4) L N _ (fun _ => ?_)
    rw [pc_value (d + 5) L N.R N.lt, p_xI, fi_vc (d + 5) L _ N.R.okh.2.2.2.2.2.2.1, p_xI, N.R.vc]
    have e24 : ∀ X : gx_R β, pc_o L (am_E (am_D (d + 6)) m_7_34 (.inl 24) [some (am_r (am_a 212)), some (am_i fn), some (am_i os), some (am_i (pB (fd = true))), some (am_i x4), some (am_i x5)] [am_i (pB (ce_vc g (V i) = -1)), am_r (am_a 212)] (zS L, h)) g0 X ok → pc_o L (if ce_vc g (V i) = -1 then am_E (am_D (d + 6)) m_7_34 (.inl 24) [some (am_r (am_a 212)), some (am_i fn), some (am_i os), some (am_i (pB (fd = true))), some (am_i x4), some (am_i x5)] [am_i 1, am_r (am_a 212)] (zS L, h) else am_E (am_D (d + 6)) m_7_34 (.inl 24) [some (am_r (am_a 212)), some (am_i fn), some (am_i os), some (am_i (pB (fd = true))), some (am_i x4), some (am_i x5)] [am_i 0, am_r (am_a 212)] (zS L, h)) g0 X ok := by
      intro X hX
      by_cases c : ce_vc g (V i) = -1
      · rw [if_pos c]; rw [pB_t c] at hX; exact hX
      · rw [if_neg c]; rw [pB_f c] at hX; exact hX
    refine e24 _ ?_
    have e42 : ce w sy K V P (42, (i : Int), if fd = true then 1 else 0, 0) (g, x4, (fn : Int), (os : Int), c, e, l) = ce_chk w (ce_vc g (V i) = -1) (3, P i) (ce_q (g 223 5 < 50 ∧ g 212 15 < 100000) (
        if fd = true then .inr (ce_var1 4 fn x4 fn (V i) g, x4, (fn : Int) + 1, (os : Int), c, e, l)
        else .inr (am_up (ce_var1 3 (g 212 15) x4 os (V i) g) 212 15 (g 212 15 + 1), x4, (fn : Int), (os : Int) + 1, c, e, l))) := by
      show ce_chk w (ce_vc g (V ((i : Int)).toNat) = -1) (3, P ((i : Int)).toNat) (ce_q (g 223 5 < 50 ∧ g 212 15 < 100000) (
        if (if fd = true then (1 : Int) else 0) = 1 then .inr (ce_var1 4 fn x4 fn (V ((i : Int)).toNat) g, x4, (fn : Int) + 1, (os : Int), c, e, l)
        else .inr (am_up (ce_var1 3 (g 212 15) x4 os (V ((i : Int)).toNat) g) 212 15 (g 212 15 + 1), x4, (fn : Int), (os : Int) + 1, c, e, l))) = _
      rw [Int.toNat_natCast]
      cases fd with
      | true => rfl
      | false => rfl
    rw [e42, q_7_34_24, pc_here (d + 5) L N.R N.lt, p_xI, ce_chk_b, ce_chk_b]
    refine pn_check (d + 4) L N _ 3 (P i) (fun _ => ?_)
    unfold ce_q
    by_cases hq : g 223 5 < 50 ∧ g 212 15 < 100000
    · rw [if_pos hq, pc_value (d + 5) L N.R N.lt, p_xI]
      have o5 := N.R.ok.2.2.2.2.2.2.1
      have a0 : (zS L)[223]? = some (0, 15, [am_a 224, am_a 225, am_a 226, am_a 227, am_a 228, am_n]) := rfl
      -- behind the name
      have e34 : ∀ (fn vn os : Nat) (g h : am_H) (s0 s1 : Int) (u2 : Option am_V), pc_N K V P sy w Z g0 i deep st g h → (∀ k, k ≠ 15 → g 212 k = g1 212 k) → g 212 15 = g 212 22 + vn → g 212 15 ≤ 100000 → (fd = true → vn = vn0) → (fd = false → fn = fn0) → fn + f ≤ B → vn + f ≤ B → os + f ≤ B → s1 + s0 = os → 
          pc_o L (am_E (am_D (d + 6)) m_7_34 (.inl 34) [some (am_r (am_a 212)), some (am_i fn), u2, some (am_i (pB (fd = true))), some (am_i x4), some (am_i x5)] [am_i s0, am_i s1] (zS L, h)) g0 (gx_b (gx_b (gx_next sy K P i) fun j => if gx_sg K V 44 j then gx_b (gx_next sy K P j) fun j2 => gp_decl sy K V P (ce w sy K V P) fd f j2 (if fd = true then fn else vn) (g, x4, (fn : Int), (os : Int), c, e, l) else gx_b (gx_sign sy K V P 59 j) fun j2 => .inr (j2, (if fd = true then fn else vn), (g, x4, (fn : Int), (os : Int), c, e, l))) F) ok := by
        intro fn vn os g h s0 s1 u2 N hg hv h15 hv0 hf0 b1 b2 b3 es
        rw [q_7_34_34, gx_b_assoc]
        refine pn_next (d + 3) L N ⟨by rw [hK]; decide, by rw [hK]; decide⟩ (fun j h2 _ N2 => ?_)
        rw [pc_isSign (d + 4) L N2.R N2.lt, p_xI, es, p_w (by omega) (by omega)]
        simp only [pB_0]
        by_cases c44 : gx_sg K V 44 j
        · rw [if_neg (fun z => z c44), if_pos c44, gx_b_assoc]
          refine pn_next (d + 3) L N2 ⟨by rw [c44.1]; decide, by rw [c44.1]; decide⟩ (fun j3 h3 _ N3 => ?_)
          exact ih j3 fn vn os g h3 _ (by rw [pB_t c44]; decide) N3 hg hv h15 hv0 hf0 b1 b2 b3
        · rw [if_pos c44, if_neg c44, q_7_34_16, if_pos (by rw [pB_f c44]), gx_b_assoc]
          exact pn_sign (d + 2) L N2 59 (fun j3 h3 N3 => hk j3 fn vn os g h3 _ N3 hg hv h15 hv0 hf0 (by omega) (by omega) (by omega))
      cases fd with
      | true =>
        rw [if_neg (by decide), q_7_34_26, if_neg (by decide), if_neg (by decide), q_7_34_30, p_obj a0, D_15_2_223, N.R.eq 223 5 rfl, p_idx (by omega) (by omega), p_idx (by omega) (by omega), p_idx (by omega) (by omega), p_idx (by omega) (by omega), p_idx (by omega) (by omega), p_w (by omega) (by omega), p_xV, if_neg (by decide), if_neg (by decide), p_w (by omega) (by omega)]
        have N1 := N.var1 hq.1 4 fn x4 fn (V i)
        have c1 := ce_var1_c 4 fn x4 fn (V i) g
        exact e34 (fn + 1) vn os _ _ 0 os _ N1 (fun k hk => by rw [c1]; exact hg k hk) (by rw [c1]; exact hv) (by rw [c1]; exact h15) hv0 (fun z => by cases z) (by omega) (by omega) (by omega) (by omega)
      | false =>
        rw [if_pos (by decide), q_7_34_26, if_pos (by decide), if_pos (by decide), q_7_34_30, p_obj a0, D_15_2_223, N.R.eq 223 5 rfl, p_idx (by omega) (by omega), p_idx (by omega) (by omega), p_idx (by omega) (by omega), p_idx (by omega) (by omega), p_idx (by omega) (by omega), p_w (by omega) (by omega), p_xV, if_pos (by decide), if_pos (by decide), N.R.eq 212 15 rfl]
        have N1 := N.var1 hq.1 3 (g 212 15) x4 os (V i)
        have c1 := ce_var1_c 3 (g 212 15) x4 os (V i) g
        have N2 := N1.up 212 15 (g 212 15 + 1) rfl rfl rfl (by omega) (by omega) (N1.R.ok.upc rfl)
        rw [N1.R.eq 212 15 rfl, c1]
        have lo := hg 22 (by decide)
        · rw [p_w (x := g 212 15 + 1) (by omega) (by omega)]
          exact e34 fn (vn + 1) (os + 1) _ _ 1 os _ N2 (fun k hk => by rw [p_up_n _ _ _ _ _ _ (Or.inr hk), c1]; exact hg k hk) (by rw [p_up_s, p_up_n _ _ _ _ _ _ (Or.inr (by decide)), c1, hv]; omega) (by rw [p_up_s]; omega) (fun z => by cases z) hf0 (by omega) (by omega) (by omega) (by omega)
    · rw [if_neg hq]; exact fun z => absurd z (by decide)
end
