/-! PURE LAYER, 33: classes; the whole text -/
section
variable {K V P : Nat → Int} {sy w : Bool} {Z : Nat} {g0 : am_H} {i deep st : Nat} {g h : am_H} (d L : Nat) {β : Type}
/-- statics and fields -/
theorem pn_vars {G : Nat} {F : Nat × Nat × Nat × ce_S → gx_R β} {ok : β → Option am_O → Prop} {c e : Int} {l : List (Int × Int × Int × Int)} (g1 : am_H) (h22 : 0 ≤ g1 212 22)
    (hk : ∀ (j fn vn os : Nat) (t : Int) (g h : am_H) (u3 u4 u5 : Option am_V), pc_N K V P sy w Z g0 j deep st g h → (∀ k, k ≠ 15 → g 212 k = g1 212 k) → g 212 15 = g 212 22 + vn → g 212 15 ≤ 100000 → pc_o L (am_idx (h 212 13) 24 fun k10 => am_E (am_D (d + 8)) m_7_34 (.inl 37) [some (am_r (am_a 212)), some (am_i fn), some (am_i os), u3, u4, u5] [] (zS L, (am_up h 216 k10 fn))) g0 (F (j, vn, fn, (g, t, (fn : Int), (os : Int), c, e, l))) ok) :
    ∀ (f i fn vn os : Nat) (t : Int) (g h : am_H) (u3 u4 u5 : Option am_V), pc_N K V P sy w Z g0 i deep st g h → (∀ k, k ≠ 15 → g 212 k = g1 212 k) → g 212 15 = g 212 22 + vn → g 212 15 ≤ 100000 → fn + f * G ≤ 1400000000 → vn + f * G ≤ 1400000000 → os + f * G ≤ 1400000000 →
    pc_o L (am_E (am_D (d + 8)) m_7_34 (.inl 14) [some (am_r (am_a 212)), some (am_i fn), some (am_i os), u3, u4, u5] [] (zS L, h)) g0 (gx_b (gp_vars sy K V P (ce w sy K V P) G f i vn fn (g, t, (fn : Int), (os : Int), c, e, l)) F) ok := by
  intro f
  induction f with
  | zero => intro i fn vn os t g h u3 u4 u5 N _ _ _ _ _ _; exact fun z => absurd z (by decide)
  | succ f ih =>
    intro i fn vn os t g h u3 u4 u5 N hg hv h15 b1 b2 b3
    rw [Nat.succ_mul] at b1 b2 b3
    rw [q_7_34_14, gp_vars, pc_isWord (d + 6) L N.R N.lt, p_xI]
    simp only [pB_0]
    by_cases w5 : gx_wd K V 5 i
    · have w4 : ¬ gx_wd K V 4 i := fun z => by have a := z.2; have b := w5.2; omega
      rw [if_neg (fun z => z w5), if_pos w5, pc_isWord (d + 6) L N.R N.lt, p_xI, gx_b_assoc]
      refine pn_next (d + 5) L N ⟨by rw [w5.1]; decide, by rw [w5.1]; decide⟩ (fun j h1 _ N1 => ?_)
      rw [gx_b_assoc]
      refine pn_type (d + 3) L N1 (fun j2 t2 h2 N2 => ?_)
      rw [gx_b_assoc]
      have t := pn_decl (d + 2) L false (F := fun r2 : Nat × Nat × ce_S => gx_b (gp_vars sy K V P (ce w sy K V P) G f r2.1 r2.2.1 fn r2.2.2) F) (ok := ok) (c := c) (e := e) (l := l) g1 (B := max fn (max vn os) + G) (by omega) fn vn t2 rfl h22 (fun j3 fn3 vn3 os3 g3 h3 x5 N3 hg3 hv3 h153 _ hf3 b4 b5 b6 => by
        have ef := hf3 rfl
        subst ef
        rw [if_neg (by decide)]
        exact ih j3 fn3 vn3 os3 t2 g3 h3 _ _ _ N3 hg3 hv3 h153 (by omega) (by omega) (by omega)) G j2 fn vn os g h2 1 (by decide) N2 hg hv h15 (fun z => by cases z) (fun _ => rfl) (by omega) (by omega) (by omega)
      rw [pB_f (show ¬ (false = true) by decide)] at t
      rw [pB_f w4]
      exact t
    · rw [if_pos w5, if_neg w5, pc_isWord (d + 6) L N.R N.lt, p_xI]
      simp only [pB_0]
      by_cases w4 : gx_wd K V 4 i
      · rw [if_neg (fun z => z w4), if_pos w4, pc_isWord (d + 6) L N.R N.lt, p_xI, gx_b_assoc]
        refine pn_next (d + 5) L N ⟨by rw [w4.1]; decide, by rw [w4.1]; decide⟩ (fun j h1 _ N1 => ?_)
        rw [gx_b_assoc]
        refine pn_type (d + 3) L N1 (fun j2 t2 h2 N2 => ?_)
        rw [gx_b_assoc]
        have t := pn_decl (d + 2) L true (F := fun r2 : Nat × Nat × ce_S => gx_b (gp_vars sy K V P (ce w sy K V P) G f r2.1 vn r2.2.1 r2.2.2) F) (ok := ok) (c := c) (e := e) (l := l) g1 (B := max fn (max vn os) + G) (by omega) fn vn t2 rfl h22 (fun j3 fn3 vn3 os3 g3 h3 x5 N3 hg3 hv3 h153 hf3 _ b4 b5 b6 => by
          have ef := hf3 rfl
          subst ef
          rw [if_pos rfl]
          exact ih j3 fn3 vn3 os3 t2 g3 h3 _ _ _ N3 hg3 hv3 h153 (by omega) (by omega) (by omega)) G j2 fn vn os g h2 1 (by decide) N2 hg hv h15 (fun _ => rfl) (fun z => by cases z) (by omega) (by omega) (by omega)
        rw [pB_t (show (true = true) from rfl)] at t
        rw [pB_t w4]
        exact t
      · rw [if_pos w4, if_neg w4]
        exact hk i fn vn os t g h u3 u4 u5 N hg hv h15
end
section
variable (K V P : Nat → Int) (sy w : Bool) (Z : Nat) (g0 : am_H) (L : Nat)
/-- how a class ends -/
def pc_postc (g1 : am_H) (a : Nat × Nat × Nat × Nat × ce_S) (D : Option am_O) : Prop := ∃ h1, D = pV L h1 ∧ (pc_N K V P sy w Z g0 a.1 0 a.2.1 a.2.2.2.2.1 h1 ∧ a.2.2.2.2.1 212 17 = g1 212 17 ∧ a.2.2.2.2.1 212 15 = a.2.2.2.2.1 212 22 + a.2.2.1 ∧ a.2.2.2.2.1 212 16 = a.2.2.2.2.1 212 21 + a.2.2.2.1 ∧ a.2.2.2.2.1 212 15 ≤ 100000 ∧ a.2.2.2.2.1 212 16 ≤ 1000)
end
section
variable {K V P : Nat → Int} {sy w : Bool} {Z : Nat} {g0 : am_H} {i st : Nat} {g h : am_H} (d L : Nat) {G : Nat}
/-- the subs of a class, and its end -/
theorem pn_subs (HS : pc_HS K V P sy w Z g0 L G G) (hd : pc_ds 2 ≤ d + 5) (hG : G ≤ 20000) (g1 : am_H) (vn : Nat) (u1 u2 u3 u4 u5 : Option am_V) : ∀ (f st i sn : Nat) (g h : am_H) (q : Int × Int × Int × Int × Int × List (Int × Int × Int × Int)), pc_N K V P sy w Z g0 i 1 st g h → g 212 17 = g1 212 17 → g 212 15 = g 212 22 + vn → g 212 16 = g 212 21 + sn → g 212 15 ≤ 100000 → g 212 16 ≤ 1000 → 0 ≤ g 212 21 → f ≤ 20000 →
    pc_o L (am_E (am_D (d + 8)) m_7_34 (.inl 37) [some (am_r (am_a 212)), u1, u2, u3, u4, u5] [] (zS L, h)) g0 (gx_b (gp_subs sy K V P (ce w sy K V P) G f st i sn (g, q)) fun r2 => gx_b (gx_sign sy K V P 125 r2.1) fun j3 => .inr (j3, r2.2.1, vn, r2.2.2.1, r2.2.2.2)) (pc_postc K V P sy w Z g0 L g1) := by
  intro f
  induction f with
  | zero => intro st i sn g h q N _ _ _ _ _ _ _; exact fun z => absurd z (by decide)
  | succ f ih =>
    intro st i sn g h q N e17 e15 e16 h15 h16 h21 hf
    rw [q_7_34_37, gp_subs, pc_isWord (d + 6) L N.R N.lt, p_xI]
    simp only [pB_0]
    have one : (gx_wd K V 1 i ∨ gx_wd K V 2 i ∨ gx_wd K V 3 i) → pc_o L (am_xV (zS L) (am_D (d + 8) 7 38 [am_r (am_a 212)] (zS L, h)) (am_up1 (zS L)) fun h10 => am_E (am_D (d + 8)) m_7_34 (.inl 37) [some (am_r (am_a 212)), u1, u2, u3, u4, u5] [] (zS L, h10)) g0 (gx_b (if gx_wd K V 1 i ∨ gx_wd K V 2 i ∨ gx_wd K V 3 i then gx_b (gp_sub sy K V P (ce w sy K V P) G st i sn (g, q)) fun r => gp_subs sy K V P (ce w sy K V P) G f r.2.1 r.1 (sn + 1) r.2.2 else .inr (i, st, sn, (g, q))) fun r2 => gx_b (gx_sign sy K V P 125 r2.1) fun j3 => .inr (j3, r2.2.1, vn, r2.2.2.1, r2.2.2.2)) (pc_postc K V P sy w Z g0 L g1) := by
      intro hw
      have hK : K i = 1 := by rcases hw with z | z | z <;> exact z.1
      rw [if_pos hw, gx_b_assoc]
      refine pc_bV (Po := fun (a : Nat × Nat × ce_S) (h1 : am_H) => pc_N K V P sy w Z g0 a.1 1 a.2.1 a.2.2.1 h1 ∧ (∀ k, k ≠ 14 → k ≠ 16 → a.2.2.1 212 k = g 212 k) ∧ a.2.2.1 212 16 = g 212 16 + 1 ∧ a.2.2.1 212 16 ≤ 1000) (pn_sub d L HS hd hG q sn (by omega) N e16 ⟨by rw [hK]; decide, by rw [hK]; decide⟩) ?_
      rintro ⟨a1, a2, g2, q2⟩ h2 - ⟨N2, ek, e, el⟩
      have el : g2 212 16 ≤ 1000 := el
      have ek : ∀ k, k ≠ 14 → k ≠ 16 → g2 212 k = g 212 k := ek
      have e : g2 212 16 = g 212 16 + 1 := e
      exact ih a2 a1 (sn + 1) g2 h2 q2 N2 (by rw [ek 17 (by decide) (by decide)]; exact e17) (by rw [ek 15 (by decide) (by decide), ek 22 (by decide) (by decide)]; exact e15) (by rw [e, ek 21 (by decide) (by decide), e16]; omega) (by rw [ek 15 (by decide) (by decide)]; exact h15) el (by rw [ek 21 (by decide) (by decide)]; exact h21) (by omega)
    by_cases w1 : gx_wd K V 1 i
    · rw [if_neg (fun z => z w1)]; exact one (Or.inl w1)
    · rw [if_pos w1, pc_isWord (d + 6) L N.R N.lt, p_xI]
      simp only [pB_0]
      by_cases w2 : gx_wd K V 2 i
      · rw [if_neg (fun z => z w2)]; exact one (Or.inr (Or.inl w2))
      · rw [if_pos w2, pc_isWord (d + 6) L N.R N.lt, p_xI]
        simp only [pB_0]
        by_cases w3 : gx_wd K V 3 i
        · rw [if_neg (fun z => z w3)]; exact one (Or.inr (Or.inr w3))
        · have nw : ¬ (gx_wd K V 1 i ∨ gx_wd K V 2 i ∨ gx_wd K V 3 i) := fun z => z.elim w1 (fun y => y.elim w2 w3)
          rw [if_pos w3, if_neg nw, gx_b_inr]
          refine pn_sign (d + 4) L N 125 (fun j h2 N2 => ⟨_, rfl, ?_, e17, e15, e16, h15, h16⟩)
          rw [N2.R.2.2.1, p_w (by omega) (by omega)]
          exact N2.deep_ 0
variable {β : Type}
/-- oneClass() -/
theorem pn_class (HS : pc_HS K V P sy w Z g0 L G G) (hd : pc_ds 2 ≤ d + 5) (hG : G ≤ 20000) (q : Int × Int × Int × Int × Int × List (Int × Int × Int × Int)) (cn vn sn : Nat) (hc : cn ≤ 1000000) (N : pc_N K V P sy w Z g0 i 0 st g h) (e13 : g 212 13 = g 212 20 + cn) (e15 : g 212 15 = g 212 22 + vn) (e16 : g 212 16 = g 212 21 + sn) (h22 : 0 ≤ g 212 22) (h21 : 0 ≤ g 212 21) (h15 : g 212 15 ≤ 100000) (h16 : g 212 16 ≤ 1000) :
    pc_o L (am_D (d + 9) 7 34 [am_r (am_a 212)] (zS L, h)) g0 (gx_b (gx_word sy K V P 0 i) fun j => gx_if (K j = 2) (1, P j) (gx_if (sy = true ∨ cn < 12) (2, P j) (gx_b (ce w sy K V P (40, (j : Int), 0, 0) (g, q)) fun s1 => gx_b (gx_next sy K P j) fun j1 => gx_b (gx_sign sy K V P 123 j1) fun j2 => gx_b (ce w sy K V P (38, 0, 0, 0) s1) fun s1 =>
      gx_b (gp_vars sy K V P (ce w sy K V P) G G j2 vn 0 s1) fun r => gx_b (ce w sy K V P (43, 0, 0, 0) r.2.2.2) fun s2 => gx_b (gp_subs sy K V P (ce w sy K V P) G G st r.1 sn s2) fun r2 => gx_b (gx_sign sy K V P 125 r2.1) fun j3 => .inr (j3, r2.2.1, r.2.1, r2.2.2.1, r2.2.2.2)))) (pc_postc K V P sy w Z g0 L g) := by
  obtain ⟨t, a, b, c, e, l⟩ := q
  rw [D_7_34, pc_isWord (d + 6) L N.R N.lt, p_xI]
  unfold gx_word
  rw [gx_if_b, ← gx_if_u]
  refine pn_need (d + 6) L N _ (fun hw0 => ?_)
  refine pn_next (d + 5) L N ⟨by rw [hw0.1]; decide, by rw [hw0.1]; decide⟩ (fun j h1 _ N1 => ?_)
  rw [pc_token (d + 7) L N1.R N1.lt, p_xI]
  have hGG : G * G ≤ 20000 * 20000 := Nat.mul_le_mul hG hG
  -- behind the name
  have e13' : ∀ (g3 h3 : am_H) (u1 u2 u3 u4 u5 : Option am_V), K j = 2 → pc_N K V P sy w Z g0 j 0 st g3 h3 → (∀ k, g3 212 k = g 212 k) → pc_o L (am_E (am_D (d + 8)) m_7_34 (.inl 13) [some (am_r (am_a 212)), u1, u2, u3, u4, u5] [] (zS L, h3)) g0 (gx_b (gx_next sy K P j) fun j1 => gx_b (gx_sign sy K V P 123 j1) fun j2 => gx_b (ce w sy K V P (38, 0, 0, 0) (g3, t, a, b, c, e, l)) fun s1 =>
      gx_b (gp_vars sy K V P (ce w sy K V P) G G j2 vn 0 s1) fun r => gx_b (ce w sy K V P (43, 0, 0, 0) r.2.2.2) fun s2 => gx_b (gp_subs sy K V P (ce w sy K V P) G G st r.1 sn s2) fun r2 => gx_b (gx_sign sy K V P 125 r2.1) fun j3 => .inr (j3, r2.2.1, r.2.1, r2.2.2.1, r2.2.2.2)) (pc_postc K V P sy w Z g0 L g) := by
    intro g3 h3 u1 u2 u3 u4 u5 hK N3 eg
    rw [q_7_34_13]
    refine pn_next (d + 5) L N3 ⟨by rw [hK]; decide, by rw [hK]; decide⟩ (fun j4 h4 _ N4 => ?_)
    refine pn_sign (d + 4) L N4 123 (fun j5 h5 N5 => ?_)
    show pc_o L _ g0 (gx_b (gp_vars sy K V P (ce w sy K V P) G G j5 vn 0 (am_up (am_up g3 223 5 0) 212 18 (g3 212 16), t, 0, 0, 0, 0, l)) _) _
    have N6 : pc_N K V P sy w Z g0 j5 1 st (am_up (am_up g3 223 5 0) 212 18 (g3 212 16)) (am_up (am_up (am_up h5 212 11 (am_w (h5 212 11 + 1))) 223 5 0) 212 18 (h5 212 16)) := by
      rw [N5.R.2.2.1, p_w (by omega) (by omega), N5.R.eq 212 16 rfl]
      have n1 := N5.deep_ 1
      have n2 := n1.up 223 5 0 rfl rfl rfl (by omega) (by omega) (by
        have o := n1.R.ok
        unfold ce_ok at o ⊢
        rw [p_up_c _ _ _ _ 8 (by decide), p_up_c _ _ _ _ 213 (by decide), p_up_c _ _ _ _ 217 (by decide), p_up_c _ _ _ _ 229 (by decide), p_up_c _ _ _ _ 235 (by decide), p_up_s]
        exact ⟨o.1, o.2.1, o.2.2.1, o.2.2.2.1, o.2.2.2.2.1, o.2.2.2.2.2.1, by omega, o.2.2.2.2.2.2.2⟩)
      exact n2.up 212 18 (g3 212 16) rfl rfl rfl (by omega) (by omega) (n2.R.ok.upc rfl)
    have eg6 : ∀ k, k ≠ 18 → am_up (am_up g3 223 5 0) 212 18 (g3 212 16) 212 k = g 212 k := fun k hk => by
      rw [p_up_n _ _ _ _ _ _ (Or.inr hk), p_up_c _ _ _ _ _ (by decide)]; exact eg k
    generalize am_up (am_up g3 223 5 0) 212 18 (g3 212 16) = g6 at N6 eg6
    generalize am_up (am_up (am_up h5 212 11 (am_w (h5 212 11 + 1))) 223 5 0) 212 18 (h5 212 16) = h6 at N6
    have tt := pn_vars d L (G := G) (F := fun r : Nat × Nat × Nat × ce_S => gx_b (ce w sy K V P (43, 0, 0, 0) r.2.2.2) fun s2 => gx_b (gp_subs sy K V P (ce w sy K V P) G G st r.1 sn s2) fun r2 => gx_b (gx_sign sy K V P 125 r2.1) fun j3 => .inr (j3, r2.2.1, r.2.1, r2.2.2.1, r2.2.2.2)) (ok := pc_postc K V P sy w Z g0 L g) (c := 0) (e := 0) (l := l) g6 (by rw [eg6 22 (by decide)]; exact h22)
      (fun j7 fn7 vn7 os7 t7 g7 h7 v3 v4 v5 N7 hg7 hv7 h157 => by
        have k7 : ∀ k, k ≠ 15 → k ≠ 18 → g7 212 k = g 212 k := fun k h1 h2 => by rw [hg7 k h1]; exact eg6 k h2
        show pc_o L _ g0 (gx_b (ce_h (g7, t7, (fn7 : Int), (os7 : Int), 0, 0, l) (ce_q (0 ≤ g7 212 20 ∧ g7 212 20 ≤ g7 212 13 ∧ g7 212 13 < 24) (.inr (am_up g7 216 (g7 212 13).toNat fn7)))) _) _
        refine pn_q L (fun hq => ?_)
        rw [N7.R.eq 212 13 rfl, p_idx (by omega) (by omega)]
        have N8 := N7.up 216 (g7 212 13).toNat fn7 rfl rfl rfl (by intro _; omega) (by omega) (N7.R.ok.upc rfl)
        have c8 : am_up g7 216 (g7 212 13).toNat fn7 212 = g7 212 := p_up_c _ _ _ _ _ (by decide)
        exact pn_subs d L HS hd hG g vn7 _ _ _ _ _ G st j7 sn _ _ _ N8 (by rw [c8]; exact k7 17 (by decide) (by decide)) (by rw [c8]; exact hv7) (by rw [c8, k7 16 (by decide) (by decide), k7 21 (by decide) (by decide)]; exact e16) (by rw [c8]; exact h157) (by rw [c8, k7 16 (by decide) (by decide)]; exact h16) (by rw [c8, k7 21 (by decide) (by decide)]; exact h21) hG)
      G j5 0 vn 0 t g6 h6 u3 u4 u5 N6 (fun k _ => rfl) (by rw [eg6 15 (by decide), eg6 22 (by decide)]; exact e15) (by rw [eg6 15 (by decide)]; exact h15) (by omega) (by omega) (by omega)
    exact tt
  have e2 : pc_o L (am_E (am_D (d + 8)) m_7_34 (.inl 2) [some (am_r (am_a 212)), none, none, none, none, none] [am_i (pB (K j = 2)), am_r (am_a 212)] (zS L, h1)) g0 (gx_if (K j = 2) (1, P j) (gx_if (sy = true ∨ cn < 12) (2, P j) (gx_b (ce w sy K V P (40, (j : Int), 0, 0) (g, t, a, b, c, e, l)) fun s1 => gx_b (gx_next sy K P j) fun j1 => gx_b (gx_sign sy K V P 123 j1) fun j2 => gx_b (ce w sy K V P (38, 0, 0, 0) s1) fun s1 =>
      gx_b (gp_vars sy K V P (ce w sy K V P) G G j2 vn 0 s1) fun r => gx_b (ce w sy K V P (43, 0, 0, 0) r.2.2.2) fun s2 => gx_b (gp_subs sy K V P (ce w sy K V P) G G st r.1 sn s2) fun r2 => gx_b (gx_sign sy K V P 125 r2.1) fun j3 => .inr (j3, r2.2.1, r.2.1, r2.2.2.1, r2.2.2.2)))) (pc_postc K V P sy w Z g0 L g) := by
    rw [q_7_34_2]
    refine pn_need (d + 6) L N1 _ (fun hK => ?_)
    rw [N1.R.syq, N1.R.eq 212 13 rfl, N1.R.eq 212 20 rfl, e13, show g 212 20 + (cn : Int) - g 212 20 = cn by omega, p_w (by omega) (by omega)]
    simp only [pB_0]
    have e5 : (if ¬sy = true then if (cn : Int) < 12 then am_E (am_D (d + 8)) m_7_34 (.inl 5) [some (am_r (am_a 212)), none, none, none, none, none] [am_i 1, am_r (am_a 212)] (zS L, h1) else am_E (am_D (d + 8)) m_7_34 (.inl 5) [some (am_r (am_a 212)), none, none, none, none, none] [am_i 0, am_r (am_a 212)] (zS L, h1) else am_E (am_D (d + 8)) m_7_34 (.inl 5) [some (am_r (am_a 212)), none, none, none, none, none] [am_i 1, am_r (am_a 212)] (zS L, h1)) = am_E (am_D (d + 8)) m_7_34 (.inl 5) [some (am_r (am_a 212)), none, none, none, none, none] [am_i (pB (sy = true ∨ cn < 12)), am_r (am_a 212)] (zS L, h1) := by
      by_cases hs : sy = true
      · rw [if_neg (fun z => z hs), pB_t (Or.inl hs)]
      · rw [if_pos hs]
        by_cases c : cn < 12
        · rw [if_pos (by omega), pB_t (Or.inr c)]
        · rw [if_neg (by omega), pB_f (fun z => z.elim hs c)]
    rw [e5, q_7_34_5]
    refine pn_room (d + 6) L N1 _ (fun _ => ?_)
    show pc_o L _ g0 (gx_b (ce_h (g, t, a, b, c, e, l) (ce_q (ce_nm g (V ((j : Int)).toNat) ∧ 0 ≤ g 212 20 ∧ g 212 20 ≤ g 213 3 ∧ g 212 20 ≤ g 212 13 ∧ g 212 13 < 24)
      (if w = true then ce_chk w (ce_cls g (V ((j : Int)).toNat) = g 212 13 ∨ (sy = false ∧ ce_hid g (V ((j : Int)).toNat) ∧ ce_own g (V ((j : Int)).toNat) = g 212 13)) (3, P ((j : Int)).toNat) (.inr g)
       else ce_q (g 213 3 < 24) (.inr (am_up (am_up (am_up (am_up (am_up g 214 (g 213 3).toNat (V ((j : Int)).toNat)) 215 (g 213 3).toNat 1) 216 (g 213 3).toNat 0) 213 3 (g 213 3 + 1)) 215 (g 212 13).toNat (if sy = false ∨ V ((j : Int)).toNat = g 212 30 ∨ ce_hid g (V ((j : Int)).toNat) then 1 else 0)))))) _) _
    rw [Int.toNat_natCast]
    refine pn_q L (fun hq => ?_)
    have hn := (N1.R.nm (V j)).mpr hq.1
    rw [N1.wr]
    simp only [pB_0]
    by_cases hw : w = true
    · rw [if_neg (fun z => z hw), if_pos hw, pc_value (d + 7) L N1.R N1.lt, p_xI, fi_cls (d + 7) L _ N1.R.okh.2.2.2.2.1, p_xI, N1.R.cls, N1.R.eq 212 13 rfl, N1.R.syq]
      simp only [pB_0]
      have h20 : 0 ≤ h1 212 20 ∧ h1 212 20 ≤ h1 213 3 := by rw [N1.R.eq 212 20 rfl, N1.R.eq 213 3 rfl]; exact ⟨hq.2.1, hq.2.2.1⟩
      have fin : ∀ s0 : Int, s0 = pB (ce_cls g (V j) = g 212 13 ∨ (sy = false ∧ ce_hid g (V j) ∧ ce_own g (V j) = g 212 13)) → pc_o L (am_xI (zS L) (am_D (d + 8) 7 3 [am_r (am_a 212)] (zS L, h1)) (am_up1 (zS L)) fun v17 h16 => am_xV (zS L) (am_D (d + 8) 7 9 [am_r (am_a 212), am_i s0, am_i 3, am_i v17] (zS L, h16)) (am_up1 (zS L)) fun h18 => am_E (am_D (d + 8)) m_7_34 (.inl 13) [some (am_r (am_a 212)), none, none, none, none, none] [] (zS L, h18)) g0 (gx_b (ce_h (g, t, a, b, c, e, l) (ce_chk w (ce_cls g (V j) = g 212 13 ∨ (sy = false ∧ ce_hid g (V j) ∧ ce_own g (V j) = g 212 13)) (3, P j) (.inr g))) fun s1 => gx_b (gx_next sy K P j) fun j1 => gx_b (gx_sign sy K V P 123 j1) fun j2 => gx_b (ce w sy K V P (38, 0, 0, 0) s1) fun s1 =>
          gx_b (gp_vars sy K V P (ce w sy K V P) G G j2 vn 0 s1) fun r => gx_b (ce w sy K V P (43, 0, 0, 0) r.2.2.2) fun s2 => gx_b (gp_subs sy K V P (ce w sy K V P) G G st r.1 sn s2) fun r2 => gx_b (gx_sign sy K V P 125 r2.1) fun j3 => .inr (j3, r2.2.1, r.2.1, r2.2.2.1, r2.2.2.2)) (pc_postc K V P sy w Z g0 L g) := by
        intro s0 es
        rw [pc_here (d + 7) L N1.R N1.lt, p_xI, es]
        refine pn_chk (d + 6) L N1 _ _ (fun _ => ?_)
        exact e13' g h1 _ _ _ _ _ hK N1 (fun k => rfl)
      by_cases c1 : ce_cls g (V j) = g 212 13
      · rw [if_pos c1]; exact fin 1 (by rw [pB_t (Or.inl c1)])
      · rw [if_neg c1]
        by_cases hs : sy = true
        · rw [if_neg (fun z => z hs)]; exact fin 0 (by rw [pB_f]; rintro (z | ⟨z, -⟩); exact c1 z; rw [hs] at z; cases z)
        · have hs' : sy = false := by simpa using hs
          rw [if_pos hs, pc_value (d + 7) L N1.R N1.lt, p_xI, fi_hid (d + 7) L _ hn, p_xI, pB_congr (N1.R.hid (V j))]
          simp only [pB_0]
          by_cases c2 : ce_hid g (V j)
          · rw [if_neg (fun z => z c2), pc_value (d + 7) L N1.R N1.lt, p_xI, fi_own (d + 7) L _ N1.R.okh.2.2.2.2.1 h20, p_xI, N1.R.own, N1.R.eq 212 13 rfl]
            by_cases c3 : ce_own g (V j) = g 212 13
            · rw [if_pos c3]; exact fin 1 (by rw [pB_t (Or.inr ⟨hs', c2, c3⟩)])
            · rw [if_neg c3]; exact fin 0 (by rw [pB_f]; rintro (z | ⟨-, -, z⟩); exact c1 z; exact c3 z)
          · rw [if_pos c2]; exact fin 0 (by rw [pB_f]; rintro (z | ⟨-, z, -⟩); exact c1 z; exact c2 z)
    · rw [if_pos hw, if_neg hw]
      refine pn_q L (fun h24 => ?_)
      have o := N1.R.ok
      have a3 := o.2.2.2.2.1
      rw [pc_value (d + 7) L N1.R N1.lt, p_xI, D_6_2, N1.R.eq 213 3 rfl, p_idx (by omega) (by omega), p_bit1, p_idx (by omega) (by omega), p_idx (by omega) (by omega), p_w (by omega) (by omega), p_xV]
      have n1 := N1.up 214 (g 213 3).toNat (V j) rfl rfl rfl (by intro _; omega) (by omega) (o.upc rfl)
      have n2 := n1.up 215 (g 213 3).toNat 1 rfl rfl rfl (by intro _; rw [p_up_c _ _ _ _ 212 (by decide)]; omega) (by omega) ((o.upc rfl).upc rfl)
      have n3 := n2.up 216 (g 213 3).toNat 0 rfl rfl rfl (by intro _; rw [p_up_c _ _ _ _ 212 (by decide), p_up_c _ _ _ _ 212 (by decide)]; omega) (by omega) (((o.upc rfl).upc rfl).upc rfl)
      have o3 := n3.R.ok
      have n4 := n3.up 213 3 (g 213 3 + 1) rfl rfl rfl (by omega) (by omega) (by
        unfold ce_ok at o3 ⊢
        rw [p_up_c _ 213 _ _ 8 (by decide), p_up_c _ 213 _ _ 217 (by decide), p_up_c _ 213 _ _ 229 (by decide), p_up_c _ 213 _ _ 223 (by decide), p_up_c _ 213 _ _ 235 (by decide), p_up_s]
        exact ⟨o3.1, o3.2.1, o3.2.2.1, o3.2.2.2.1, by omega, o3.2.2.2.2.2.1, o3.2.2.2.2.2.2.1, o3.2.2.2.2.2.2.2⟩)
      have c4 : am_up (am_up (am_up (am_up g 214 (g 213 3).toNat (V j)) 215 (g 213 3).toNat 1) 216 (g 213 3).toNat 0) 213 3 (g 213 3 + 1) 212 = g 212 := by
        rw [p_up_c _ _ _ _ _ (by decide), p_up_c _ _ _ _ _ (by decide), p_up_c _ _ _ _ _ (by decide), p_up_c _ _ _ _ _ (by decide)]
      have r4 := n4.R
      have go : ∀ v : Int, pc_o L (am_E (am_D (d + 8)) m_7_34 (.inl 13) [some (am_r (am_a 212)), none, none, none, none, none] [] (zS L, am_up (am_up (am_up (am_up (am_up h1 214 (g 213 3).toNat (V j)) 215 (g 213 3).toNat 1) 216 (g 213 3).toNat 0) 213 3 (g 213 3 + 1)) 215 (g 212 13).toNat v)) g0 (gx_b (ce_h (g, t, a, b, c, e, l) (.inr (am_up (am_up (am_up (am_up (am_up g 214 (g 213 3).toNat (V j)) 215 (g 213 3).toNat 1) 216 (g 213 3).toNat 0) 213 3 (g 213 3 + 1)) 215 (g 212 13).toNat v))) fun s1 => gx_b (gx_next sy K P j) fun j1 => gx_b (gx_sign sy K V P 123 j1) fun j2 => gx_b (ce w sy K V P (38, 0, 0, 0) s1) fun s1 =>
          gx_b (gp_vars sy K V P (ce w sy K V P) G G j2 vn 0 s1) fun r => gx_b (ce w sy K V P (43, 0, 0, 0) r.2.2.2) fun s2 => gx_b (gp_subs sy K V P (ce w sy K V P) G G st r.1 sn s2) fun r2 => gx_b (gx_sign sy K V P 125 r2.1) fun j3 => .inr (j3, r2.2.1, r.2.1, r2.2.2.1, r2.2.2.2)) (pc_postc K V P sy w Z g0 L g) := by
        intro v
        have n5 := n4.up 215 (g 212 13).toNat v rfl rfl rfl (by intro _; rw [c4]; omega) (by omega) (n4.R.ok.upc rfl)
        exact e13' _ _ _ _ _ _ _ hK n5 (fun k => by rw [p_up_c _ _ _ _ 212 (by decide), c4])
      rw [r4.syq, r4.eq 212 13 rfl, c4]
      simp only [pB_0]
      by_cases hs : sy = true
      · have hs' : ¬ sy = false := by rw [hs]; decide
        have hn4 : ce_nm (am_up (am_up (am_up (am_up h1 214 (g 213 3).toNat (V j)) 215 (g 213 3).toNat 1) 216 (g 213 3).toNat 0) 213 3 (g 213 3 + 1)) (V j) := by
          rw [r4.nm]; unfold ce_nm
          rw [p_up_c _ _ _ _ 6 (by decide), p_up_c _ _ _ _ 6 (by decide), p_up_c _ _ _ _ 6 (by decide), p_up_c _ _ _ _ 6 (by decide)]
          exact hq.1
        have hid4 : ce_hid (am_up (am_up (am_up (am_up h1 214 (g 213 3).toNat (V j)) 215 (g 213 3).toNat 1) 216 (g 213 3).toNat 0) 213 3 (g 213 3 + 1)) (V j) ↔ ce_hid g (V j) := by
          rw [r4.hid]; unfold ce_hid
          rw [p_up_c _ _ _ _ 6 (by decide), p_up_c _ _ _ _ 6 (by decide), p_up_c _ _ _ _ 6 (by decide), p_up_c _ _ _ _ 6 (by decide), p_up_c _ _ _ _ 5 (by decide), p_up_c _ _ _ _ 5 (by decide), p_up_c _ _ _ _ 5 (by decide), p_up_c _ _ _ _ 5 (by decide)]
        rw [if_neg (fun z => z hs), pc_value (d + 7) L r4 N1.lt, p_xI, D_7_35, r4.eq 212 30 rfl, c4]
        by_cases c1 : V j = g 212 30
        · rw [if_pos c1, p_bit1, p_xI, if_neg (by decide), p_bit1, p_idx (by omega) (by omega), if_pos (Or.inr (Or.inl c1))]
          exact go 1
        · rw [if_neg c1, fi_hid (d + 6) L _ hn4, p_xI, pB_congr hid4]
          simp only [pB_0]
          by_cases c2 : ce_hid g (V j)
          · rw [if_neg (fun z => z c2), p_bit1, p_xI, if_neg (by decide), p_bit1, p_idx (by omega) (by omega), if_pos (Or.inr (Or.inr c2))]
            exact go 1
          · rw [if_pos c2, p_bit0, p_xI, if_pos rfl, p_bit0, p_idx (by omega) (by omega), if_neg (fun z => z.elim hs' (fun y => y.elim c1 c2))]
            exact go 0
      · rw [if_pos hs, p_bit1, p_idx (by omega) (by omega), if_pos (Or.inl (by simpa using hs))]
        exact go 1
  by_cases c2 : K j = 2
  · rw [if_pos c2]; rw [pB_t c2] at e2; exact e2
  · rw [if_neg c2]; rw [pB_f c2] at e2; exact e2
end
