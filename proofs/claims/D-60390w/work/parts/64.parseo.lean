/-! PURE LAYER, 34: the whole text, once -/
section
variable (K V P : Nat → Int) (sy w : Bool) (Z : Nat) (g0 : am_H) (L : Nat)
/-- how a reading of the text ends -/
def pc_postp (a : ce_S) (D : Option am_O) : Prop := ∃ h1, D = pV L h1 ∧ (∃ i st, pc_N K V P sy w Z g0 i 0 st a.1 h1)
end
section
variable {K V P : Nat → Int} {sy w : Bool} {Z : Nat} {g0 : am_H} (d L : Nat) {G : Nat}
theorem pn_classes (HS : pc_HS K V P sy w Z g0 L G G) (hd : pc_ds 2 ≤ d + 5) (hG : G ≤ 20000) : ∀ (f st i cn vn sn : Nat) (g h : am_H) (q : Int × Int × Int × Int × Int × List (Int × Int × Int × Int)), pc_N K V P sy w Z g0 i 0 st g h → g 212 17 = g 212 20 + cn → g 212 15 = g 212 22 + vn → g 212 16 = g 212 21 + sn → 0 ≤ g 212 20 → 0 ≤ g 212 21 → 0 ≤ g 212 22 → g 212 15 ≤ 100000 → g 212 16 ≤ 1000 → cn + f ≤ 1000000 →
    pc_o L (am_E (am_D (d + 9)) m_7_29 (.inl 3) [some (am_r (am_a 212))] [] (zS L, h)) g0 (gp_classes sy K V P (ce w sy K V P) G f st i cn vn sn (g, q)) (pc_postp K V P sy w Z g0 L) := by
  intro f
  induction f with
  | zero => intro st i cn vn sn g h q N _ _ _ _ _ _ _ _ _; exact fun z => absurd z (by decide)
  | succ f ih =>
    intro st i cn vn sn g h q N e17 e15 e16 h20 h21 h22 h15 h16 hc
    rw [q_7_29_3, pc_token (d + 8) L N.R N.lt, p_xI, gp_classes]
    by_cases k0 : K i = 0
    · rw [if_pos k0, if_pos k0]
      exact ⟨h, rfl, i, st, N⟩
    · rw [if_neg k0, if_neg k0]
      unfold gp_class
      rw [gx_b_assoc]
      show pc_o L _ g0 (gx_b (ce_h (g, q) (ce_q (g 212 17 < 1000) (.inr (am_up (am_up g 212 13 (g 212 17)) 212 17 (g 212 17 + 1))))) _) _
      refine pn_q L (fun hq => ?_)
      have N1 := N.up 212 13 (g 212 17) rfl rfl rfl (by omega) (by omega) (N.R.ok.upc rfl)
      have N2 := N1.up 212 17 (g 212 17 + 1) rfl rfl rfl (by omega) (by omega) (N1.R.ok.upc rfl)
      have k2 : ∀ k, k ≠ 13 → k ≠ 17 → am_up (am_up g 212 13 (g 212 17)) 212 17 (g 212 17 + 1) 212 k = g 212 k := fun k h1 h2 => by
        rw [p_up_n _ _ _ _ _ _ (Or.inr h2), p_up_n _ _ _ _ _ _ (Or.inr h1)]
      have k13 : am_up (am_up g 212 13 (g 212 17)) 212 17 (g 212 17 + 1) 212 13 = g 212 17 := by
        rw [p_up_n _ _ _ _ _ _ (Or.inr (by decide)), p_up_s]
      have k17 : am_up (am_up g 212 13 (g 212 17)) 212 17 (g 212 17 + 1) 212 17 = g 212 17 + 1 := p_up_s _ _ _ _
      rw [N.R.eq 212 17 rfl, p_w (by omega) (by omega)]
      generalize am_up (am_up g 212 13 (g 212 17)) 212 17 (g 212 17 + 1) = g2 at N2 k2 k13 k17
      generalize am_up (am_up h 212 13 (g 212 17)) 212 17 (g 212 17 + 1) = h2 at N2
      have t := pn_class d L HS hd hG q cn vn sn (by omega) N2 (by rw [k13, k2 20 (by decide) (by decide)]; exact e17) (by rw [k2 15 (by decide) (by decide), k2 22 (by decide) (by decide)]; exact e15) (by rw [k2 16 (by decide) (by decide), k2 21 (by decide) (by decide)]; exact e16) (by rw [k2 22 (by decide) (by decide)]; exact h22) (by rw [k2 21 (by decide) (by decide)]; exact h21) (by rw [k2 15 (by decide) (by decide)]; exact h15) (by rw [k2 16 (by decide) (by decide)]; exact h16)
      refine pc_bV (Po := fun (a : Nat × Nat × Nat × Nat × ce_S) (h1 : am_H) => pc_N K V P sy w Z g0 a.1 0 a.2.1 a.2.2.2.2.1 h1 ∧ a.2.2.2.2.1 212 17 = g2 212 17 ∧ a.2.2.2.2.1 212 15 = a.2.2.2.2.1 212 22 + a.2.2.1 ∧ a.2.2.2.2.1 212 16 = a.2.2.2.2.1 212 21 + a.2.2.2.1 ∧ a.2.2.2.2.1 212 15 ≤ 100000 ∧ a.2.2.2.2.1 212 16 ≤ 1000) t ?_
      rintro ⟨a1, a2, a3, a4, g3, q3⟩ h3 - ⟨N3, f17, f15, f16, f5, f6⟩
      have N3 : pc_N K V P sy w Z g0 a1 0 a2 g3 h3 := N3
      have c20 : g3 212 20 = g 212 20 := (N3.2.1.1 212 20 rfl rfl).trans (N.2.1.1 212 20 rfl rfl).symm
      have c21 : g3 212 21 = g 212 21 := (N3.2.1.1 212 21 rfl rfl).trans (N.2.1.1 212 21 rfl rfl).symm
      have c22 : g3 212 22 = g 212 22 := (N3.2.1.1 212 22 rfl rfl).trans (N.2.1.1 212 22 rfl rfl).symm
      have f17 : g3 212 17 = g2 212 17 := f17
      exact ih a2 a1 (cn + 1) a3 a4 g3 h3 q3 N3 (by rw [f17, k17, c20, e17]; omega) f15 f16 (by omega) (by omega) (by omega) f5 f6 (by omega)
end
/-- where a reading of the text starts -/
def pc_start (g : am_H) : am_H := am_up (am_up (am_up (am_up g 235 3 0) 212 15 (g 212 22)) 212 16 (g 212 21)) 212 17 (g 212 20)
section
variable {K V P : Nat → Int} {sy w : Bool} {Z : Nat} (d L : Nat) {G : Nat}
/-- program() -/
theorem pn_prog (hd : pc_ds 2 ≤ d + 5) (hG : G ≤ 20000) (g h : am_H) (q : Int × Int × Int × Int × Int × List (Int × Int × Int × Int)) (f : p_fr [] pc_ps g h) (hs : g 212 23 = pB (sy = true)) (hw : g 212 24 = pB (w = true)) (hK : g 241 = K) (hV : g 242 = V) (hP : g 243 = P) (ok : ce_ok g) (HZ : pc_Z K V sy Z) (hI : pc_I K Z 0) (h20 : 0 ≤ g 212 20) (h21 : 0 ≤ g 212 21 ∧ g 212 21 ≤ 1000) (h22 : 0 ≤ g 212 22 ∧ g 212 22 ≤ 100000) :
    pc_o L (am_D (d + 10) 7 29 [am_r (am_a 212)] (zS L, h)) (pc_start g) (gp sy K V P (ce w sy K V P) G (pc_start g, q)) (pc_postp K V P sy w Z (pc_start g) L) := by
  have hd6 : G ≤ 1000000 := by omega
  obtain ⟨HT, H1, H2⟩ := pn_all (K := K) (V := V) (P := P) (sy := sy) (w := w) (Z := Z) (g0 := pc_start g) L G hd6
  have HS := (pn_sts (K := K) (V := V) (P := P) (sy := sy) (w := w) (Z := Z) (g0 := pc_start g) L hd6 HT H1 H2 G).1
  have hq : ∀ (a k : Nat), pc_ps.contains (a, k) = false → h a k = g a k := fun a k hc => f a k rfl hc
  have N0 : pc_N K V P sy w Z (pc_start g) 0 0 0 (pc_start g) (am_up (am_up (am_up (am_up (am_up (am_up (am_up h 212 8 0) 212 11 0) 212 12 0) 235 3 0) 212 15 (h 212 22)) 212 16 (h 212 21)) 212 17 (h 212 20)) := by
    rw [hq 212 22 rfl, hq 212 21 rfl, hq 212 20 rfl]
    refine ⟨⟨?_, ?_, ?_, ?_, ?_, ?_, ?_, ?_, ?_, ?_⟩, ce_Q.refl _, hI, HZ, fun _ => by omega⟩
    · unfold pc_start
      exact pc_fr_both (pc_fr_both (pc_fr_both (pc_fr_both (pc_fr_up (pc_fr_up (pc_fr_up f _ _ _ rfl) _ _ _ rfl) _ _ _ rfl) _ _ _) _ _ _) _ _ _) _ _ _
    · simp [p_up]
    · simp [p_up]
    · simp only [p_up]; rfl
    · unfold pc_start; simp [p_up]; exact hs
    · unfold pc_start; simp [p_up]; exact hw
    · unfold pc_start
      rw [p_up_c _ _ _ _ _ (by decide), p_up_c _ _ _ _ _ (by decide), p_up_c _ _ _ _ _ (by decide), p_up_c _ _ _ _ _ (by decide)]; exact hK
    · unfold pc_start
      rw [p_up_c _ _ _ _ _ (by decide), p_up_c _ _ _ _ _ (by decide), p_up_c _ _ _ _ _ (by decide), p_up_c _ _ _ _ _ (by decide)]; exact hV
    · unfold pc_start
      rw [p_up_c _ _ _ _ _ (by decide), p_up_c _ _ _ _ _ (by decide), p_up_c _ _ _ _ _ (by decide), p_up_c _ _ _ _ _ (by decide)]; exact hP
    · unfold pc_start
      refine ce_ok.upc (ce_ok.upc (ce_ok.upc ?_ rfl) rfl) rfl
      unfold ce_ok at ok ⊢
      rw [p_up_c _ _ _ _ 8 (by decide), p_up_c _ _ _ _ 213 (by decide), p_up_c _ _ _ _ 217 (by decide), p_up_c _ _ _ _ 223 (by decide), p_up_c _ _ _ _ 229 (by decide), p_up_n _ _ _ _ 235 4 (Or.inr (by decide)), p_up_s]
      exact ⟨ok.1, ok.2.1, by omega, ok.2.2.2.1, ok.2.2.2.2.1, ok.2.2.2.2.2.1, ok.2.2.2.2.2.2.1, ok.2.2.2.2.2.2.2⟩
  have s17 : pc_start g 212 17 = g 212 20 := by unfold pc_start; rw [p_up_s]
  have s16 : pc_start g 212 16 = g 212 21 := by unfold pc_start; simp [p_up]
  have s15 : pc_start g 212 15 = g 212 22 := by unfold pc_start; simp [p_up]
  have s20 : pc_start g 212 20 = g 212 20 := by unfold pc_start; simp [p_up]
  have s21 : pc_start g 212 21 = g 212 21 := by unfold pc_start; simp [p_up]
  have s22 : pc_start g 212 22 = g 212 22 := by unfold pc_start; simp [p_up]
  rw [D_7_29]
  generalize am_up (am_up (am_up (am_up (am_up (am_up (am_up h 212 8 0) 212 11 0) 212 12 0) 235 3 0) 212 15 (h 212 22)) 212 16 (h 212 21)) 212 17 (h 212 20) = h0 at N0
  rw [pc_token (d + 8) L N0.R N0.lt, p_xI]
  unfold gp
  have e : (if K 0 = 6 then am_xV (zS L) (am_D (d + 9) 7 7 [am_r (am_a 212), am_i 0] (zS L, h0)) (am_up1 (zS L)) fun h3 => am_E (am_D (d + 9)) m_7_29 (.inl 3) [some (am_r (am_a 212))] [] (zS L, h3) else am_xV (zS L) (am_D (d + 9) 7 7 [am_r (am_a 212), am_i 1] (zS L, h0)) (am_up1 (zS L)) fun h4 => am_E (am_D (d + 9)) m_7_29 (.inl 3) [some (am_r (am_a 212))] [] (zS L, h4)) = am_xV (zS L) (am_D (d + 9) 7 7 [am_r (am_a 212), am_i (pB (K 0 ≠ 6))] (zS L, h0)) (am_up1 (zS L)) fun h3 => am_E (am_D (d + 9)) m_7_29 (.inl 3) [some (am_r (am_a 212))] [] (zS L, h3) := by
    by_cases c : K 0 = 6
    · rw [if_pos c, pB_f (fun z => z c)]
    · rw [if_neg c, pB_t c]
  rw [e]
  refine pn_need (d + 7) L N0 _ (fun _ => ?_)
  exact pn_classes d L HS hd hG G 0 0 0 0 0 (pc_start g) h0 q N0 (by omega) (by omega) (by omega) (by omega) (by omega) (by omega) (by omega) (by omega) (by omega)
end
