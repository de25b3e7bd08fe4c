/-! PURE LAYER, 123: both sides read a text alike -/
theorem nle_anti {x y : Int × Int} (h1 : nle x y) (h2 : nle y x) : x = y := by
  unfold nle at *
  obtain ⟨a, b⟩ := x
  obtain ⟨c, d⟩ := y
  dsimp only at *
  have : a = c := by omega
  have : b = d := by omega
  subst a; subst b; rfl
/-- a text is read without a fault: events, tables, code -/
def okL (K P V sc ss : Nat → Int) (cc cs : Nat → Nat) (b20 b21 b15 bv bl Z : Nat) (mn mM : Int) (g hm : am_H) (es : List gx_V) (p : pr_S) (S : mi_S) (c0 : am_H) (c' : ce_S) (hr h1 : am_H) : Prop :=
  (gx_fold (pr pw (kM K Z) V) es pr_0 = .inr p ∧ (p.1 9 = 0 ∨ p.1 9 = 3) ∧ gx_fold (mi V) es (mt_0 hm, -1, 0, [], []) = .inr S) ∧
  (FT b20 b21 V S.1 c0 (p.1 0) (p.1 3) ∧ SY b20 b21 sc ss cc cs S.1 c0 ∧ SKn c0 ∧ rU b20 b21 g (am_up c0 212 24 (g 212 24))) ∧
  (ml_n (kM K Z) P V sc ss S.1 = [] ∧ r2 (kM K Z) P V sc ss cc b20 b21 b15 bv bl S.1 c0 p S c' ∧ TR (kM K Z) P V sc ss cs b21 b15 S.1 c0 es pr_0 (mt_0 hm, -1, 0, [], []) (c0, 0, 0, 0, 0, 0, []) c' ∧ c0 8 3 = (bv : Int) ∧ c0 8 4 = (bl : Int) ∧ c0 235 3 = 0 ∧ cQ b20 b21 bv g c'.1) ∧
  (hA S.1 hr ∧ (∀ a, a ≠ 254 → h1 a = ml_x (kM K Z) V sc ss hr a) ∧ (∀ j, j ≠ 69 → j ≠ 70 → j ≠ 72 → h1 254 j = hr 254 j) ∧ p_fr mq_C mq_F hm h1 ∧ (0 ≤ h1 254 51 ∧ h1 254 51 ≤ 142)) ∧
  (mainOK c0 ∧ mainC c0 = (b21 : Int) + m_mainf V mn mM S.1 (S.1 254 17).toNat 0 (-1) ∧ m_mainf V mn mM S.1 (S.1 254 17).toNat 0 (-1) ≠ -1 ∧ h1 254 72 = m_mainf V mn mM S.1 (S.1 254 17).toNat 0 (-1) ∧ h1 254 69 = 0)
section
variable {K P V sc ss n6 : Nat → Int} {cc cs : Nat → Nat} {b20 b21 b15 bv bl Z n : Nat} {t : Nat → Int} {F : List (List Int)} {mn mM : Int} {g hc hm : am_H} (d e L L2 : Nat)
theorem lo_join (hd : pc_ds 2 ≤ d + 5) (A : cG K V P Z g hc) (C : cS b20 b21 b15 bv bl n6 g) (h6 : ∀ i, i < F.length → 0 ≤ n6 i ∧ n6 i < 18000) (hY : ∃ Y, Z ≤ Y ∧ Y < 4500 ∧ (K Y = 0 ∨ K Y = 6)) (Y : SY b20 b21 sc ss cc cs hm g) (Sk : SKn g) (hn : g 240 6 = (n : Int)) (h27 : g 212 27 = mn) (h26 : g 212 26 = mM) (B : mG t n F K V P sc ss Z mn mM hm) (hcl : am_cl 168 ≤ 10000) (u1 : Option am_V) (x1 : Int) :
    (∃ (x : Int × Int) (h' g' h2 : am_H), 0 < x.1 ∧ am_E (am_D (d + 10)) m_7_26 (.inl 3) [some (am_r (am_a 212)), u1, some (am_i 0), some (am_i 0)] [] (zS L, hc) = pI L x.1 h' ∧ h' 212 9 = x.1 ∧ h' 212 10 = x.2 ∧ p_fr [] pc_pf g' h' ∧ (cQ b20 b21 bv g g' ∧ ce_ok g') ∧ mLd e L2 x1 hm = pI L2 x.1 h2 ∧ h2 254 4 = x.2 ∧ p_fr mq_C mq_F hm h2 ∧ 0 ≤ h2 254 51 ∧ h2 254 51 ≤ 142) ∨
    (∃ es p S c0 c' hr h1 h', okL K P V sc ss cc cs b20 b21 b15 bv bl Z mn mM g hm es p S c0 c' hr h1 ∧ am_E (am_D (d + 10)) m_7_26 (.inl 3) [some (am_r (am_a 212)), u1, some (am_i 0), some (am_i 0)] [] (zS L, hc) = pI L 0 h' ∧ (p_fr [] pc_ps c'.1 h' ∧ ce_ok c'.1) ∧
      mLd e L2 x1 hm = am_E (am_D (e + 15)) m_17_68 (.inl 7) [some (am_r (am_a 254)), some (am_i x1), some (am_i 0)] [] (zS L2, am_up (am_up (am_up (am_up h1 254 4 (h1 254 70)) 254 4 (-1)) 254 71 1) 254 74 (h1 258 0))) := by
  have Tk := B.1
  have T := Tk.tkc hY h6
  have tp := Tk.tkP
  have hZ := Tk.2.1
  rcases m_load1 e L2 B hcl (show 3 * Z + 2 ≤ 3002 by omega) (by omega) x1 with ⟨q, ⟨q0, q8⟩, HF, h2, m1, m2, m3, m4⟩ | ⟨es, p, S, f1, f2, f3, HS, f4, f5, ⟨f6, f7, f8⟩, hr, h1, a1, a2, a3, a4, a5, rest⟩
  · obtain ⟨h', g', r1, r2, r3, r4, r5⟩ := cr_fault (d := d) (L := L) hd (by omega) A C T q8 HF u1
    exact Or.inl ⟨q, h', g', h2, q0, r1, r2, r3, r4, r5, m1, m2, m3, m4⟩
  · obtain ⟨c0, c1, c2, c3, c4, out⟩ := cr_events (d := d) (L := L) hd (by omega) A C T tp Y Sk f1 f3 f2 HS f4 f5 f6 f7 f8 u1
    have pos : ∀ x ∈ ml_n (kM K Z) P V sc ss S.1, 0 < x.1 := by
      intro q hq
      unfold ml_n at hq
      rcases List.mem_append.1 hq with z | z
      · rcases List.mem_append.1 z with z | z
        · obtain ⟨k, -, -, z⟩ := (nt_cs_mem _ _).1 z
          rw [nt_c_at z]; dsimp only; omega
        · rcases List.mem_append.1 z with z | z
          · obtain ⟨k, -, -, z⟩ := (nt_ss_mem _ _).1 z
            rcases nt_s_at z with z | z
            · rw [z]; dsimp only; omega
            · rw [(nt_ty_at z).2.2]; dsimp only; omega
          · obtain ⟨k, -, -, z⟩ := (nt_vs_mem _ _).1 z
            rcases nt_v_at z with z | z
            · rw [z]; dsimp only; omega
            · rw [(nt_ty_at z).2.2]; dsimp only; omega
      · rcases List.mem_append.1 z with z | z
        · obtain ⟨k, -, -, z⟩ := (nt_is_mem _ _).1 z
          rcases nt_i_at z with ⟨-, z⟩ | ⟨-, z⟩
          · rw [z]; dsimp only; omega
          · have := (vnt_at z).2; omega
        · obtain ⟨k, -, -, z⟩ := (nt_ks_mem _ _).1 z
          unfold nt_k nt_k2 nt_cv at z
          repeat' (first | (rcases List.mem_append.1 z with z | z) | (split at z))
          all_goals first
            | (cases z; done)
            | (rw [List.mem_singleton.1 z]; dsimp only; omega)
    have i27 : c0 212 27 = mn := by
      have := c4.2.2.2 27 (by decide)
      rw [p_up_n _ _ _ _ _ _ (Or.inr (by decide)), h27] at this
      exact this
    have i26 : c0 212 26 = mM := by
      have := c4.2.2.2 26 (by decide)
      rw [p_up_n _ _ _ _ _ _ (Or.inr (by decide)), h26] at this
      exact this
    have nil_or : ∀ x, x ∈ ml_n (kM K Z) P V sc ss S.1 → ml_n (kM K Z) P V sc ss S.1 = [] → False := fun x h1 h2 => by rw [h2] at h1; cases h1
    rcases out with ⟨x, xm, xl, h', g', r1, r2, r3, r4, r5⟩ | ⟨nil, c', w1, w2, w3, w4, w5, w6, out⟩
    · rcases rest with ⟨y, ym, yl, ye⟩ | ⟨nil, -⟩
      · have : x = y := nle_anti (xl y ym) (yl x xm)
        subst this
        refine Or.inl ⟨x, h', g', _, pos x xm, r1, r2, r3, r4, r5, ye, p_up_s _ _ _ _, fun a j z1 z2 => ?_, ?_⟩
        · rw [p_up, if_neg (fun z => by rw [z.1, z.2] at z2; cases z2)]
          exact a4 a j z1 z2
        · rw [p_up_n _ _ _ _ _ _ (Or.inr (by decide))]; exact a5
      · exact (nil_or x xm nil).elim
    · rcases rest with ⟨y, ym, -, -⟩ | ⟨-, rest⟩
      · exact (nil_or y ym nil).elim
      · have mi := main_iff c1 c2 nil
        rw [i27, i26] at mi
        rcases out with ⟨nk, h', g', r1, r2, r3, r4, r5⟩ | ⟨k, h', r1, r2⟩
        · rcases rest with ⟨e1, e2⟩ | ⟨e1, -⟩
          · refine Or.inl ⟨(7, (n : Int)), h', g', _, by show (0 : Int) < 7; decide, r1, r2, ?_, r4, r5, e2, p_up_s _ _ _ _, fun a j z1 z2 => ?_, ?_⟩
            · rw [r3]; exact hn
            · have nd : ∀ b k, mq_F.contains (b, k) = true → ¬ (a = b ∧ j = k) := fun b k hb z => by rw [z.1, z.2, hb] at z2; cases z2
              rw [p_up, if_neg (nd 254 4 rfl), p_up, if_neg (nd 254 70 rfl), p_up, if_neg (nd 254 69 rfl)]
              exact a4 a j z1 z2
            · rw [p_up_n _ _ _ _ _ _ (Or.inr (by decide)), p_up_n _ _ _ _ _ _ (Or.inr (by decide)), p_up_n _ _ _ _ _ _ (Or.inr (by decide))]; exact a5
          · exact absurd (mi.1.2 e1) nk
        · rcases rest with ⟨e1, -⟩ | ⟨e1, e2, e3, e4⟩
          · exact absurd e1 (mi.1.1 k)
          · exact Or.inr ⟨es, p, S, c0, c', hr, h1, h', ⟨⟨f1, f2, f4⟩, ⟨c1, c2, c3, c4⟩, ⟨nil, w1, w2, w3, w4, w5, w6⟩, ⟨a1, a2, a3, a4, a5⟩, k, mi.2 k, e1, e2, e3⟩, r1, r2, e4⟩
end
