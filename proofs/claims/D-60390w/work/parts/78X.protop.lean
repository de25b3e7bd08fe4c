/-! PURE LAYER, 78: a sub, a class, a text keep to the protocol -/
section
variable {w : Nat → Nat → Nat} {K V P : Nat → Int} {σ : Type} {C : gx_V → σ → gx_R σ} {π : σ → pr_S} {nx : Nat → gx_R Nat} {sx : Nat → Int × Int} {Z : Nat}
/-- a sub, from its name on: 2 events stand ahead of it -/
theorem xp_sub_N1 (H : pr_H w K V C π nx sx Z) {g j st sn : Nat} {s : σ} (hg : 3 * Z + 2 ≤ g) (X : pD Z 3 j st (π s)) (hb : ∀ k, (π s).2.2.2 k + 2 ≤ 2 * j + 60) (hs : (π s).1 3 = sn) (h17 : (π s).1 17 = 1) : nb (gx_if (K j = 2) (sx j) (gx_if (sn < 60) (2, P j) (
    gx_b (C (45, (j : Int), 0, 0) s) fun s1 => gx_b (nx j) fun j2 => gx_b (C (51, 0, 0, 0) s1) fun s1 => gx_b (xx_sign nx sx K V 40 j2) fun j3 => gx_b (xp_pars nx sx K V P C g j3 0 s1) fun r2 => gx_b (C (47, 0, 0, 0) r2.2) fun s2 =>
    gx_b (xx_opens nx sx K V P 123 1 r2.1) fun j4 => gx_b (xp_locs nx sx K V P C g g j4 0 s2) fun r3 => gx_b (C (48, 0, 0, 0) r3.2) fun s3 => gx_b (xs nx sx K V P C g g 0 2 st r3.1 s3) fun r4 => gx_b (xx_sign nx sx K V 125 r4.1) fun j5 => gx_b (C (49, 0, 0, 0) r4.2.2) fun s4 => (.inr (j5, r4.2.1, s4) : gx_R (Nat × Nat × σ)))))
    (fun a => j < a.1 ∧ a.1 ≤ Z ∧ (∀ n, n ∉ [10, 11, 13, 3, 4, 5, 8, 14, 15, 16, 17] → (π a.2.2).1 n = (π s).1 n) ∧ (π a.2.2).1 10 ≤ a.1 ∧ (π a.2.2).2.1 = [] ∧ (π a.2.2).2.2.1 = [] ∧ (∀ k, (π a.2.2).2.2.2 k + 2 * j ≤ (π s).2.2.2 k + 2 * a.1 + 2) ∧ (π a.2.2).1 3 = sn + 1 ∧ (π a.2.2).1 8 = a.2.1 ∧ (π a.2.2).1 14 = 0) := by
  have hw := H.1
  have hZ := H.2.2.2.2.1
  have hKZ := H.2.2.2.2.2.1
  obtain ⟨X1, X2, X3, X4, X5, X6, X7, X8⟩ := X
  refine nb_if (H.2.2.2.1 _) (fun k2 => nb_if (show (2 : Int) < 8 by decide) (fun h60 => ?_))
  have hj := hKZ j X4 (by rw [k2]; decide)
  have ev : pr w K V (45, (j : Int), 0, 0) (π s) = .inr (pu (pu (pu (pu (pu (pu (pu (π s).1 13 0) 3 ((π s).1 3 + 1)) 4 0) 5 0) 9 4) 10 ((j : Int).toNat + 1)) 14 0, (π s).2.1, (π s).2.2.1, fun k => (π s).2.2.2 k + w k 45) := pr_ok ⟨⟨X1, h17⟩, by omega, pr_tk X2 (by omega) k2⟩ (fun k => by have := X5 k; have := (hw k).2.2.2.2; omega)
  rw [hs, Int.toNat_natCast] at ev
  refine nb_C H ev (fun s1 e1 => nb_n H ?_)
  obtain ⟨q1, q2, q3, q4⟩ := pr_parts e1
  have a9 : (π s1).1 9 = 4 := by rw [q1]; simp [pu]
  have a4 : (π s1).1 4 = 0 := by rw [q1]; simp [pu]
  refine nb_C H (p' := (pu (π s1).1 13 1, (π s1).2.1, (π s1).2.2.1, fun k => (π s1).2.2.2 k + w k 51)) (pr_ok ⟨a9, a4, by rw [q1]; rfl, by rw [q1]; rfl, by rw [q1]; rfl⟩ (fun k => by rw [q4 k]; have := X5 k; have := (hw k).2.2.2.2; omega)) (fun s2 e2 => nb_sg H (by omega) (fun hj2 => ?_))
  obtain ⟨u1, u2, u3, u4⟩ := pr_parts e2
  have Y2 : pD Z 4 (j + 1 + 1) st (π s2) := ⟨by rw [u1, pu_n _ _ _ _ (by decide)]; exact a9, by rw [u1, q1]; simp [pu], by rw [u1, q1]; simp [pu]; exact X3, by omega, fun k => by rw [u4 k, q4 k]; have := X5 k; have := (hw k).2.2.2.2; omega, by rw [u1, q1]; simp [pu]; exact X6, by rw [u2, q2]; exact X7, by rw [u3, q3]; exact X8⟩
  refine nb_b (xp_pars_N H g (j + 1 + 1) 0 st s2 Y2 ⟨by rw [u1, pu_s], by rw [u1, q1]; rfl⟩ (by rw [u1, pu_n _ _ _ _ (by decide)]; exact a4) (by omega)) (fun r2 h2 => ?_)
  obtain ⟨b1, b2, B, b3⟩ := h2
  have Y3 := B.d Y2 b2 (by simp) (by simp) (by simp)
  have f14 : (π r2.2).1 14 = 0 := by rw [B.1 14 (by simp), u1, q1]; rfl
  refine nb_C H (p' := (pu (π r2.2).1 9 5, (π r2.2).2.1, (π r2.2).2.2.1, fun k => (π r2.2).2.2.2 k + w k 47)) (pr_ok ⟨Y3.1, f14, by rw [B.1 13 (by simp), u1, pu_s]⟩ (pD_b H Y3 (fun k => by have := (hw k).2.2.2.2; omega))) (fun s3 e3 => nb_ops H b2 (fun hr _ => ?_))
  obtain ⟨v1, v2, v3, v4⟩ := pr_parts e3
  have Y4 : pD Z 5 (r2.1 + 1) st (π s3) := ⟨by rw [v1, pu_s], by rw [v1, pu_n _ _ _ _ (by decide)]; have := Y3.2.1; omega, by rw [v1, pu_n _ _ _ _ (by decide)]; exact Y3.2.2.1, by omega, fun k => by rw [v4 k]; have := Y3.2.2.2.2.1 k; have := (hw k).2.2.2.2; omega, by rw [v1, pu_n _ _ _ _ (by decide)]; exact Y3.2.2.2.2.2.1, by rw [v2]; exact Y3.2.2.2.2.2.2.1, by rw [v3]; exact Y3.2.2.2.2.2.2.2⟩
  have a5 : (π s3).1 5 = 0 := by rw [v1, pu_n _ _ _ _ (by decide), B.1 5 (by simp), u1, q1]; simp [pu]
  refine nb_b (xp_locs_N H (by omega) g (r2.1 + 1) 0 st s3 Y4 ⟨by rw [v1, pu_n _ _ _ _ (by decide), B.1 13 (by simp), u1, pu_s], by rw [v1, pu_n _ _ _ _ (by decide)]; exact f14⟩ a5 (by omega)) (fun r3 h3 => ?_)
  obtain ⟨c1, c2, D⟩ := h3
  have Y5 := D.d Y4 c2 (by simp) (by simp) (by simp)
  have ek : ∀ k, (π r3.2).2.2.2 k + 2 * j + 8 ≤ (π s).2.2.2 k + w k 45 + w k 51 + w k 47 + 2 * r3.1 := by
    intro k
    have t1 := b3 k
    have t2 := D.2.2.2.2 k
    rw [u4 k, q4 k] at t1
    rw [v4 k] at t2
    omega
  refine nb_C H (p' := (pu (pu (pu (π r3.2).1 9 6) 15 0) 16 0, (π r3.2).2.1, (π r3.2).2.2.1, fun k => (π r3.2).2.2.2 k + w k 48)) (pr_ok ⟨Y5.1, Y5.2.2.2.2.2.1, Y5.2.2.2.2.2.2.1, Y5.2.2.2.2.2.2.2, by rw [D.1 14 (by simp), v1, pu_n _ _ _ _ (by decide)]; exact f14⟩ (pD_b H Y5 (fun k => by have := (hw k).2.2.2.2; omega))) (fun s4 e4 => ?_)
  obtain ⟨x1, x2, x3, x4⟩ := pr_parts e4
  have Y6 : pS Z 2 r3.1 st (π s4) := by
    refine ⟨⟨by rw [x1]; rfl, by rw [x1]; exact Y5.2.1, by rw [x1]; exact Y5.2.2.1, c2, fun k => ?_⟩, by rw [x1]; exact Y5.2.2.2.2.2.1, by rw [x3]; exact Y5.2.2.2.2.2.2.2, by rw [x2, Y5.2.2.2.2.2.2.1]; rfl, ⟨by decide, by rw [x2, Y5.2.2.2.2.2.2.1]; exact ⟨by simp, by simp⟩⟩, by rw [x1]; rfl, by rw [x1]; rfl⟩
    rw [x4 k]
    have t1 := ek k
    have t2 := hb k
    have t3 := (hw k).2.2.2.2
    omega
  refine nb_b ((xs_N (P := P) H hg g).1 2 st r3.1 s4 Y6 (by omega)) (fun r4 h4 => ?_)
  obtain ⟨d1, d2, F⟩ := h4
  have Y7 := F.wx Y6.1 d2
  refine nb_sg H d2 (fun hr4 => nb_C H (p' := (pu (π r4.2.2).1 9 3, (π r4.2.2).2.1, (π r4.2.2).2.2.1, fun k => (π r4.2.2).2.2.2 k + w k 49)) (pr_ok ⟨Y7.1, by rw [F.2.1, Y6.2.1], by rw [F.2.2.2.2.1, x2]; exact Y5.2.2.2.2.2.2.1, by rw [F.2.2.2.2.2.1, x3]; exact Y5.2.2.2.2.2.2.2, by rw [F.1 15 (by decide) (by decide) (by decide)]; exact Y6.2.2.2.2.2.1, by rw [F.1 16 (by decide) (by decide) (by decide)]; exact Y6.2.2.2.2.2.2⟩ (pW_b H Y7 (fun k => by have := (hw k).2.2.2.2; omega))) (fun s5 e5 => ?_))
  obtain ⟨y1, y2, y3, y4⟩ := pr_parts e5
  have g14 : (π s5).1 14 = 0 := by rw [y1, pu_n _ _ _ _ (by decide), F.1 14 (by decide) (by decide) (by decide), x1]; show (π r3.2).1 14 = 0; rw [D.1 14 (by simp), v1, pu_n _ _ _ _ (by decide)]; exact f14
  refine ⟨by show j < r4.1 + 1; omega, by show r4.1 + 1 ≤ Z; omega, fun n hn => ?_, ?_, ?_, ?_, fun k => ?_, ?_, ?_, g14⟩
  · simp at hn
    show (π s5).1 n = _
    by_cases h9 : n = 9
    · rw [h9, y1, pu_s, X1]
    · by_cases h6 : n = 6
      · rw [h6, y1, pu_n _ _ _ _ (by decide), F.2.1, Y6.2.1, X6]
      · rw [y1, pu_n _ _ _ _ h9, F.1 n h6 hn.2.2.2.2.2.2.1 hn.1, x1, pu_n _ _ _ _ hn.2.2.2.2.2.2.2.2.2.1, pu_n _ _ _ _ hn.2.2.2.2.2.2.2.2.1, pu_n _ _ _ _ h9, D.1 n (by simp; exact ⟨hn.1, hn.2.1, hn.2.2.2.2.2.1⟩), v1, pu_n _ _ _ _ h9, B.1 n (by simp; exact ⟨hn.1, hn.2.1, hn.2.2.2.2.1⟩), u1, pu_n _ _ _ _ hn.2.2.1, q1, pu_n _ _ _ _ hn.2.2.2.2.2.2.2.1, pu_n _ _ _ _ hn.1, pu_n _ _ _ _ h9, pu_n _ _ _ _ hn.2.2.2.2.2.1, pu_n _ _ _ _ hn.2.2.2.2.1, pu_n _ _ _ _ hn.2.2.2.1, pu_n _ _ _ _ hn.2.2.1]
  · show (π s5).1 10 ≤ r4.1 + 1
    rw [y1, pu_n _ _ _ _ (by decide)]; have := F.2.2.2.1; omega
  · show (π s5).2.1 = []
    rw [y2, F.2.2.2.2.1, x2]; exact Y5.2.2.2.2.2.2.1
  · show (π s5).2.2.1 = []
    rw [y3, F.2.2.2.2.2.1, x3]; exact Y5.2.2.2.2.2.2.2
  · show (π s5).2.2.2 k + 2 * j ≤ (π s).2.2.2 k + 2 * (r4.1 + 1) + 2
    rw [y4 k]
    have t1 := ek k
    have t2 := F.2.2.2.2.2.2 k
    rw [x4 k] at t2
    have t3 := (hw k).2.2.2.2
    omega
  · show (π s5).1 3 = sn + 1
    rw [y1, pu_n _ _ _ _ (by decide), F.1 3 (by decide) (by decide) (by decide), x1, pu_n _ _ _ _ (by decide), pu_n _ _ _ _ (by decide), pu_n _ _ _ _ (by decide), D.1 3 (by simp), v1, pu_n _ _ _ _ (by decide), B.1 3 (by simp), u1, pu_n _ _ _ _ (by decide), q1]
    simp [pu]
  · show (π s5).1 8 = r4.2.1
    rw [y1, pu_n _ _ _ _ (by decide)]; exact F.2.2.1
theorem xp_sub_N (H : pr_H w K V C π nx sx Z) {g i st sn : Nat} {s : σ} (hg : 3 * Z + 2 ≤ g) (X : pD Z 3 i st (π s)) (h14 : (π s).1 14 = 0) (hs : (π s).1 3 = sn) (hk : gx_wd K V 1 i ∨ gx_wd K V 2 i ∨ gx_wd K V 3 i) : nb (xp_sub nx sx K V P C g st i sn s) (fun a => i < a.1 ∧ a.1 ≤ Z ∧ pQ [10, 11, 13, 3, 4, 5, 8, 14, 15, 16, 17] (π s) (π a.2.2) i a.1 ∧ (π a.2.2).1 3 = sn + 1 ∧ (π a.2.2).1 8 = a.2.1 ∧ (π a.2.2).1 14 = 0) := by
  have hw := H.1
  have hZ := H.2.2.2.2.1
  have hKZ := H.2.2.2.2.2.1
  have X0 := X
  obtain ⟨X1, X2, X3, X4, X5, X6, X7, X8⟩ := X
  have k1 : K i = 1 ∧ (V i = 1 ∨ V i = 2 ∨ V i = 3) := by
    rcases hk with z | z | z
    · exact ⟨z.1, Or.inl z.2⟩
    · exact ⟨z.1, Or.inr (Or.inl z.2)⟩
    · exact ⟨z.1, Or.inr (Or.inr z.2)⟩
  have hi := hKZ i X4 (by rw [k1.1]; decide)
  have ev : pr w K V (44, (i : Int), 0, 0) (π s) = .inr (pu (pu (pu (π s).1 11 0) 10 ((i : Int).toNat + 1)) 17 1, (π s).2.1, (π s).2.2.1, fun k => (π s).2.2.2 k + w k 44) := pr_ok ⟨X1, pr_tk X2 (by omega) k1.1, by dsimp only; rw [Int.toNat_natCast]; exact k1.2, h14⟩ (pD_b H X0 (fun k => by have := (hw k).2.2.2.2; omega))
  rw [Int.toNat_natCast] at ev
  unfold xp_sub
  refine nb_C H ev (fun s1 e1 => nb_n H ?_)
  obtain ⟨q1, q2, q3, q4⟩ := pr_parts e1
  have E1 : pQ [10, 11, 13, 3, 4, 5, 8, 14, 15, 16, 17] (π s) (π s1) i (i + 1) := ⟨fun n hn => by simp at hn; rw [q1, pu_n _ _ _ _ hn.2.2.2.2.2.2.2.2.2.2, pu_n _ _ _ _ hn.1, pu_n _ _ _ _ hn.2.1], by rw [q1]; show i + 1 ≤ i + 1; omega, q2, q3, fun k => by rw [q4 k]; have := (hw k).2.2.2.2; omega⟩
  have Y1 : pD Z 3 (i + 1) st (π s1) := ⟨by rw [q1]; exact X1, by rw [q1]; show i + 1 ≤ i + 1; omega, by rw [q1]; exact X3, by omega, fun k => by rw [q4 k]; have := X5 k; have := (hw k).2.2.2.2; omega, by rw [q1]; exact X6, by rw [q2]; exact X7, by rw [q3]; exact X8⟩
  -- behind the type
  have fin : ∀ s2 : σ, i + 1 < Z → pQ [10, 11, 14] (π s1) (π s2) (i + 1) (i + 2) → (∀ k, (π s2).2.2.2 k ≤ (π s1).2.2.2 k + 1) → nb (gx_if (K (i + 2) = 2) (sx (i + 2)) (gx_if (sn < 60) (2, P (i + 2)) (
    gx_b (C (45, ((i + 2 : Nat) : Int), 0, 0) s2) fun s1 => gx_b (nx (i + 2)) fun j2 => gx_b (C (51, 0, 0, 0) s1) fun s1 => gx_b (xx_sign nx sx K V 40 j2) fun j3 => gx_b (xp_pars nx sx K V P C g j3 0 s1) fun r2 => gx_b (C (47, 0, 0, 0) r2.2) fun s2 =>
    gx_b (xx_opens nx sx K V P 123 1 r2.1) fun j4 => gx_b (xp_locs nx sx K V P C g g j4 0 s2) fun r3 => gx_b (C (48, 0, 0, 0) r3.2) fun s3 => gx_b (xs nx sx K V P C g g 0 2 st r3.1 s3) fun r4 => gx_b (xx_sign nx sx K V 125 r4.1) fun j5 => gx_b (C (49, 0, 0, 0) r4.2.2) fun s4 => (.inr (j5, r4.2.1, s4) : gx_R (Nat × Nat × σ))))) (fun a => i < a.1 ∧ a.1 ≤ Z ∧ pQ [10, 11, 13, 3, 4, 5, 8, 14, 15, 16, 17] (π s) (π a.2.2) i a.1 ∧ (π a.2.2).1 3 = sn + 1 ∧ (π a.2.2).1 8 = a.2.1 ∧ (π a.2.2).1 14 = 0) := by
    intro s2 hi2 A ha
    have Y2 : pD Z 3 (i + 2) st (π s2) := A.d Y1 (by omega) (by simp) (by simp) (by simp)
    have e3 : (π s2).1 3 = sn := by rw [A.1 3 (by simp), q1]; exact hs
    have e17 : (π s2).1 17 = 1 := by rw [A.1 17 (by simp), q1]; rfl
    refine nb_imp (xp_sub_N1 H hg Y2 (fun k => by have := ha k; rw [q4 k] at this; have := X5 k; have := (hw k).2.2.2.2; omega) e3 e17) (fun a h => ?_)
    obtain ⟨h1, h2, h3, h4, h5, h6, h7, h8, h9, h10⟩ := h
    refine ⟨by omega, h2, ⟨fun n hn => ?_, h4, by rw [h5, X7], by rw [h6, X8], fun k => ?_⟩, h8, h9, h10⟩
    · rw [h3 n hn, A.1 n (by simp at hn ⊢; exact ⟨hn.1, hn.2.1, hn.2.2.2.2.2.2.2.1⟩), E1.1 n hn]
    · have t1 := h7 k
      have t2 := ha k
      rw [q4 k] at t2
      have t3 := (hw k).2.2.2.2
      omega
  by_cases w10 : gx_wd K V 10 (i + 1)
  · have hi2 := hKZ (i + 1) (by omega) (by rw [w10.1]; decide)
    rw [if_pos w10, gx_b_assoc]
    refine nb_n H ?_
    exact fin s1 hi2 ((pQ_0 Y1).on (by omega)) (fun k => by omega)
  · rw [if_neg w10]
    refine nb_b (xx_type_N H Y1 (by omega) (by rw [q1]; exact h14)) (fun r h => ?_)
    obtain ⟨r1, r2, A, ea, -⟩ := h
    rw [r1]
    exact fin r.2 r2 A (fun k => by rw [ea k]; have := (hw k).2.2.2.1; omega)
theorem pQ.s {p p' : pr_S} {i j st st' : Nat} (X : pD Z 3 i st p) (E : pQ [10, 11, 13, 3, 4, 5, 8, 14, 15, 16, 17] p p' i j) (h8 : p'.1 8 = st') (hj : j ≤ Z) : pD Z 3 j st' p' := ⟨by rw [E.1 9 (by simp)]; exact X.1, E.2.1, h8, hj, fun k => by have := E.2.2.2.2 k; have := X.2.2.2.2.1 k; omega, by rw [E.1 6 (by simp)]; exact X.2.2.2.2.2.1, by rw [E.2.2.1]; exact X.2.2.2.2.2.2.1, by rw [E.2.2.2.1]; exact X.2.2.2.2.2.2.2⟩
theorem xp_subs_N (H : pr_H w K V C π nx sx Z) {g : Nat} (hg : 3 * Z + 2 ≤ g) : ∀ (f st i sn : Nat) (s : σ), pD Z 3 i st (π s) → (π s).1 3 = sn ∧ (π s).1 14 = 0 → Z - i + 1 ≤ f → nb (xp_subs nx sx K V P C g f st i sn s) (fun a => i ≤ a.1 ∧ a.1 ≤ Z ∧ pQ [10, 11, 13, 3, 4, 5, 8, 14, 15, 16, 17] (π s) (π a.2.2.2) i a.1 ∧ (π a.2.2.2).1 3 = a.2.2.1 ∧ (π a.2.2.2).1 8 = a.2.1 ∧ (π a.2.2.2).1 14 = 0)
  | 0, _, _, _, _, _, _, h => by omega
  | f + 1, st, i, sn, s, X, hs, hf => by
    unfold xp_subs
    split
    · rename_i c
      refine nb_b (xp_sub_N H hg X hs.2 hs.1 c) (fun r h => ?_)
      obtain ⟨h1, h2, h3, h4, h5, h6⟩ := h
      refine nb_imp (xp_subs_N H hg f r.2.1 r.1 (sn + 1) r.2.2 (h3.s X h5 h2) ⟨h4, h6⟩ (by omega)) (fun a ha => ?_)
      exact ⟨by have := ha.1; omega, ha.2.1, h3.trans ha.2.2.1, ha.2.2.2⟩
    · exact ⟨Nat.le_refl _, X.2.2.2.1, pQ_0 X, hs.1, X.2.2.1, hs.2⟩
theorem xp_class_N (H : pr_H w K V C π nx sx Z) {g st i cn vn sn ph : Nat} {s : σ} (hg : 3 * Z + 2 ≤ g) (X : pD Z ph i st (π s)) (hp : ph = 0 ∨ ph = 3) (h0 : (π s).1 0 = cn) (hv : (π s).1 1 = vn) (hs : (π s).1 3 = sn) (h14 : (π s).1 14 = 0) : nb (xp_class nx sx K V P C g st i cn vn sn s) (fun a => i < a.1 ∧ pD Z 3 a.1 a.2.1 (π a.2.2.2.2) ∧ (π a.2.2.2.2).1 0 = cn + 1 ∧ (π a.2.2.2.2).1 1 = a.2.2.1 ∧ (π a.2.2.2.2).1 3 = a.2.2.2.1 ∧ (π a.2.2.2.2).1 14 = 0) := by
  have hw := H.1
  have hZ := H.2.2.2.2.1
  have hKZ := H.2.2.2.2.2.1
  obtain ⟨X1, X2, X3, X4, X5, X6, X7, X8⟩ := X
  unfold xp_class
  refine nb_C H (p' := (pu (π s).1 9 1, (π s).2.1, (π s).2.2.1, fun k => (π s).2.2.2 k + w k 39)) (pr_ok ⟨by omega, h14⟩ (fun k => by have := X5 k; have := (hw k).2.2.2.1; omega)) (fun s0 e0 => nb_wd H X4 (fun hi => ?_))
  obtain ⟨q1, q2, q3, q4⟩ := pr_parts e0
  refine nb_if (H.2.2.2.1 _) (fun k2 => nb_if (show (2 : Int) < 8 by decide) (fun h12 => ?_))
  have hi2 := hKZ (i + 1) (by omega) (by rw [k2]; decide)
  have c10 : (π s0).1 10 ≤ i + 1 := by rw [q1, pu_n _ _ _ _ (by decide)]; omega
  have c0 : (π s0).1 0 = cn := by rw [q1, pu_n _ _ _ _ (by decide)]; exact h0
  have ev : pr w K V (40, ((i + 1 : Nat) : Int), 0, 0) (π s0) = .inr (pu (pu (pu (pu (pu (π s0).1 12 0) 0 ((π s0).1 0 + 1)) 2 0) 9 2) 10 (((i + 1 : Nat) : Int).toNat + 1), (π s0).2.1, (π s0).2.2.1, fun k => (π s0).2.2.2 k + w k 40) := pr_ok ⟨by rw [q1, pu_s], by omega, pr_tk c10 (by omega) k2⟩ (fun k => by rw [q4 k]; have := X5 k; have := (hw k).2.2.2.1; omega)
  rw [c0, Int.toNat_natCast] at ev
  refine nb_C H ev (fun s1 e1 => nb_n H (nb_sg H (by omega) (fun hi3 => ?_)))
  obtain ⟨u1, u2, u3, u4⟩ := pr_parts e1
  refine nb_C H (p' := (pu (π s1).1 12 1, (π s1).2.1, (π s1).2.2.1, fun k => (π s1).2.2.2 k + w k 38)) (pr_ok ⟨by rw [u1]; simp [pu], by rw [u1]; simp [pu], by rw [u1, q1]; exact h14, by rw [u1]; simp [pu]⟩ (fun k => by rw [u4 k, q4 k]; have := X5 k; have := (hw k).2.2.2.1; omega)) (fun s2 e2 => ?_)
  obtain ⟨v1, v2, v3, v4⟩ := pr_parts e2
  have Y2 : pD Z 2 (i + 1 + 1 + 1) st (π s2) := ⟨by rw [v1, u1]; simp [pu], by rw [v1, u1]; simp [pu], by rw [v1, u1, q1]; simp [pu]; exact X3, by omega, fun k => by rw [v4 k, u4 k, q4 k]; have := X5 k; have := (hw k).2.2.2.1; omega, by rw [v1, u1, q1]; simp [pu]; exact X6, by rw [v2, u2, q2]; exact X7, by rw [v3, u3, q3]; exact X8⟩
  refine nb_b (xp_vars_N H (by omega) g (i + 1 + 1 + 1) vn 0 st s2 Y2 ⟨by rw [v1, pu_s], by rw [v1, u1, q1]; exact h14⟩ (by rw [v1, u1, q1]; simp [pu]; exact hv) (by rw [v1, u1]; simp [pu]) (by omega)) (fun r h => ?_)
  obtain ⟨a1, a2, A, a3, a4⟩ := h
  have Y3 := A.d Y2 a2 (by simp) (by simp) (by simp)
  have f14 : (π r.2.2.2).1 14 = 0 := by rw [A.1 14 (by simp), v1, u1, q1]; exact h14
  refine nb_C H (p' := (pu (π r.2.2.2).1 9 3, (π r.2.2.2).2.1, (π r.2.2.2).2.2.1, fun k => (π r.2.2.2).2.2.2 k + w k 43)) (pr_ok ⟨Y3.1, f14, by rw [A.1 12 (by simp), v1, pu_s]⟩ (pD_b H Y3 (fun k => by have := (hw k).2.2.2.1; omega))) (fun s3 e3 => ?_)
  obtain ⟨x1, x2, x3, x4⟩ := pr_parts e3
  have Y4 : pD Z 3 r.1 st (π s3) := ⟨by rw [x1, pu_s], by rw [x1, pu_n _ _ _ _ (by decide)]; exact Y3.2.1, by rw [x1, pu_n _ _ _ _ (by decide)]; exact Y3.2.2.1, a2, fun k => ?_, by rw [x1, pu_n _ _ _ _ (by decide)]; exact Y3.2.2.2.2.2.1, by rw [x2]; exact Y3.2.2.2.2.2.2.1, by rw [x3]; exact Y3.2.2.2.2.2.2.2⟩
  · refine nb_b (xp_subs_N H hg g st r.1 sn s3 Y4 ⟨by rw [x1, pu_n _ _ _ _ (by decide), A.1 3 (by simp), v1, u1, q1]; simp [pu]; exact hs, by rw [x1, pu_n _ _ _ _ (by decide)]; exact f14⟩ (by omega)) (fun r2 h2 => ?_)
    obtain ⟨b1, b2, B, b3, b4, b5⟩ := h2
    refine nb_sg H b2 (fun hr => ?_)
    have Y5 := B.s Y4 b4 b2
    refine ⟨by show i < r2.1 + 1; omega, ⟨Y5.1, by have := Y5.2.1; show (π r2.2.2.2).1 10 ≤ r2.1 + 1; omega, Y5.2.2.1, by show r2.1 + 1 ≤ Z; omega, fun k => by have := Y5.2.2.2.2.1 k; show (π r2.2.2.2).2.2.2 k ≤ 2 * (r2.1 + 1) + 60; omega, Y5.2.2.2.2.2⟩, ?_, ?_, b3, b5⟩
    · show (π r2.2.2.2).1 0 = cn + 1
      rw [B.1 0 (by simp), x1, pu_n _ _ _ _ (by decide), A.1 0 (by simp), v1, u1]; simp [pu]
    · show (π r2.2.2.2).1 1 = r.2.1
      rw [B.1 1 (by simp), x1, pu_n _ _ _ _ (by decide)]; exact a3
  · rw [x4 k]
    have t1 := A.2.2.2.2 k
    rw [v4 k, u4 k, q4 k] at t1
    have t2 := X5 k
    have t3 := (hw k).2.2.2.1
    omega
theorem xp_classes_N (H : pr_H w K V C π nx sx Z) {g : Nat} (hg : 3 * Z + 2 ≤ g) : ∀ (f st i cn vn sn ph : Nat) (s : σ), pD Z ph i st (π s) → (ph = 0 ∨ ph = 3) → (π s).1 0 = cn → (π s).1 1 = vn → (π s).1 3 = sn ∧ (π s).1 14 = 0 → Z - i + 1 ≤ f → nb (xp_classes nx sx K V P C g f st i cn vn sn s) (fun a => (∃ ph, (ph = 0 ∨ ph = 3) ∧ pD Z ph Z ((π a).1 8) (π a)) ∧ (π a).1 14 = 0)
  | 0, _, _, _, _, _, _, _, _, _, _, _, _, h => by omega
  | f + 1, st, i, cn, vn, sn, ph, s, X, hp, h0, hv, hs, hf => by
    unfold xp_classes
    split
    · exact ⟨⟨ph, hp, X.1, by have := X.2.1; have := X.2.2.2.1; omega, rfl, Nat.le_refl _, fun k => by have := X.2.2.2.2.1 k; have := X.2.2.2.1; omega, X.2.2.2.2.2⟩, hs.2⟩
    · refine nb_b (xp_class_N H hg X hp h0 hv hs.1 hs.2) (fun r h => ?_)
      obtain ⟨h1, h2, h3, h4, h5, h6⟩ := h
      have hz := h2.2.2.2.1
      exact xp_classes_N H hg f r.2.1 r.1 (cn + 1) r.2.2.1 r.2.2.2.1 3 r.2.2.2.2 h2 (Or.inr rfl) h3 h4 ⟨h5, h6⟩ (by omega)
def pr_0 : pr_S := (fun _ => 0, [], [], fun _ => 0)
/-- a text -/
theorem xp_N (H : pr_H w K V C π nx sx Z) {g : Nat} (hg : 3 * Z + 2 ≤ g) {s : σ} (hs : π s = pr_0) : nb (xp nx sx K V P C g s) (fun a => (∃ ph, (ph = 0 ∨ ph = 3) ∧ pD Z ph Z ((π a).1 8) (π a)) ∧ (π a).1 14 = 0) :=
  nb_if (H.2.2.2.1 0) (fun _ => xp_classes_N H hg g 0 0 0 0 0 0 s (by rw [hs]; exact ⟨rfl, Nat.le_refl _, rfl, Nat.zero_le _, fun k => Nat.zero_le _, rfl, rfl, rfl⟩) (Or.inl rfl) (by rw [hs]; rfl) (by rw [hs]; rfl) (by rw [hs]; exact ⟨rfl, rfl⟩) (by omega))
end
