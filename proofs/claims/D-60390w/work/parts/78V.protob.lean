/-! PURE LAYER, 76: if, while, statements keep to the protocol -/
section
variable {w : Nat → Nat → Nat} {K V P : Nat → Int} {σ : Type} {C : gx_V → σ → gx_R σ} {π : σ → pr_S} {nx : Nat → gx_R Nat} {sx : Nat → Int × Int} {Z : Nat}
/-- where a statement may begin -/
def pW (Z i st : Nat) (p : pr_S) : Prop := p.1 9 = 6 ∧ p.1 10 ≤ i ∧ p.1 8 = st ∧ i ≤ Z ∧ ∀ k, p.2.2.2 k ≤ 2 * i + 60
theorem pE.wx {p p' : pr_S} {i j d st st' : Nat} (X : pW Z i st p) (E : pE p p' i j d st') (hj : j ≤ Z) : pW Z j st' p' := ⟨by rw [E.1 9 (by decide) (by decide) (by decide)]; exact X.1, E.2.2.2.1, E.2.2.1, hj, fun k => by have := E.2.2.2.2.2.2 k; have := X.2.2.2.2 k; omega⟩
theorem pW_b {p : pr_S} {i st n : Nat} (H : pr_H w K V C π nx sx Z) (X : pW Z i st p) (hn : ∀ k, w k n ≤ 5) : ∀ k, p.2.2.2 k + w k n ≤ 2100 := fun k => by
  have := X.2.2.2.2 k
  have := X.2.2.2.1
  have := H.2.2.2.2.1
  have := hn k
  omega
theorem pE_w0 {p : pr_S} {i st : Nat} (X : pW Z i st p) : pE p p i i 0 st := ⟨fun _ _ _ _ => rfl, rfl, X.2.2.1, X.2.1, rfl, rfl, fun k => by omega⟩
def pS (Z deep i st : Nat) (p : pr_S) : Prop := pW Z i st p ∧ p.1 6 = 0 ∧ p.2.2.1 = [] ∧ p.2.1.length + 2 = deep ∧ (deep ≤ 25 ∧ nh p.2.1) ∧ p.1 15 = 0 ∧ p.1 16 = 0
def pM0 (π : σ → pr_S) (Z : Nat) (r : Nat → Nat → Nat → Nat → σ → gx_R (Nat × Nat × σ)) (F : Nat) : Prop := ∀ deep st i s, pS Z deep i st (π s) → 2 * (Z - i) + 1 ≤ F → nb (r deep st i F s) (fun a => i ≤ a.1 ∧ a.1 ≤ Z ∧ pE (π s) (π a.2.2) i a.1 0 a.2.1)
theorem xs_N (H : pr_H w K V C π nx sx Z) {g : Nat} (hg : 3 * Z + 2 ≤ g) : ∀ f, pM0 π Z (fun deep st i F s => xs nx sx K V P C g F 0 deep st i s) f ∧ (∀ deep st i s, pS Z deep i st (π s) → gx_stm K V i → 2 * (Z - i) ≤ f → nb (xs nx sx K V P C g f 1 deep st i s) (fun a => i < a.1 ∧ a.1 ≤ Z ∧ pE (π s) (π a.2.2) i a.1 0 a.2.1))
  | 0 => ⟨fun _ _ _ _ _ h => by omega, fun deep st i s X c h => by
      have hi := H.2.2.2.2.2.1 i X.1.2.2.2.1 (by rw [c.1]; decide)
      omega⟩
  | f + 1 => by
    obtain ⟨i0, i1⟩ := xs_N H hg f
    have hw := H.1
    have hZ := H.2.2.2.2.1
    have hKZ := H.2.2.2.2.2.1
    refine ⟨fun deep st i s X hf => ?_, fun deep st i s X c hf => ?_⟩
    · show nb (xs nx sx K V P C g (f + 1) 0 deep st i s) _
      rw [xs]
      split
      · rename_i c
        have hi := hKZ i X.1.2.2.2.1 (by rw [c.1]; decide)
        refine nb_b (i1 deep st i s X c (by omega)) (fun r h => ?_)
        obtain ⟨a1, a2, A⟩ := h
        have Y : pS Z deep r.1 r.2.1 (π r.2.2) := ⟨A.wx X.1 a2, by rw [A.2.1, X.2.1], by rw [A.2.2.2.2.2.1]; exact X.2.2.1, by rw [A.2.2.2.2.1]; exact X.2.2.2.1, by rw [A.2.2.2.2.1]; exact X.2.2.2.2.1, by rw [A.1 15 (by decide) (by decide) (by decide)]; exact X.2.2.2.2.2.1, by rw [A.1 16 (by decide) (by decide) (by decide)]; exact X.2.2.2.2.2.2⟩
        refine nb_imp (i0 deep r.2.1 r.1 r.2.2 Y (by omega)) (fun a ha => ⟨by have := ha.1; omega, ha.2.1, A.trans ha.2.2⟩)
      · exact ⟨Nat.le_refl _, X.1.2.2.2.1, pE_w0 X.1⟩
    · obtain ⟨X0, h6, ho, hd, ⟨hd2, hn⟩, h15, h16⟩ := X
      obtain ⟨X1, X2, X3, X4, X5⟩ := X0
      have X0 : pW Z i st (π s) := ⟨X1, X2, X3, X4, X5⟩
      have hi := hKZ i X4 (by rw [c.1]; decide)
      rw [xs]
      · have ev20 : pr w K V (20, (i : Int), 0, 0) (π s) = .inr (pu (pu (π s).1 10 ((i : Int).toNat + 1)) 16 1, (π s).2.1, (π s).2.2.1, fun k => (π s).2.2.2 k + w k 20) := pr_ok ⟨X1, h6, ho, pr_tk X2 (by omega) c.1, h16, hn⟩ (pW_b H X0 (fun k => by have := (hw k).2.1; omega))
        refine nb_C H ev20 (fun s1 e1 => nb_n H ?_)
        obtain ⟨q1, q2, q3, q4⟩ := pr_parts e1
        rw [Int.toNat_natCast] at q1
        have Y1 : pX Z (i + 1) st (π s1) := ⟨⟨by rw [q1]; exact X1, by rw [q1]; rfl⟩, by rw [q1]; show i + 1 ≤ i + 1; omega, by rw [q1]; exact X3, by omega, fun k => by rw [q4 k]; have := X5 k; have := (hw k).2.1; omega⟩
        have g6 : (π s1).1 6 = 0 := by rw [q1]; exact h6
        have g15 : (π s1).1 15 = 0 := by rw [q1]; exact h15
        have gn : nh (π s1).2.1 := by rw [q2]; exact hn
        have hd0 : 1 ≤ deep ∧ deep ≤ 25 := by omega
        have go : (π s1).2.2.1 = [] := by rw [q3, ho]
        have gl : (π s1).2.1.length + 2 = deep := by rw [q2]; exact hd
        have fin : ∀ {a : Nat × Nat × σ}, i + 1 < a.1 ∧ a.1 ≤ Z ∧ pF (π s1) (π a.2.2) (i + 1) a.1 a.2.1 → i < a.1 ∧ a.1 ≤ Z ∧ pE (π s) (π a.2.2) i a.1 0 a.2.1 := by
          intro a h
          obtain ⟨f1, f2, f3, f4, f5, f6, f7, f8, f9, f10⟩ := h
          refine ⟨by omega, f2, fun n h1 h2 h3 => ?_, by rw [f5, g6, h6], f6, f7, by rw [f8, q2], by rw [f9, q3], fun k => ?_⟩
          · by_cases c : n = 16
            · subst c; rw [f4, h16]
            · rw [f3 n h1 h2 h3 c, q1, pu_n _ _ _ _ c, pu_n _ _ _ _ h3]
          · have t := f10 k
            rw [q4 k] at t
            have := (hw k).2.1
            omega
        split
        · exact nb_imp (xe_let_N H Y1 gn g6 g15 go hd0 hg) (fun a h => fin h)
        split
        · -- if
          refine nb_C H (p' := ((π s1).1, 0 :: (π s1).2.1, (π s1).2.2.1, fun k => (π s1).2.2.2 k + w k 24)) (pr_ok ⟨Y1.1, g6, by omega, go, gn⟩ (pX_b H Y1 (fun k => by have := (hw k).2.1; omega))) (fun s2 e2 => ?_)
          obtain ⟨u1, u2, u3, u4⟩ := pr_parts e2
          have Y2 : pX Z (i + 1) st (π s2) := ⟨by rw [u1]; exact Y1.1, by rw [u1]; exact Y1.2.1, by rw [u1]; exact Y1.2.2.1, Y1.2.2.2.1, fun k => by rw [u4 k, q4 k]; have := X5 k; have := (hw k).2.1; omega⟩
          refine nb_b (xe_c_N H Y2.c (pH_0 hd0.2 (by rw [u1]; exact g6) (by rw [u3]; exact go)) (by omega)) (fun r h => ?_)
          obtain ⟨a1, a2, A, a3⟩ := h
          have Y3 := A.x Y2 a2
          have b3 : (π r.2.2).2.1 = 0 :: (π s1).2.1 := by rw [A.2.2.2.2.1, u2]
          refine nb_C H (p' := (pu (pu (π r.2.2).1 6 0) 16 0, 1 :: (π r.2.2).2.1.tail, (π r.2.2).2.2.1, fun k => (π r.2.2).2.2.2 k + w k 25)) (pr_ok ⟨Y3.1, by rw [A.2.1, u1, g6], by rw [b3]; rfl, by rw [A.2.2.2.2.2.1, u3, go]⟩ (pX_b H Y3 (fun k => by have := (hw k).2.1; omega))) (fun s3 e3 => nb_ops H a2 (fun hr hd3 => ?_))
          obtain ⟨v1, v2, v3, v4⟩ := pr_parts e3
          have bl3 : (π s3).2.1 = 1 :: (π s1).2.1 := by rw [v2, b3]; rfl
          have Y4 : pS Z (deep + 1) (r.1 + 1) r.2.1 (π s3) := by
            refine ⟨⟨by rw [v1]; exact Y3.1.1, by rw [v1]; have := Y3.2.1; show (π r.2.2).1 10 ≤ _; omega, by rw [v1]; exact Y3.2.2.1, by omega, fun k => ?_⟩, by rw [v1]; rfl, by rw [v3, A.2.2.2.2.2.1, u3, go], by rw [bl3, List.length_cons]; omega, ⟨by omega, by rw [bl3]; exact ⟨by simp, by simp⟩⟩, by rw [v1]; show (π r.2.2).1 15 = 0; rw [A.1 15 (by decide) (by decide) (by decide), u1, g15], by rw [v1]; rfl⟩
            rw [v4 k]
            have t1 := a3 k
            rw [u4 k, q4 k] at t1
            have := X5 k
            have := (hw k).2.1
            omega
          refine nb_b (i0 (deep + 1) r.2.1 (r.1 + 1) s3 Y4 (by omega)) (fun r2 h2 => ?_)
          obtain ⟨b1, b2, B⟩ := h2
          have bl4 : (π r2.2.2).2.1 = 1 :: (π s1).2.1 := by rw [B.2.2.2.2.1, bl3]
          have Y5 := B.wx Y4.1 b2
          have c15 : (π r2.2.2).1 15 = 0 := by rw [B.1 15 (by decide) (by decide) (by decide)]; exact Y4.2.2.2.2.2.1
          have c16 : (π r2.2.2).1 16 = 0 := by rw [B.1 16 (by decide) (by decide) (by decide)]; exact Y4.2.2.2.2.2.2
          have c6 : (π r2.2.2).1 6 = 0 := by rw [B.2.1, Y4.2.1]
          have oth : ∀ n, n ≠ 6 → n ≠ 8 → n ≠ 10 → (π r2.2.2).1 n = (π s).1 n := by
            intro n h1 h2 h3
            by_cases c : n = 16
            · subst c; rw [c16, h16]
            rw [B.1 n h1 h2 h3, v1, pu_n _ _ _ _ c, pu_n _ _ _ _ h1, A.1 n h1 h2 h3, u1, q1, pu_n _ _ _ _ c, pu_n _ _ _ _ h3]
          have oc4 : (π r2.2.2).2.2.1 = (π s).2.2.1 := by rw [B.2.2.2.2.2.1, v3, A.2.2.2.2.2.1, u3, q3]
          have ec4 : ∀ k, (π r2.2.2).2.2.2 k + 2 * (r.1 + 1) + 2 * i + 6 ≤ (π s).2.2.2 k + 2 * r2.1 + 2 * r.1 + w k 20 + w k 24 + w k 25 := by
            intro k
            have t1 := a3 k
            have t2 := B.2.2.2.2.2.2 k
            rw [u4 k, q4 k] at t1
            rw [v4 k] at t2
            omega
          refine nb_sg H b2 (fun hr2 => ?_)
          split
          · rename_i w18
            have hi3 := hKZ (r2.1 + 1) (by omega) (by rw [w18.1]; decide)
            refine nb_C H (p' := ((π r2.2.2).1, 2 :: (π r2.2.2).2.1.tail, (π r2.2.2).2.2.1, fun k => (π r2.2.2).2.2.2 k + w k 26)) (pr_ok ⟨Y5.1, c6, by rw [bl4]; rfl, by rw [oc4, ho], c16⟩ (pW_b H Y5 (fun k => by have := (hw k).2.1; omega))) (fun s4 e4 => nb_n H (nb_ops H (by omega) (fun hr4 hd4 => ?_)))
            obtain ⟨x1, x2, x3, x4⟩ := pr_parts e4
            have bl5 : (π s4).2.1 = 2 :: (π s1).2.1 := by rw [x2, bl4]; rfl
            have Y6 : pS Z (deep + 1) (r2.1 + 1 + 1 + 1) r2.2.1 (π s4) := by
              refine ⟨⟨by rw [x1]; exact Y5.1, by rw [x1]; have := Y5.2.1; omega, by rw [x1]; exact Y5.2.2.1, by omega, fun k => ?_⟩, by rw [x1]; exact c6, by rw [x3, oc4, ho], by rw [bl5, List.length_cons]; omega, ⟨by omega, by rw [bl5]; exact ⟨by simp, by simp⟩⟩, by rw [x1]; exact c15, by rw [x1]; exact c16⟩
              rw [x4 k]
              have := Y5.2.2.2.2 k
              have := (hw k).2.1
              omega
            refine nb_b (i0 (deep + 1) r2.2.1 _ s4 Y6 (by omega)) (fun r3 h3 => ?_)
            obtain ⟨d1, d2, D⟩ := h3
            have Y7 := D.wx Y6.1 d2
            have bl6 : (π r3.2.2).2.1 = 2 :: (π s1).2.1 := by rw [D.2.2.2.2.1, bl5]
            refine nb_sg H d2 (fun hr5 => nb_C H (p' := ((π r3.2.2).1, (π r3.2.2).2.1.tail, (π r3.2.2).2.2.1, fun k => (π r3.2.2).2.2.2 k + w k 28)) (pr_ok ⟨Y7.1, by rw [D.2.1, x1, c6], by rw [bl6]; rfl, by rw [D.2.2.2.2.2.1, x3, oc4, ho], by rw [D.1 16 (by decide) (by decide) (by decide), x1]; exact c16⟩ (pW_b H Y7 (fun k => by have := (hw k).2.1; omega))) (fun s5 e5 => ?_))
            obtain ⟨y1, y2, y3, y4⟩ := pr_parts e5
            refine ⟨by show i < r3.1 + 1; omega, by show r3.1 + 1 ≤ Z; omega, ?_⟩
            refine ⟨fun n h1 h2 h3 => by rw [y1, D.1 n h1 h2 h3, x1]; exact oth n h1 h2 h3, by rw [y1, D.2.1, x1, c6, h6], by rw [y1]; exact D.2.2.1, by rw [y1]; have := D.2.2.2.1; show _ ≤ r3.1 + 1; omega, by rw [y2, bl6]; exact q2, by rw [y3, D.2.2.2.2.2.1, x3]; exact oc4, fun k => ?_⟩
            rw [y4 k]
            have t1 := D.2.2.2.2.2.2 k
            have t2 := ec4 k
            have t3 := (hw k).2.1
            rw [x4 k] at t1
            show _ ≤ (π s).2.2.2 k + 2 * (r3.1 + 1)
            omega
          · refine nb_C H (p' := ((π r2.2.2).1, (π r2.2.2).2.1.tail, (π r2.2.2).2.2.1, fun k => (π r2.2.2).2.2.2 k + w k 27)) (pr_ok ⟨Y5.1, c6, by rw [bl4]; rfl, by rw [oc4, ho], c16⟩ (pW_b H Y5 (fun k => by have := (hw k).2.1; omega))) (fun s4 e4 => ?_)
            obtain ⟨y1, y2, y3, y4⟩ := pr_parts e4
            refine ⟨by show i < r2.1 + 1; omega, by show r2.1 + 1 ≤ Z; omega, ?_⟩
            refine ⟨fun n h1 h2 h3 => by rw [y1]; exact oth n h1 h2 h3, by rw [y1, c6, h6], by rw [y1]; exact B.2.2.1, by rw [y1]; have := B.2.2.2.1; show _ ≤ r2.1 + 1; omega, by rw [y2, bl4]; exact q2, by rw [y3]; exact oc4, fun k => ?_⟩
            rw [y4 k]
            have t2 := ec4 k
            have t3 := (hw k).2.1
            show _ ≤ (π s).2.2.2 k + 2 * (r2.1 + 1)
            omega
        split
        · -- while
          refine nb_C H (p' := ((π s1).1, 3 :: (π s1).2.1, (π s1).2.2.1, fun k => (π s1).2.2.2 k + w k 30)) (pr_ok ⟨Y1.1, g6, by omega, by dsimp only; omega, ⟨by dsimp only; rw [Int.toNat_natCast]; omega, by rw [q1]; simp [pu], g15, gn⟩, go⟩ (pX_b H Y1 (fun k => by have := (hw k).2.2.1; omega))) (fun s2 e2 => ?_)
          obtain ⟨u1, u2, u3, u4⟩ := pr_parts e2
          have Y2 : pXc Z (i + 1) st (π s2) := ⟨by rw [u1]; exact Y1.1, by rw [u1]; exact Y1.2.1, by rw [u1]; exact Y1.2.2.1, Y1.2.2.2.1, fun k => by rw [u4 k, q4 k]; have := X5 k; have := (hw k).2.1; have := (hw k).2.2.1; omega⟩
          refine nb_b (xe_c_N H Y2 (pH_0 hd0.2 (by rw [u1]; exact g6) (by rw [u3]; exact go)) (by omega)) (fun r h => ?_)
          obtain ⟨a1, a2, A, a3⟩ := h
          have Y3 : pX Z r.1 r.2.1 (π r.2.2) := A.xc Y2 a2 (fun k => by have := a3 k; have := Y2.2.2.2.2 k; omega)
          have b3 : (π r.2.2).2.1 = 3 :: (π s1).2.1 := by rw [A.2.2.2.2.1, u2]
          refine nb_C H (p' := (pu (pu (π r.2.2).1 6 0) 16 0, 4 :: (π r.2.2).2.1.tail, (π r.2.2).2.2.1, fun k => (π r.2.2).2.2.2 k + w k 31)) (pr_ok ⟨Y3.1, by rw [A.2.1, u1, g6], by rw [b3]; rfl, by rw [A.2.2.2.2.2.1, u3, go]⟩ (fun k => by have := Y3.2.2.2.2 k; have := (hw k).2.2.1; omega)) (fun s3 e3 => nb_ops H a2 (fun hr hd3 => ?_))
          obtain ⟨v1, v2, v3, v4⟩ := pr_parts e3
          have bl3 : (π s3).2.1 = 4 :: (π s1).2.1 := by rw [v2, b3]; rfl
          have Y4 : pS Z (deep + 1) (r.1 + 1) r.2.1 (π s3) := by
            refine ⟨⟨by rw [v1]; exact Y3.1.1, by rw [v1]; have := Y3.2.1; show (π r.2.2).1 10 ≤ _; omega, by rw [v1]; exact Y3.2.2.1, by omega, fun k => ?_⟩, by rw [v1]; rfl, by rw [v3, A.2.2.2.2.2.1, u3, go], by rw [bl3, List.length_cons]; omega, ⟨by omega, by rw [bl3]; exact ⟨by simp, by simp⟩⟩, by rw [v1]; show (π r.2.2).1 15 = 0; rw [A.1 15 (by decide) (by decide) (by decide), u1, g15], by rw [v1]; rfl⟩
            rw [v4 k]
            have t1 := a3 k
            rw [u4 k, q4 k] at t1
            have := X5 k
            have := (hw k).2.1
            have := (hw k).2.2.1
            omega
          refine nb_b (i0 (deep + 1) r.2.1 (r.1 + 1) s3 Y4 (by omega)) (fun r2 h2 => ?_)
          obtain ⟨b1, b2, B⟩ := h2
          have bl4 : (π r2.2.2).2.1 = 4 :: (π s1).2.1 := by rw [B.2.2.2.2.1, bl3]
          have Y5 := B.wx Y4.1 b2
          have c15 : (π r2.2.2).1 15 = 0 := by rw [B.1 15 (by decide) (by decide) (by decide)]; exact Y4.2.2.2.2.2.1
          have c16 : (π r2.2.2).1 16 = 0 := by rw [B.1 16 (by decide) (by decide) (by decide)]; exact Y4.2.2.2.2.2.2
          have c6 : (π r2.2.2).1 6 = 0 := by rw [B.2.1, Y4.2.1]
          refine nb_sg H b2 (fun hr2 => nb_C H (p' := ((π r2.2.2).1, (π r2.2.2).2.1.tail, (π r2.2.2).2.2.1, fun k => (π r2.2.2).2.2.2 k + w k 32)) (pr_ok ⟨Y5.1, c6, by rw [bl4]; rfl, by rw [B.2.2.2.2.2.1, v3, A.2.2.2.2.2.1, u3, go], c16⟩ (fun k => by have := Y5.2.2.2.2 k; have := (hw k).2.2.1; omega)) (fun s4 e4 => ?_))
          obtain ⟨y1, y2, y3, y4⟩ := pr_parts e4
          refine ⟨by show i < r2.1 + 1; omega, by show r2.1 + 1 ≤ Z; omega, ?_⟩
          refine ⟨fun n h1 h2 h3 => (by
            by_cases c : n = 16
            · subst c; rw [y1, c16, h16]
            rw [y1, B.1 n h1 h2 h3, v1, pu_n _ _ _ _ c, pu_n _ _ _ _ h1, A.1 n h1 h2 h3, u1, q1, pu_n _ _ _ _ c, pu_n _ _ _ _ h3]), by rw [y1, c6, h6], by rw [y1]; exact B.2.2.1, by rw [y1]; have := B.2.2.2.1; show _ ≤ r2.1 + 1; omega, by rw [y2, bl4]; exact q2, by rw [y3, B.2.2.2.2.2.1, v3, A.2.2.2.2.2.1, u3, q3], fun k => ?_⟩
          rw [y4 k]
          have t1 := a3 k
          have t2 := B.2.2.2.2.2.2 k
          rw [u4 k, q4 k] at t1
          rw [v4 k] at t2
          have t3 := (hw k).2.1
          have t4 := (hw k).2.2.1
          show _ ≤ (π s).2.2.2 k + 2 * (r2.1 + 1)
          omega
        split
        · exact nb_imp (xe_do_N H Y1 gn g6 g15 go hd0 hg) (fun a h => fin h)
        · refine nb_imp (xe_ret_N H Y1 gn g6 go hd0 (by omega) hg) (fun a h => ?_)
          obtain ⟨a1, a2, A, a3⟩ := h
          obtain ⟨f3, f4, f5, f6, f7, f8, f9, f10⟩ := A
          refine ⟨by omega, a2, fun n h1 h2 h3 => ?_, by rw [f5, g6, h6], f6, f7, by rw [f8, q2], by rw [f9, q3], fun k => ?_⟩
          · by_cases c : n = 16
            · subst c; rw [f4, h16]
            · rw [f3 n h1 h2 h3 c, q1, pu_n _ _ _ _ c, pu_n _ _ _ _ h3]
          · have t := a3 k
            rw [q4 k] at t
            have := (hw k).2.1
            omega
      · intro z; cases z
end
