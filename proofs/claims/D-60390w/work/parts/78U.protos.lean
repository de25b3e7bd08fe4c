/-! PURE LAYER, 75: statements keep to the protocol -/
theorem pr_parts {p : pr_S} {a : Nat → Nat} {b : List Nat} {c : List (Int × Int × Nat)} {d : Nat → Nat} (h : p = (a, b, c, d)) : p.1 = a ∧ p.2.1 = b ∧ p.2.2.1 = c ∧ ∀ k, p.2.2.2 k = d k := by
  rw [h]; exact ⟨rfl, rfl, rfl, fun _ => rfl⟩
section
variable {w : Nat → Nat → Nat} {K V P : Nat → Int} {σ : Type} {C : gx_V → σ → gx_R σ} {π : σ → pr_S} {nx : Nat → gx_R Nat} {sx : Nat → Int × Int} {Z : Nat}
/-- behind a statement -/
def pF (p p' : pr_S) (i j st' : Nat) : Prop := (∀ n, n ≠ 6 → n ≠ 8 → n ≠ 10 → n ≠ 16 → p'.1 n = p.1 n) ∧ p'.1 16 = 0 ∧ p'.1 6 = p.1 6 ∧ p'.1 8 = st' ∧ p'.1 10 ≤ j ∧ p'.2.1 = p.2.1 ∧ p'.2.2.1 = p.2.2.1 ∧ ∀ k, p'.2.2.2 k + 2 * i ≤ p.2.2.2 k + 2 * j
/-- a part, and the event that ends a statement -/
theorem pF_add {p p2 p3 : pr_S} {i j j2 d st n : Nat} (E : pE p p2 i j d st) (h : p3 = (pu (pu p2.1 6 0) 16 0, p2.2.1, p2.2.2.1, fun k => p2.2.2.2 k + w k n)) (h6 : p.1 6 = 0) (hj : j ≤ j2) (hw : ∀ k, p2.2.2.2 k + w k n + 2 * i ≤ p.2.2.2 k + 2 * j2) : pF p p3 i j2 st := by
  rw [h]
  refine ⟨fun m h1 h2 h3 h4 => ?_, rfl, ?_, ?_, ?_, E.2.2.2.2.1, E.2.2.2.2.2.1, hw⟩
  · show pu (pu p2.1 6 0) 16 0 m = _
    rw [pu_n _ _ _ _ h4, pu_n _ _ _ _ h1]; exact E.1 m h1 h2 h3
  · show pu (pu p2.1 6 0) 16 0 6 = _
    rw [pu_n _ _ _ _ (by decide), pu_s, h6]
  · show pu (pu p2.1 6 0) 16 0 8 = _
    rw [pu_n _ _ _ _ (by decide), pu_n _ _ _ _ (by decide)]; exact E.2.2.1
  · show pu (pu p2.1 6 0) 16 0 10 ≤ _
    rw [pu_n _ _ _ _ (by decide), pu_n _ _ _ _ (by decide)]; have := E.2.2.2.1; omega
theorem xe_let_N (H : pr_H w K V C π nx sx Z) {g deep st i : Nat} {s : σ} (X : pX Z i st (π s)) (hn : nh (π s).2.1) (h6 : (π s).1 6 = 0) (h15 : (π s).1 15 = 0) (ho : (π s).2.2.1 = []) (hd0 : 1 ≤ deep ∧ deep ≤ 25) (hg : 3 * Z + 2 ≤ g) : nb (xe_let nx sx K V P C g deep st i s) (fun a => i < a.1 ∧ a.1 ≤ Z ∧ pF (π s) (π a.2.2) i a.1 a.2.1) := by
  have hw := H.1
  have hZ := H.2.2.2.2.1
  have hKZ := H.2.2.2.2.2.1
  have X0 := X
  obtain ⟨X1, X2, X3, X4, X5⟩ := X
  have Hh : pH K V deep 0 (π s) := pH_0 hd0.2 h6 ho
  unfold xe_let
  refine nb_nm H X4 (fun k2 hi => ?_)
  split
  · rename_i s91
    have hi2 := hKZ (i + 1) (by omega) (by rw [s91.1]; decide)
    have ev6 : pr w K V (6, (i : Int), 0, 0) (π s) = .inr (pu (pu (π s).1 6 ((π s).1 6 + 1)) 10 ((i : Int).toNat + 1), (π s).2.1, (π s).2.2.1, fun k => (π s).2.2.2 k + w k 6) := pr_ok ⟨X1, pr_tk X2 (by omega) k2, Hh.hb (by omega)⟩ (pX_b H X0 (fun k => by have := (hw k).1; omega))
    refine nb_C H ev6 (fun s1 e1 => nb_op H (fun hd => ?_))
    have E6 : pE (π s) (π s1) i (i + 1 + 1) 1 st := by
      refine pE_ev e1 (fun n h1 h2 h3 => ?_) ?_ ?_ ?_ (fun k => by have := (hw k).1; omega)
      · rw [pu_n _ _ _ _ h3, pu_n _ _ _ _ h1]
      · rw [pu_n _ _ _ _ (by decide), pu_s]
      · rw [pu_n _ _ _ _ (by decide), pu_n _ _ _ _ (by decide)]; exact X3
      · rw [pu_s, Int.toNat_natCast]; omega
    have Y1 := E6.x X0 (by omega)
    refine nb_b (xe_e_N H Y1 ((E6.h Hh).up (by omega) hd) (by omega)) (fun r h => ?_)
    obtain ⟨a1, a2, A⟩ := h
    have T := E6.trans A
    have Y2 := T.x X0 a2
    refine nb_sg H a2 (fun hr => nb_C H (p' := (pu (π r.2.2.1).1 6 ((π r.2.2.1).1 6 - 1), (π r.2.2.1).2.1, (π r.2.2.1).2.2.1, fun k => (π r.2.2.1).2.2.2 k + w k 8)) (pr_ok ⟨Y2.1, by rw [T.2.1]; omega, Or.inl rfl⟩ (pX_b H Y2 (fun k => by have := (hw k).1; omega))) (fun s2 e2 => nb_sg H (by omega) (fun hr2 => ?_)))
    have T2 : pE (π s) (π s2) i (r.1 + 1 + 1) 1 r.2.1 := by
      refine pE_add T e2 (fun n h1 h2 h3 => pu_n _ _ _ _ h1) (by rw [pu_s, T.2.1]; omega) (by rw [pu_n _ _ _ _ (by decide)]; exact T.2.2.1) (by rw [pu_n _ _ _ _ (by decide)]; have := T.2.2.2.1; omega) (fun k => ?_)
      have t1 := T.2.2.2.2.2.2 k
      have t3 := (hw k).1
      omega
    have Y3 := T2.x X0 (by omega)
    have W3 : pH K V deep 0 (π s2) := ⟨hd0.2, fun _ => by rw [T2.2.1, T2.2.2.2.2.2.1, h6, ho]; have := hd0.1; show 0 + 1 + 0 ≤ 14 * deep + 0; omega⟩
    refine nb_b (xe_e_N H Y3 W3 (by omega)) (fun r2 h2 => ?_)
    obtain ⟨b1, b2, B⟩ := h2
    have T3 := T2.trans B
    have Y4 := T3.x X0 b2
    refine nb_sg H b2 (fun hr3 => nb_C H (p' := (pu (pu (π r2.2.2.1).1 6 0) 16 0, (π r2.2.2.1).2.1, (π r2.2.2.1).2.2.1, fun k => (π r2.2.2.1).2.2.2 k + w k 23)) (pr_ok ⟨Y4.1, by rw [T3.2.1, h6], by rw [T3.2.2.2.2.2.1, ho], by rw [T3.2.2.2.2.1]; exact hn⟩ (pX_b H Y4 (fun k => by have := (hw k).2.1; omega))) (fun s4 e4 => ?_))
    refine ⟨by show i < r2.1 + 1; omega, by show r2.1 + 1 ≤ Z; omega, ?_⟩
    refine pF_add T3 e4 h6 (by show r2.1 ≤ r2.1 + 1; omega) (fun k => ?_)
    have t1 := A.2.2.2.2.2.2 k
    have t2 := B.2.2.2.2.2.2 k
    have t3 := (hw k).1
    have t4 := (hw k).2.1
    have t5 := (pr_parts e1).2.2.2 k
    have t6 := (pr_parts e2).2.2.2 k
    show _ ≤ (π s).2.2.2 k + 2 * (r2.1 + 1)
    omega
  · have ev21 : pr w K V (21, (i : Int), 0, 0) (π s) = .inr (pu (pu (π s).1 10 ((i : Int).toNat + 1)) 15 ((i : Int).toNat + 1), (π s).2.1, (π s).2.2.1, fun k => (π s).2.2.2 k + w k 21) := pr_ok ⟨X1, pr_tk X2 (by omega) k2, h15⟩ (pX_b H X0 (fun k => by have := (hw k).2.1; omega))
    refine nb_C H ev21 (fun s1 e1 => nb_sg H (by omega) (fun hi2 => ?_))
    obtain ⟨q1, q2, q3, q4⟩ := pr_parts e1
    rw [Int.toNat_natCast] at q1
    have Y1 : pX Z (i + 1 + 1) st (π s1) := ⟨by rw [q1]; exact X1, by rw [q1]; show i + 1 ≤ i + 1 + 1; omega, by rw [q1]; exact X3, by omega, fun k => by rw [q4 k]; have := X5 k; have := (hw k).2.1; omega⟩
    have W1 : pH K V deep 0 (π s1) := pH_0 hd0.2 (by rw [q1]; exact h6) (by rw [q3, ho])
    refine nb_b (xe_e_N H Y1 W1 (by omega)) (fun r2 h2 => ?_)
    obtain ⟨b1, b2, B⟩ := h2
    have Y4 := B.x Y1 b2
    refine nb_sg H b2 (fun hr3 => nb_C H (p' := (pu (pu (pu (π r2.2.2.1).1 6 0) 15 0) 16 0, (π r2.2.2.1).2.1, (π r2.2.2.1).2.2.1, fun k => (π r2.2.2.1).2.2.2 k + w k 22)) (pr_ok ⟨Y4.1, by rw [B.2.1, q1]; show (π s).1 6 + 1 = 1; omega, by rw [B.2.2.2.2.2.1, q3, ho], by dsimp only; omega, by dsimp only; rw [Int.toNat_natCast]; omega, by dsimp only; rw [Int.toNat_natCast]; exact k2, by rw [B.1 15 (by decide) (by decide) (by decide), q1, Int.toNat_natCast]; rfl, by rw [B.2.2.2.2.1, q2]; exact hn⟩ (pX_b H Y4 (fun k => by have := (hw k).2.1; omega))) (fun s4 e4 => ?_))
    refine ⟨by show i < r2.1 + 1; omega, by show r2.1 + 1 ≤ Z; omega, ?_⟩
    obtain ⟨v1, v2, v3, v4⟩ := pr_parts e4
    refine ⟨fun n h1 h2 h3 h4 => ?_, by rw [v1]; rfl, by rw [v1, h6]; rfl, by rw [v1]; exact B.2.2.1, ?_, ?_, ?_, fun k => ?_⟩
    · rw [v1, pu_n _ _ _ _ h4]
      by_cases c : n = 15
      · subst c; rw [pu_s, h15]
      · rw [pu_n _ _ _ _ c, pu_n _ _ _ _ h1, B.1 n h1 h2 h3, q1, pu_n _ _ _ _ c, pu_n _ _ _ _ h3]
    · rw [v1]; have := B.2.2.2.1; show (π r2.2.2.1).1 10 ≤ r2.1 + 1; omega
    · rw [v2, B.2.2.2.2.1, q2]
    · rw [v3, B.2.2.2.2.2.1, q3]
    · rw [v4 k]
      have t2 := B.2.2.2.2.2.2 k
      have t4 := (hw k).2.1
      have t5 := q4 k
      show _ ≤ (π s).2.2.2 k + 2 * (r2.1 + 1)
      omega
theorem xe_do_N (H : pr_H w K V C π nx sx Z) {g deep st i : Nat} {s : σ} (X : pX Z i st (π s)) (hn : nh (π s).2.1) (h6 : (π s).1 6 = 0) (h15 : (π s).1 15 = 0) (ho : (π s).2.2.1 = []) (hd0 : 1 ≤ deep ∧ deep ≤ 25) (hg : 3 * Z + 2 ≤ g) : nb (xe_do nx sx K V P C g deep st i s) (fun a => i < a.1 ∧ a.1 ≤ Z ∧ pF (π s) (π a.2.2) i a.1 a.2.1) := by
  have hw := H.1
  have hZ := H.2.2.2.2.1
  have hKZ := H.2.2.2.2.2.1
  have X0 := X
  obtain ⟨X1, X2, X3, X4, X5⟩ := X
  obtain ⟨-, -, i2, -⟩ := xe_N (P := P) H g
  have fin : ∀ (r : Nat × Nat × σ × Nat) (s2 : σ), i + 1 < r.1 → r.1 ≤ Z → pE (π s) (π s2) i r.1 1 r.2.1 → nb (gx_b (C (34, 0, 0, 0) s2) fun s3 => gx_b (xx_sign nx sx K V 59 r.1) fun j4 => (.inr (j4, r.2.1, s3) : gx_R (Nat × Nat × σ))) (fun a => i < a.1 ∧ a.1 ≤ Z ∧ pF (π s) (π a.2.2) i a.1 a.2.1) := by
    intro r s2 r1 r2 E
    have Y := E.x X0 r2
    refine nb_C H (p' := (pu (pu (π s2).1 6 0) 16 0, (π s2).2.1, (π s2).2.2.1, fun k => (π s2).2.2.2 k + w k 34)) (pr_ok ⟨Y.1, by rw [E.2.1, h6], by rw [E.2.2.2.2.2.1, ho], by rw [E.2.2.2.2.1]; exact hn⟩ (pX_b H Y (fun k => by have := (hw k).2.1; omega))) (fun s3 e3 => nb_sg H r2 (fun hr => ?_))
    refine ⟨by show i < r.1 + 1; omega, by show r.1 + 1 ≤ Z; omega, ?_⟩
    refine pF_add E e3 h6 (by show r.1 ≤ r.1 + 1; omega) (fun k => ?_)
    have t2 := E.2.2.2.2.2.2 k
    have t4 := (hw k).2.1
    show _ ≤ (π s).2.2.2 k + 2 * (r.1 + 1)
    omega
  have Hh : pH K V deep 1 (π s) := (pH_0 hd0.2 h6 ho).mono (by omega)
  unfold xe_do
  refine nb_nm H X4 (fun k2 hi => ?_)
  split
  · rename_i s46
    have hi2 := hKZ (i + 1) (by omega) (by rw [s46.1]; decide)
    refine nb_n H (nb_nm H (by omega) (fun k2t ht => ?_))
    refine pN_call H i2 (t := i + 1 + 1) (j := i + 1 + 1 + 1 + 1) (F := fun r s2 => gx_b (C (34, 0, 0, 0) s2) fun s3 => gx_b (xx_sign nx sx K V 59 r.1) fun j4 => (.inr (j4, r.2.1, s3) : gx_R (Nat × Nat × σ))) X0 Hh hi ht ?_ (by omega) (by omega) k2 k2t (Or.inl ⟨rfl, rfl⟩) (by omega) (fun r s2 r1 r2 E => fin r s2 (by omega) r2 E)
    have t := nb_ops (P := P) (deep := deep) (c := 40) (f := fun j => (.inr j : gx_R Nat)) (Q := fun j' => j' = i + 1 + 1 + 1 + 1 ∧ i + 1 + 1 + 1 + 1 ≤ Z ∧ deep < 25) H (i := i + 1 + 1 + 1) (by omega) (fun h1 hd => ⟨rfl, by omega, hd⟩)
    rw [gx_b_id] at t
    exact nb_imp (nb_P t (gx_P_if fun z _ _ => z : gx_P _ (fun _ => gx_sg K V 40 (i + 1 + 1 + 1)))) (fun j' hj' => ⟨hj'.1.1, hj'.1.2.1, hj'.1.2.2, hj'.2.1, hj'.2.2⟩)
  split
  · rename_i s40
    have hi2 := hKZ (i + 1) (by omega) (by rw [s40.1]; decide)
    refine pN_call H i2 (t := i) (j := i + 1 + 1) (F := fun r s2 => gx_b (C (34, 0, 0, 0) s2) fun s3 => gx_b (xx_sign nx sx K V 59 r.1) fun j4 => (.inr (j4, r.2.1, s3) : gx_R (Nat × Nat × σ))) X0 Hh hi hi ?_ (by omega) (by omega) k2 k2 (Or.inr ⟨rfl, rfl⟩) (by omega) (fun r s2 r1 r2 E => fin r s2 (by omega) r2 E)
    have t := nb_op (P := P) (deep := deep) (f := fun j => (.inr j : gx_R Nat)) (Q := fun j' => j' = i + 1 + 1 ∧ i + 1 + 1 ≤ Z ∧ deep < 25 ∧ K (i + 1) = 5 ∧ V (i + 1) = 40) H (i := i + 1) (fun hd => ⟨rfl, by omega, hd, s40.1, s40.2⟩)
    rw [gx_b_id] at t
    exact t
  · exact H.2.2.2.1 _
theorem xe_ret_N (H : pr_H w K V C π nx sx Z) {g deep st i : Nat} {s : σ} (X : pX Z i st (π s)) (hn : nh (π s).2.1) (h6 : (π s).1 6 = 0) (ho : (π s).2.2.1 = []) (hd0 : 1 ≤ deep ∧ deep ≤ 25) (hi0 : 1 ≤ i) (hg : 3 * Z + 2 ≤ g) : nb (xe_ret nx sx K V P C g deep st i s) (fun a => i < a.1 ∧ a.1 ≤ Z ∧ pF (π s) (π a.2.2) (i - 1) a.1 a.2.1 ∧ ∀ k, (π a.2.2).2.2.2 k + 2 * i ≤ (π s).2.2.2 k + 2 * a.1 + 1) := by
  have hw := H.1
  have hZ := H.2.2.2.2.1
  have X0 := X
  obtain ⟨X1, X2, X3, X4, X5⟩ := X
  have fin : ∀ (j st' : Nat) (s2 : σ), i ≤ j → j < Z → pE (π s) (π s2) i j 1 st' → nb (gx_b (C (33, 0, 0, 0) s2) fun s3 => (.inr (j + 1, st', s3) : gx_R (Nat × Nat × σ))) (fun a => i < a.1 ∧ a.1 ≤ Z ∧ pF (π s) (π a.2.2) (i - 1) a.1 a.2.1 ∧ ∀ k, (π a.2.2).2.2.2 k + 2 * i ≤ (π s).2.2.2 k + 2 * a.1 + 1) := by
    intro j st' s2 r1 r2 E
    have Y := E.x X0 (by omega)
    refine nb_C H (p' := (pu (pu (π s2).1 6 0) 16 0, (π s2).2.1, (π s2).2.2.1, fun k => (π s2).2.2.2 k + w k 33)) (pr_ok ⟨Y.1, by rw [E.2.1, h6], by rw [E.2.2.2.2.2.1, ho], by rw [E.2.2.2.2.1]; exact hn⟩ (pX_b H Y (fun k => by have := (hw k).2.1; omega))) (fun s3 e3 => ?_)
    have tk : ∀ k, (π s2).2.2.2 k + w k 33 + 2 * i ≤ (π s).2.2.2 k + 2 * (j + 1) + 1 := fun k => by
      have t2 := E.2.2.2.2.2.2 k
      have t4 := (hw k).2.1
      omega
    refine ⟨by show i < j + 1; omega, by show j + 1 ≤ Z; omega, ?_, fun k => by rw [(pr_parts e3).2.2.2 k]; exact tk k⟩
    obtain ⟨p1, p2, p3, p4⟩ := pr_parts e3
    exact pF_add (n := 33) (i := i - 1) (j2 := j + 1) ⟨E.1, E.2.1, E.2.2.1, E.2.2.2.1, E.2.2.2.2.1, E.2.2.2.2.2.1, fun k => by have := E.2.2.2.2.2.2 k; omega⟩ e3 h6 (by omega) (fun k => by have := tk k; omega)
  unfold xe_ret
  split
  · rename_i s59
    have hi := H.2.2.2.2.2.1 i X4 (by rw [s59.1]; decide)
    refine nb_C H (p' := (pu (π s).1 6 ((π s).1 6 + 1), (π s).2.1, (π s).2.2.1, fun k => (π s).2.2.2 k + w k 1)) (pr_ok ⟨X1, (pH_0 hd0.2 h6 ho).hb (by omega), Or.inl rfl⟩ (pX_b H X0 (fun k => by have := (hw k).1; omega))) (fun s1 e1 => nb_sg H X4 (fun _ => ?_))
    -- a 0 that no token pays for
    obtain ⟨q1, q2, q3, q4⟩ := pr_parts e1
    have c9 : (π s1).1 9 = 6 ∧ (π s1).1 16 = 1 := by rw [q1]; exact X1
    have c6 : (π s1).1 6 = 1 := by rw [q1, pu_s, h6]
    refine nb_C H (p' := (pu (pu (π s1).1 6 0) 16 0, (π s1).2.1, (π s1).2.2.1, fun k => (π s1).2.2.2 k + w k 33)) (pr_ok ⟨c9, c6, by rw [q3, ho], by rw [q2]; exact hn⟩ (fun k => by rw [q4 k]; have := X5 k; have := (hw k).1; have := (hw k).2.1; omega)) (fun s3 e3 => ?_)
    obtain ⟨p1, p2, p3, p4⟩ := pr_parts e3
    have tk : ∀ k, (π s3).2.2.2 k + 2 * i ≤ (π s).2.2.2 k + 2 * (i + 1) + 1 := fun k => by
      rw [p4 k, q4 k]
      have t3 := (hw k).1
      have t4 := (hw k).2.1
      omega
    refine ⟨by show i < i + 1; omega, by show i + 1 ≤ Z; omega, ?_, tk⟩
    exact ⟨fun n h1 h2 h3 h4 => by rw [p1, pu_n _ _ _ _ h4, pu_n _ _ _ _ h1, q1, pu_n _ _ _ _ h1], by rw [p1]; rfl, by rw [p1, h6]; rfl, by rw [p1, pu_n _ _ _ _ (by decide), pu_n _ _ _ _ (by decide), q1, pu_n _ _ _ _ (by decide)]; exact X3, by rw [p1, pu_n _ _ _ _ (by decide), pu_n _ _ _ _ (by decide), q1, pu_n _ _ _ _ (by decide)]; show _ ≤ i + 1; omega, p2.trans q2, p3.trans q3, fun k => by have := tk k; show (π s3).2.2.2 k + 2 * (i - 1) ≤ (π s).2.2.2 k + 2 * (i + 1); omega⟩
  · refine nb_b (xe_e_N H X0 (pH_0 hd0.2 h6 ho) (by omega)) (fun r h => ?_)
    obtain ⟨a1, a2, A⟩ := h
    exact nb_sg H a2 (fun hr => fin r.1 r.2.1 r.2.2.1 (by omega) hr A)
end
