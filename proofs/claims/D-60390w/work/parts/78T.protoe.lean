/-! PURE LAYER, 74: expressions keep to the protocol -/
section
variable {w : Nat → Nat → Nat} {K V P : Nat → Int} {σ : Type} {C : gx_V → σ → gx_R σ} {π : σ → pr_S} {nx : Nat → gx_R Nat} {sx : Nat → Int × Int} {Z : Nat}
theorem pX_b {p : pr_S} {i st n : Nat} (H : pr_H w K V C π nx sx Z) (X : pX Z i st p) (hn : ∀ k, w k n ≤ 5) : ∀ k, p.2.2.2 k + w k n ≤ 2100 := fun k => by
  have := X.2.2.2.2 k
  have := X.2.2.2.1
  have := H.2.2.2.2.1
  have := hn k
  omega
/-- one event more; values go up by d -/
theorem pE_ev {p p' : pr_S} {c' : Nat → Nat} {i j d st' n : Nat} (h : p' = (c', p.2.1, p.2.2.1, fun k => p.2.2.2 k + w k n)) (hc : ∀ n, n ≠ 6 → n ≠ 8 → n ≠ 10 → c' n = p.1 n) (h6 : c' 6 = p.1 6 + d) (h8 : c' 8 = st') (h10 : c' 10 ≤ j) (hw : ∀ k, w k n + 2 * i ≤ 2 * j) : pE p p' i j d st' := by
  rw [h]
  exact ⟨hc, h6, h8, h10, rfl, rfl, fun k => by have := hw k; show p.2.2.2 k + w k n + 2 * i ≤ _; omega⟩
/-- behind a part: one event more, values go from d to d2 -/
theorem pE_add {p p2 p3 : pr_S} {c' : Nat → Nat} {i j j2 d d2 st st' n : Nat} (E : pE p p2 i j d st) (h : p3 = (c', p2.2.1, p2.2.2.1, fun k => p2.2.2.2 k + w k n)) (hc : ∀ n, n ≠ 6 → n ≠ 8 → n ≠ 10 → c' n = p2.1 n) (h6 : c' 6 = p.1 6 + d2) (h8 : c' 8 = st') (h10 : c' 10 ≤ j2) (hw : ∀ k, p2.2.2.2 k + w k n + 2 * i ≤ p.2.2.2 k + 2 * j2) : pE p p3 i j2 d2 st' := by
  rw [h]
  exact ⟨fun n h1 h2 h3 => (hc n h1 h2 h3).trans (E.1 n h1 h2 h3), h6, h8, h10, E.2.2.2.2.1, E.2.2.2.2.2.1, hw⟩
theorem pE_on {p p' : pr_S} {i j j2 d st : Nat} (E : pE p p' i j d st) (h : j ≤ j2) : pE p p' i j2 d st := ⟨E.1, E.2.1, E.2.2.1, by have := E.2.2.2.1; omega, E.2.2.2.2.1, E.2.2.2.2.2.1, fun k => by have := E.2.2.2.2.2.2 k; omega⟩
theorem pE_0 {p : pr_S} {i st : Nat} (X : pX Z i st p) : pE p p i i 0 st := ⟨fun _ _ _ _ => rfl, rfl, X.2.2.1, X.2.1, rfl, rfl, fun k => by omega⟩
def pN0 (K V : Nat → Int) (π : σ → pr_S) (Z : Nat) (r : Nat → Nat → Nat → Nat → σ → gx_R (Nat × Nat × σ × Nat)) (F : Nat) : Prop := ∀ deep st i s, pX Z i st (π s) → pH K V deep 1 (π s) → 3 * (Z - i) + 1 ≤ F → nb (r deep st i F s) (fun a => i < a.1 ∧ a.1 ≤ Z ∧ pE (π s) (π a.2.2.1) i a.1 1 a.2.1)
def pN1 (K V : Nat → Int) (π : σ → pr_S) (Z : Nat) (r : Nat → Nat → Nat → Nat → σ → gx_R (Nat × Nat × σ × Nat)) (F : Nat) : Prop := ∀ deep st i s, pX Z i st (π s) → pH K V deep 1 (π s) → 1 ≤ (π s).1 6 → 3 * (Z - i) + 1 ≤ F → nb (r deep st i F s) (fun a => i ≤ a.1 ∧ a.1 ≤ Z ∧ pE (π s) (π a.2.2.1) i a.1 0 a.2.1)
theorem nb_P {α : Type} {r : gx_R α} {Q Q' : α → Prop} (h : nb r Q) (h' : gx_P r Q') : nb r (fun a => Q a ∧ Q' a) := by
  cases r with
  | inl x => exact h
  | inr a => exact ⟨h, h' a rfl⟩
/-- among the e of a call (q): n of them are through, behind m commas -/
def pG (K V : Nat → Int) (deep n : Nat) (m : Int) (i : Nat) (q : Int × Int × Nat) (l : List (Int × Int × Nat)) (p : pr_S) : Prop := deep ≤ 25 ∧ p.2.2.1 = q :: l ∧ p.1 6 = q.2.2 + n ∧ (∀ K2 : Nat → Int, ag K K2 → sc K2 V q.2.1.toNat i m) ∧ ((∀ q' ∈ l, ∀ z, pr_c K V q'.2.1.toNat z → z ≤ 12) → q.2.2 + l.length + 13 ≤ 14 * deep) ∧ ∃ z, pr_c K V q.2.1.toNat z
theorem pG.h {deep n i : Nat} {q : Int × Int × Nat} {l : List (Int × Int × Nat)} {p : pr_S} (G : pG K V deep n n i q l p) (h : q.2.1.toNat + 2 < i ∨ n = 0) : pH K V deep 0 p := by
  obtain ⟨g1, g2, g3, g4, g5, z, g6⟩ := G
  refine ⟨g1, fun hq => ?_⟩
  rw [g2] at hq
  have h1 := hq q List.mem_cons_self z g6
  have h2 := (g4 K (fun _ _ _ => rfl)).le (by omega) (by omega) g6
  have h3 := g5 (fun q' hq' => hq q' (List.mem_cons_of_mem _ hq'))
  rw [g2, List.length_cons, g3]
  omega
theorem pG.e {deep n i j d st : Nat} {m : Int} {q : Int × Int × Nat} {l : List (Int × Int × Nat)} {p p' : pr_S} (G : pG K V deep n m i q l p) (E : pE p p' i j d st) (g : ∀ K2 : Nat → Int, ag K K2 → gc K2 V i j 0 1) (hij : i < j) (hj : j ≤ 1001) : pG K V deep (n + d) m j q l p' := by
  obtain ⟨g1, g2, g3, g4, g5, g6⟩ := G
  exact ⟨g1, by rw [E.2.2.2.2.2.1]; exact g2, by rw [E.2.1, g3]; omega, fun K2 e => (g4 K2 e).go (g K2 e) hij hj, g5, g6⟩
theorem H_gc (H : pr_H w K V C π nx sx Z) : ∀ i, gx_P (nx i) (fun j => j = i + 1) := fun i a ha => by
  have := H.2.2.1 i
  rw [ha] at this
  exact this
def pN2 (K V : Nat → Int) (π : σ → pr_S) (Z : Nat) (r : Nat → Nat → Nat → Nat → σ → gx_R (Nat × Nat × σ × Nat)) (F : Nat) : Prop := ∀ deep st i s q l, pX Z i st (π s) → pG K V deep 0 0 i q l (π s) → i = q.2.1.toNat + 2 → 3 * (Z - i) + 2 ≤ F → nb (r deep st i F s) (fun a => i < a.1 ∧ a.1 ≤ Z ∧ pE (π s) (π a.2.2.1) i a.1 a.2.2.2 a.2.1 ∧ (∀ k, (π a.2.2.1).2.2.2 k + 2 * i + 2 ≤ (π s).2.2.2 k + 2 * a.1) ∧ pr_cs K V q.2.1.toNat (a.2.2.2 : Int))
def pN3 (K V : Nat → Int) (π : σ → pr_S) (Z : Nat) (r : Nat → Nat → Nat → Nat → σ → gx_R (Nat × Nat × σ × Nat)) (F : Nat) : Prop := ∀ deep st i s q l (n : Nat), pX Z i st (π s) → pG K V deep (n + 1) n i q l (π s) → q.2.1.toNat + 2 < i → 3 * (Z - i) + 1 ≤ F → nb (r deep st i F s) (fun a => i < a.1 ∧ a.1 ≤ Z ∧ pE (π s) (π a.2.2.1) i a.1 a.2.2.2 a.2.1 ∧ (∀ k, (π a.2.2.1).2.2.2 k + 2 * i + 2 ≤ (π s).2.2.2 k + 2 * a.1) ∧ pr_cs K V q.2.1.toNat ((n : Int) + 1 + (a.2.2.2 : Int)))
theorem pr_tk {c : Nat → Nat} {i : Nat} {n : Int} (h : c 10 ≤ i) (hi : i < 1000) (k : K i = n) : pr_t K c (i : Int) n := ⟨by omega, by rw [Int.toNat_natCast]; exact h, by rw [Int.toNat_natCast]; exact hi, by rw [Int.toNat_natCast]; exact k⟩
theorem pr_12 {e : gx_V} {p : pr_S} {q : Int × Int × Nat} {l : List (Int × Int × Nat)} (h1 : e.1 = 12) (ho : p.2.2.1 = q :: l) : pr w K V e p = pr_q w 12 p ((p.1 9 = 6 ∧ p.1 16 = 1) ∧ q.1 = e.2.1 ∧ q.2.1 = e.2.2.1 ∧ 0 ≤ e.2.2.2 ∧ p.1 6 = q.2.2 + e.2.2.2.toNat ∧ pr_cs K V e.2.2.1.toNat e.2.2.2 ∧ pr_hb K V (q.2.2 + 1) l) (pu p.1 6 (q.2.2 + 1)) p.2.1 l := by
  unfold pr
  rw [h1]
  show (match p.2.2.1 with
    | [] => (.inl (8, 0) : gx_R pr_S)
    | q :: l => pr_q w 12 p ((p.1 9 = 6 ∧ p.1 16 = 1) ∧ q.1 = e.2.1 ∧ q.2.1 = e.2.2.1 ∧ 0 ≤ e.2.2.2 ∧ p.1 6 = q.2.2 + e.2.2.2.toNat ∧ pr_cs K V e.2.2.1.toNat e.2.2.2 ∧ pr_hb K V (q.2.2 + 1) l) (pu p.1 6 (q.2.2 + 1)) p.2.1 l) = _
  rw [ho]
/-- a call: names at i and t; behind them x, and then the arguments from j on -/
theorem pN_call (H : pr_H w K V C π nx sx Z) {f : Nat} (h2 : pN2 K V π Z (fun deep st i F s => xe nx sx K V P C F 2 deep st i s) f) {β : Type} {deep st i t j : Nat} {fl : Int} {s : σ} {x : gx_R Nat} {F : Nat × Nat × σ × Nat → σ → gx_R β} {Q : β → Prop} (X : pX Z i st (π s)) (Hh : pH K V deep 1 (π s)) (hi : i < Z) (ht : t < Z) (hx : nb x (fun j' => j' = j ∧ j ≤ Z ∧ deep < 25 ∧ K (t + 1) = 5 ∧ V (t + 1) = 40)) (hj : j = t + 2) (hij : i + 1 < j) (k2 : K i = 2) (k2t : K t = 2) (hfl : fl = 1 ∧ t = i + 2 ∨ fl = 0 ∧ t = i) (hf : 3 * (Z - j) + 2 ≤ f)
    (hk : ∀ r s2, j < r.1 → r.1 ≤ Z → pE (π s) (π s2) i r.1 1 r.2.1 → nb (F r s2) Q) :
    nb (gx_b (C (11, (i : Int), (t : Int), fl) s) fun s1 => gx_b x fun j' => gx_b (xe nx sx K V P C f 2 (deep + 1) st j' s1) fun r => gx_b (C (12, (i : Int), (t : Int), (r.2.2.2 : Int)) r.2.2.1) fun s2 => F r s2) Q := by
  have hw := H.1
  have hZ := H.2.2.2.2.1
  obtain ⟨X1, X2, X3, X4, X5⟩ := X
  have e11 : pr w K V (11, (i : Int), (t : Int), fl) (π s) = .inr (pu (π s).1 10 ((t : Int).toNat + 1), (π s).2.1, ((i : Int), (t : Int), (π s).1 6) :: (π s).2.2.1, fun k => (π s).2.2.2 k + w k 11) := pr_ok ⟨X1, pr_tk X2 (by omega) k2, pr_tk (by omega) (by omega) k2t, by dsimp only; omega, fun z => by have := Hh.2 (fun q hq => z q (List.mem_cons_of_mem _ hq)); have := Hh.1; show (π s).1 6 + ((π s).2.2.1.length + 1) ≤ 352; omega⟩ (pX_b H ⟨X1, X2, X3, X4, X5⟩ (fun k => by have := (hw k).1; omega))
  rw [Int.toNat_natCast] at e11
  refine nb_C H e11 (fun s1 e1 => nb_b hx (fun j' hj' => ?_))
  obtain ⟨rfl, hjz, hd, h5, h40⟩ := hj'
  have Y : pX Z j' st (π s1) := by
    rw [e1]
    exact ⟨⟨(pu_n (π s).1 10 (t + 1) 9 (by decide)).trans X1.1, (pu_n (π s).1 10 (t + 1) 16 (by decide)).trans X1.2⟩, (by show pu (π s).1 10 (t + 1) 10 ≤ j'; rw [pu_s]; omega), (pu_n (π s).1 10 (t + 1) 8 (by decide)).trans X3, hjz, fun k => by show (π s).2.2.2 k + w k 11 ≤ _; have := X5 k; have := (hw k).1; omega⟩
  have G : pG K V (deep + 1) 0 0 j' ((i : Int), (t : Int), (π s).1 6) (π s).2.2.1 (π s1) := by
    rw [e1]
    refine ⟨by omega, rfl, pu_n (π s).1 10 (t + 1) 6 (by decide), ?_, fun z => by have := Hh.2 z; show (π s).1 6 + _ + 13 ≤ _; omega, ?_⟩
    · intro K2 e
      show sc K2 V ((t : Int).toNat) j' 0
      rw [Int.toNat_natCast, hj]
      exact sc_0 (by rw [e (t + 1) (by omega) (by omega)]; exact h5) h40
    · show ∃ z, pr_c K V ((t : Int).toNat) z
      rw [Int.toNat_natCast]
      exact H.2.2.2.2.2.2.2 t (by omega)
  refine nb_b (h2 (deep + 1) st j' s1 _ _ Y G (by show j' = (t : Int).toNat + 2; rw [Int.toNat_natCast]; exact hj) hf) (fun r hr => ?_)
  obtain ⟨r1, r2, E, r3, rc⟩ := hr
  have Y2 := E.x Y r2
  obtain ⟨E1, E2, E3, E4, E5, E6, E7⟩ := E
  have e6 : (π s1).1 6 = (π s).1 6 := by rw [e1]; exact pu_n (π s).1 10 (t + 1) 6 (by decide)
  have eo : (π r.2.2.1).2.2.1 = ((i : Int), (t : Int), (π s).1 6) :: (π s).2.2.1 := by rw [E6, e1]
  have e12 : pr w K V (12, (i : Int), (t : Int), (r.2.2.2 : Int)) (π r.2.2.1) = .inr (pu (π r.2.2.1).1 6 ((π s).1 6 + 1), (π r.2.2.1).2.1, (π s).2.2.1, fun k => (π r.2.2.1).2.2.2 k + w k 12) := by
    rw [pr_12 rfl eo]
    exact pr_ok ⟨Y2.1, rfl, rfl, by dsimp only; omega, by rw [E2, e6]; dsimp only; rw [Int.toNat_natCast], rc, Hh.hb (Nat.le_refl _)⟩ (pX_b H Y2 (fun k => by have := (hw k).1; omega))
  refine nb_C H e12 (fun s2 e2 => hk r s2 r1 r2 ?_)
  rw [e2]
  refine ⟨fun n h1 h2 h3 => ?_, (by show pu (π r.2.2.1).1 6 ((π s).1 6 + 1) 6 = _; rw [pu_s]), (pu_n (π r.2.2.1).1 6 ((π s).1 6 + 1) 8 (by decide)).trans E3, Nat.le_trans (Nat.le_of_eq (pu_n (π r.2.2.1).1 6 ((π s).1 6 + 1) 10 (by decide))) E4, ?_, rfl, fun k => ?_⟩
  · show pu (π r.2.2.1).1 6 ((π s).1 6 + 1) n = _
    rw [pu_n _ _ _ _ h1, E1 n h1 h2 h3, e1]
    exact pu_n (π s).1 10 (t + 1) n h3
  · show (π r.2.2.1).2.1 = _
    rw [E5, e1]
  · show (π r.2.2.1).2.2.2 k + w k 12 + 2 * i ≤ (π s).2.2.2 k + 2 * r.1
    have a1 := r3 k
    have a2 := (hw k).1
    have a3 : (π s1).2.2.2 k = (π s).2.2.2 k + w k 11 := by rw [e1]
    omega
theorem xe_N (H : pr_H w K V C π nx sx Z) : ∀ f, pN0 K V π Z (fun deep st i F s => xe nx sx K V P C F 0 deep st i s) f ∧ pN1 K V π Z (fun deep st i F s => xe nx sx K V P C F 1 deep st i s) f ∧ pN2 K V π Z (fun deep st i F s => xe nx sx K V P C F 2 deep st i s) f ∧ pN3 K V π Z (fun deep st i F s => xe nx sx K V P C F 3 deep st i s) f
  | 0 => ⟨fun _ _ _ _ _ _ h => by omega, fun _ _ _ _ _ _ _ h => by omega, fun _ _ _ _ _ _ _ _ _ h => by omega, fun _ _ _ _ _ _ _ _ _ _ h => by omega⟩
  | f + 1 => by
    obtain ⟨i0, i1, i2, i3⟩ := xe_N H f
    have hw := H.1
    have hZ := H.2.2.2.2.1
    have hKZ := H.2.2.2.2.2.1
    have hgc := H_gc H
    refine ⟨fun deep st i s X Hh hf => ?_, fun deep st i s X Hh ht hf => ?_, fun deep st i s q l X G hq hf => ?_, fun deep st i s q l n X G hq hf => ?_⟩
    · -- a term
      have X0 := X
      obtain ⟨X1, X2, X3, X4, X5⟩ := X
      -- one token, one event
      have one : ∀ {n : Nat} {st' : Nat} {c' : Nat → Nat} {e : gx_V}, i < Z → pr w K V e (π s) = .inr (c', (π s).2.1, (π s).2.2.1, fun k => (π s).2.2.2 k + w k n) → (∀ n, n ≠ 6 → n ≠ 8 → n ≠ 10 → c' n = (π s).1 n) → c' 6 = (π s).1 6 + 1 → c' 8 = st' → c' 10 ≤ i + 1 → (∀ k, w k n ≤ 2) → nb (gx_b (C e s) fun s1 => gx_b (nx i) fun j => (.inr (j, st', s1, 0) : gx_R (Nat × Nat × σ × Nat))) (fun a => i < a.1 ∧ a.1 ≤ Z ∧ pE (π s) (π a.2.2.1) i a.1 1 a.2.1) := by
        intro n st' c' e hi he hc h6 h8 h10 hwn
        refine nb_C H he (fun s' es => nb_n H ?_)
        exact ⟨by show i < i + 1; omega, by show i + 1 ≤ Z; omega, pE_ev es hc h6 h8 h10 (fun k => by have := hwn k; omega)⟩
      show nb (xe nx sx K V P C (f + 1) 0 deep st i s) _
      rw [xe]
      split
      · rename_i k3
        exact one (n := 1) (hKZ i X4 (by omega)) (pr_ok ⟨X1, Hh.hb (Nat.le_refl _), Or.inr ⟨i, by have := hKZ i X4 (by omega); omega, k3, rfl⟩⟩ (pX_b H X0 (fun k => by have := (hw k).1; omega))) (fun n h1 h2 h3 => pu_n _ _ _ _ h1) (pu_s _ _ _) (by rw [pu_n _ _ _ _ (by decide)]; exact X3) (by rw [pu_n _ _ _ _ (by decide)]; omega) (fun k => by have := (hw k).1; omega)
      split
      · rename_i k4
        have hi := hKZ i X4 (by omega)
        have v4 := H.2.2.2.2.2.2.1 i X4 k4
        refine nb_if (show (2 : Int) < 8 by decide) (fun hst => ?_)
        refine one (n := 5) hi (pr_ok ⟨X1, pr_tk X2 (by omega) k4, by dsimp only; rw [Int.toNat_natCast]; exact v4, by dsimp only; rw [Int.toNat_natCast, X3]; exact hst, Hh.hb (Nat.le_refl _)⟩ (pX_b H X0 (fun k => by have := (hw k).1; omega))) (fun n h1 h2 h3 => ?_) ?_ ?_ ?_ (fun k => by have := (hw k).1; omega)
        · rw [pu_n _ _ _ _ h3, pu_n _ _ _ _ h2, pu_n _ _ _ _ h1]
        · rw [pu_n _ _ _ _ (by decide), pu_n _ _ _ _ (by decide), pu_s]
        · rw [pu_n _ _ _ _ (by decide), pu_s, X3]; dsimp only; rw [Int.toNat_natCast]
        · rw [pu_s]; dsimp only; rw [Int.toNat_natCast]; omega
      split
      · rename_i k1
        have hi := hKZ i X4 (by omega)
        refine nb_if (H.2.2.2.1 i) (fun hv => ?_)
        split
        · refine one (n := 4) hi (pr_ok ⟨X1, pr_tk X2 (by omega) k1, Hh.hb (Nat.le_refl _)⟩ (pX_b H X0 (fun k => by have := (hw k).1; omega))) (fun n h1 h2 h3 => ?_) ?_ ?_ ?_ (fun k => by have := (hw k).1; omega)
          · rw [pu_n _ _ _ _ h3, pu_n _ _ _ _ h1]
          · rw [pu_n _ _ _ _ (by decide), pu_s]
          · rw [pu_n _ _ _ _ (by decide), pu_n _ _ _ _ (by decide)]; exact X3
          · rw [pu_s]; dsimp only; rw [Int.toNat_natCast]; omega
        · split
          · exact one (n := 2) hi (pr_ok ⟨X1, Hh.hb (Nat.le_refl _)⟩ (pX_b H X0 (fun k => by have := (hw k).1; omega))) (fun n h1 h2 h3 => pu_n _ _ _ _ h1) (pu_s _ _ _) (by rw [pu_n _ _ _ _ (by decide)]; exact X3) (by rw [pu_n _ _ _ _ (by decide)]; omega) (fun k => by have := (hw k).1; omega)
          · exact one (n := 3) hi (pr_ok ⟨X1, Hh.hb (Nat.le_refl _)⟩ (pX_b H X0 (fun k => by have := (hw k).1; omega))) (fun n h1 h2 h3 => pu_n _ _ _ _ h1) (pu_s _ _ _) (by rw [pu_n _ _ _ _ (by decide)]; exact X3) (by rw [pu_n _ _ _ _ (by decide)]; omega) (fun k => by have := (hw k).1; omega)
      split
      · rename_i k2
        have hi := hKZ i X4 (by omega)
        -- a variable's event
        have ev6 : pr w K V (6, (i : Int), 0, 0) (π s) = .inr (pu (pu (π s).1 6 ((π s).1 6 + 1)) 10 ((i : Int).toNat + 1), (π s).2.1, (π s).2.2.1, fun k => (π s).2.2.2 k + w k 6) := pr_ok ⟨X1, pr_tk X2 (by omega) k2, Hh.hb (Nat.le_refl _)⟩ (pX_b H X0 (fun k => by have := (hw k).1; omega))
        have E6 : ∀ {s' : σ}, π s' = (pu (pu (π s).1 6 ((π s).1 6 + 1)) 10 ((i : Int).toNat + 1), (π s).2.1, (π s).2.2.1, fun k => (π s).2.2.2 k + w k 6) → pE (π s) (π s') i (i + 1) 1 st := by
          intro s' es
          refine pE_ev es (fun n h1 h2 h3 => ?_) ?_ ?_ ?_ (fun k => by have := (hw k).1; omega)
          · rw [pu_n _ _ _ _ h3, pu_n _ _ _ _ h1]
          · rw [pu_n _ _ _ _ (by decide), pu_s]
          · rw [pu_n _ _ _ _ (by decide), pu_n _ _ _ _ (by decide)]; exact X3
          · rw [pu_s, Int.toNat_natCast]; omega
        refine nb_n H ?_
        split
        · rename_i s91
          have hi2 := hKZ (i + 1) (by omega) (by rw [s91.1]; decide)
          refine nb_C H ev6 (fun s1 e1 => nb_op H (fun hd => ?_))
          have Y1 := (pE_on (E6 e1) (show i + 1 ≤ i + 1 + 1 by omega)).x X0 (by omega)
          have W1 := ((E6 e1).h Hh).up (by omega) hd
          refine nb_b (i0 _ _ _ _ Y1 (W1.mono (by omega)) (by omega)) (fun r1 h1 => ?_)
          obtain ⟨a1, a2, A⟩ := h1
          refine nb_b (i1 _ _ _ _ (A.x Y1 a2) (A.h W1) (by rw [A.2.1]; omega) (by omega)) (fun r2 h2 => ?_)
          obtain ⟨b1, b2, B⟩ := h2
          have T := ((pE_on (E6 e1) (show i + 1 ≤ i + 1 + 1 by omega)).trans A).trans B
          have Y2 := T.x X0 b2
          refine nb_sg H b2 (fun hb => nb_C H (p' := (pu (π r2.2.2.1).1 6 ((π r2.2.2.1).1 6 - 1), (π r2.2.2.1).2.1, (π r2.2.2.1).2.2.1, fun k => (π r2.2.2.1).2.2.2 k + w k 7)) (pr_ok ⟨Y2.1, by rw [T.2.1]; omega⟩ (pX_b H Y2 (fun k => by have := (hw k).1; omega))) (fun s2 e2 => ?_))
          refine ⟨by show i < r2.1 + 1; omega, by show r2.1 + 1 ≤ Z; omega, ?_⟩
          refine pE_add T e2 (fun n h1 h2 h3 => pu_n _ _ _ _ h1) (by rw [pu_s, T.2.1]; omega) (by rw [pu_n _ _ _ _ (by decide)]; exact T.2.2.1) (by rw [pu_n _ _ _ _ (by decide)]; have := T.2.2.2.1; show _ ≤ r2.1 + 1; omega) (fun k => ?_)
          have t1 := A.2.2.2.2.2.2 k
          have t2 := B.2.2.2.2.2.2 k
          have t3 := (hw k).1
          have t4 : (π s1).2.2.2 k = (π s).2.2.2 k + w k 6 := by rw [e1]
          show _ ≤ (π s).2.2.2 k + 2 * (r2.1 + 1)
          omega
        split
        · rename_i s46
          have hi2 := hKZ (i + 1) (by omega) (by rw [s46.1]; decide)
          refine nb_n H (nb_nm H (by omega) (fun k2t ht => ?_))
          refine pN_call H i2 (t := i + 1 + 1) (j := i + 1 + 1 + 1 + 1) (F := fun r s2 => (.inr (r.1, r.2.1, s2, 0) : gx_R (Nat × Nat × σ × Nat))) X0 Hh hi ht ?_ (by omega) (by omega) k2 k2t (Or.inl ⟨rfl, rfl⟩) (by omega) (fun r s2 r1 r2 E => ⟨by show i < r.1; omega, r2, E⟩)
          have t := nb_ops (P := P) (deep := deep) (c := 40) (f := fun j => (.inr j : gx_R Nat)) (Q := fun j' => j' = i + 1 + 1 + 1 + 1 ∧ i + 1 + 1 + 1 + 1 ≤ Z ∧ deep < 25) H (i := i + 1 + 1 + 1) (by omega) (fun h1 hd => ⟨rfl, by omega, hd⟩)
          rw [gx_b_id] at t
          exact nb_imp (nb_P t (gx_P_if fun z _ _ => z : gx_P _ (fun _ => gx_sg K V 40 (i + 1 + 1 + 1)))) (fun j' hj' => ⟨hj'.1.1, hj'.1.2.1, hj'.1.2.2, hj'.2.1, hj'.2.2⟩)
        split
        · rename_i s40
          have hi2 := hKZ (i + 1) (by omega) (by rw [s40.1]; decide)
          refine pN_call H i2 (t := i) (j := i + 1 + 1) (F := fun r s2 => (.inr (r.1, r.2.1, s2, 0) : gx_R (Nat × Nat × σ × Nat))) X0 Hh hi hi ?_ (by omega) (by omega) k2 k2 (Or.inr ⟨rfl, rfl⟩) (by omega) (fun r s2 r1 r2 E => ⟨by show i < r.1; omega, r2, E⟩)
          have t := nb_op (P := P) (deep := deep) (f := fun j => (.inr j : gx_R Nat)) (Q := fun j' => j' = i + 1 + 1 ∧ i + 1 + 1 ≤ Z ∧ deep < 25 ∧ K (i + 1) = 5 ∧ V (i + 1) = 40) H (i := i + 1) (fun hd => ⟨rfl, by omega, hd, s40.1, s40.2⟩)
          rw [gx_b_id] at t
          exact t
        · refine nb_C H ev6 (fun s1 e1 => ?_)
          exact ⟨by show i < i + 1; omega, by show i + 1 ≤ Z; omega, E6 e1⟩
      split
      · rename_i s40
        have hi := hKZ i X4 (by rw [s40.1]; decide)
        refine nb_op H (fun hd => ?_)
        have Y1 := (pE_on (pE_0 X0) (show i ≤ i + 1 by omega)).x X0 (by omega)
        have W1 := Hh.up (by omega) hd
        refine nb_b (i0 _ _ _ _ Y1 (W1.mono (by omega)) (by omega)) (fun r1 h1 => ?_)
        obtain ⟨a1, a2, A⟩ := h1
        refine nb_b (i1 _ _ _ _ (A.x Y1 a2) (A.h W1) (by rw [A.2.1]; omega) (by omega)) (fun r2 h2 => ?_)
        obtain ⟨b1, b2, B⟩ := h2
        have T := ((pE_on (pE_0 X0) (show i ≤ i + 1 by omega)).trans A).trans B
        exact nb_sg H b2 (fun hb => ⟨by show i < r2.1 + 1; omega, by show r2.1 + 1 ≤ Z; omega, pE_on T (by show r2.1 ≤ r2.1 + 1; omega)⟩)
      · refine nb_if (H.2.2.2.1 i) (fun hv => ?_)
        have hi := hKZ i X4 (by rcases hv with z | z <;> (rw [z.1]; decide))
        refine nb_op H (fun hd => ?_)
        have Y1 := (pE_on (pE_0 X0) (show i ≤ i + 1 by omega)).x X0 (by omega)
        refine nb_b (i0 _ _ _ _ Y1 ((Hh.up (by omega) hd).mono (by omega)) (by omega)) (fun r1 h1 => ?_)
        obtain ⟨a1, a2, A⟩ := h1
        have T := (pE_on (pE_0 X0) (show i ≤ i + 1 by omega)).trans A
        have Y2 := T.x X0 a2
        have fin : ∀ (n : Nat) (s2 : σ), (∀ k, w k n ≤ 2) → π s2 = ((π r1.2.2.1).1, (π r1.2.2.1).2.1, (π r1.2.2.1).2.2.1, fun k => (π r1.2.2.1).2.2.2 k + w k n) → pE (π s) (π s2) i r1.1 1 r1.2.1 := by
          intro n s2 hn e2
          refine pE_add T e2 (fun n h1 h2 h3 => rfl) (by rw [T.2.1]) T.2.2.1 T.2.2.2.1 (fun k => ?_)
          have t1 := A.2.2.2.2.2.2 k
          have t2 := hn k
          omega
        split
        · refine nb_C H (p' := ((π r1.2.2.1).1, (π r1.2.2.1).2.1, (π r1.2.2.1).2.2.1, fun k => (π r1.2.2.1).2.2.2 k + w k 9)) (pr_ok ⟨Y2.1, by rw [T.2.1]; omega⟩ (pX_b H Y2 (fun k => by have := (hw k).1; omega))) (fun s2 e2 => ?_)
          exact ⟨by show i < r1.1; omega, a2, fin 9 s2 (fun k => by have := (hw k).1; omega) e2⟩
        · refine nb_C H (p' := ((π r1.2.2.1).1, (π r1.2.2.1).2.1, (π r1.2.2.1).2.2.1, fun k => (π r1.2.2.1).2.2.2 k + w k 10)) (pr_ok ⟨Y2.1, by rw [T.2.1]; omega⟩ (pX_b H Y2 (fun k => by have := (hw k).1; omega))) (fun s2 e2 => ?_)
          exact ⟨by show i < r1.1; omega, a2, fin 10 s2 (fun k => by have := (hw k).1; omega) e2⟩
    · -- behind a term
      show nb (xe nx sx K V P C (f + 1) 1 deep st i s) _
      rw [xe]
      split
      · rename_i c
        have hi := hKZ i X.2.2.2.1 (by rw [c.1]; decide)
        refine nb_n H ?_
        have Y1 := (pE_on (pE_0 X) (show i ≤ i + 1 by omega)).x X (by omega)
        refine nb_b (i0 _ _ _ _ Y1 Hh (by omega)) (fun r1 h1 => ?_)
        obtain ⟨a1, a2, A⟩ := h1
        have T := (pE_on (pE_0 X) (show i ≤ i + 1 by omega)).trans A
        have Y2 := T.x X a2
        refine nb_C H (p' := (pu (π r1.2.2.1).1 6 ((π r1.2.2.1).1 6 - 1), (π r1.2.2.1).2.1, (π r1.2.2.1).2.2.1, fun k => (π r1.2.2.1).2.2.2 k + w k 8)) (pr_ok ⟨Y2.1, by rw [T.2.1]; omega, c.2⟩ (pX_b H Y2 (fun k => by have := (hw k).1; omega))) (fun s2 e2 => ?_)
        have T2 : pE (π s) (π s2) i r1.1 0 r1.2.1 := by
          refine pE_add T e2 (fun n h1 h2 h3 => pu_n _ _ _ _ h1) (by rw [pu_s, T.2.1]; omega) (by rw [pu_n _ _ _ _ (by decide)]; exact T.2.2.1) (by rw [pu_n _ _ _ _ (by decide)]; exact T.2.2.2.1) (fun k => ?_)
          have t1 := A.2.2.2.2.2.2 k
          have t3 := (hw k).1
          omega
        refine nb_imp (i1 _ _ _ _ (T2.x X a2) (T2.h Hh) (by rw [T2.2.1]; omega) (by omega)) (fun a ha => ?_)
        exact ⟨by have := ha.1; omega, ha.2.1, T2.trans ha.2.2⟩
      · exact ⟨Nat.le_refl _, X.2.2.2.1, pE_0 X⟩
    · -- behind the ( of a call
      show nb (xe nx sx K V P C (f + 1) 2 deep st i s) _
      rw [xe]
      split
      · rename_i c
        have hi := hKZ i X.2.2.2.1 (by rw [c.1]; decide)
        have ec : pr_cs K V q.2.1.toNat 0 := fun K2 e => by
          have t := (G.2.2.2.1 K2 e).end (by rw [e i (by omega) (by rw [c.1]; decide)]; exact c.1) c.2 (by omega)
          rw [if_neg (by omega)] at t
          exact t
        exact nb_n H ⟨by show i < i + 1; omega, by show i + 1 ≤ Z; omega, pE_on (pE_0 X) (by show i ≤ i + 1; omega), fun k => by show (π s).2.2.2 k + 2 * i + 2 ≤ _ + 2 * (i + 1); omega, ec⟩
      · have W := G.h (n := 0) (Or.inr rfl)
        refine nb_b (nb_P (i0 _ _ _ _ X (W.mono (by omega)) (by omega)) (fun a ha K2 => xe_gc K2 hgc f 0 _ _ _ _ a ha)) (fun r1 h1 => ?_)
        obtain ⟨⟨a1, a2, A⟩, ga⟩ := h1
        refine nb_b (nb_P (i1 _ _ _ _ (A.x X a2) (A.h W) (by rw [A.2.1]; omega) (by omega)) (fun a ha K2 => xe_gc K2 hgc f 1 _ _ _ _ a ha)) (fun r2 h2 => ?_)
        obtain ⟨⟨b1, b2, B⟩, gb⟩ := h2
        have G2 : pG K V deep (0 + 1) ((0 : Nat) : Int) r2.1 q l (π r2.2.2.1) := G.e (A.trans B) (fun K2 e => gc.trans ((ga K2).2 e (by omega)) ((gb K2).2 e (by omega)) (z := 1) (by decide) (by decide)) (by omega) (by omega)
        refine nb_b (i3 _ _ _ _ q l 0 ((A.trans B).x X b2) G2 (by omega) (by omega)) (fun r3 h3 => ?_)
        obtain ⟨c1, c2, D, c4, c5⟩ := h3
        refine ⟨by show i < r3.1; omega, c2, ?_, fun k => ?_, ?_⟩
        · have T := (A.trans B).trans D
          rw [show 1 + 0 + r3.2.2.2 = r3.2.2.2 + 1 by omega] at T
          exact T
        · have t1 := A.2.2.2.2.2.2 k
          have t2 := B.2.2.2.2.2.2 k
          have t3 := c4 k
          show (π r3.2.2.1).2.2.2 k + 2 * i + 2 ≤ (π s).2.2.2 k + 2 * r3.1
          omega
        · show pr_cs K V q.2.1.toNat ((r3.2.2.2 + 1 : Nat) : Int)
          rw [show ((r3.2.2.2 + 1 : Nat) : Int) = ((0 : Nat) : Int) + 1 + (r3.2.2.2 : Int) by omega]
          exact c5
    · -- behind an e of a call
      show nb (xe nx sx K V P C (f + 1) 3 deep st i s) _
      rw [xe]
      · split
        · rename_i c
          have hi := hKZ i X.2.2.2.1 (by rw [c.1]; decide)
          have ec : pr_cs K V q.2.1.toNat ((n : Int) + 1) := fun K2 e => by
            have t := (G.2.2.2.1 K2 e).end (by rw [e i (by omega) (by rw [c.1]; decide)]; exact c.1) c.2 (by omega)
            rw [if_pos (by omega)] at t
            exact t
          exact nb_n H ⟨by show i < i + 1; omega, by show i + 1 ≤ Z; omega, pE_on (pE_0 X) (by show i ≤ i + 1; omega), fun k => by show (π s).2.2.2 k + 2 * i + 2 ≤ _ + 2 * (i + 1); omega, by show pr_cs K V _ ((n : Int) + 1 + 0); rw [Int.add_zero]; exact ec⟩
        · refine nb_b (Q := fun j => j = i + 1 ∧ i < Z ∧ gx_sg K V 44 i) (nb_if (H.2.2.2.1 i) (fun c => nb_imp (H.2.2.1 i) (fun j hj => ⟨hj, H.2.2.2.2.2.1 i X.2.2.2.1 (by rw [c.1]; decide), c⟩))) (fun j hj => ?_)
          obtain ⟨rfl, hi, c44⟩ := hj
          have Y1 := (pE_on (pE_0 X) (show i ≤ i + 1 by omega)).x X (by omega)
          have G1 : pG K V deep (n + 1) ((n + 1 : Nat) : Int) (i + 1) q l (π s) := ⟨G.1, G.2.1, G.2.2.1, fun K2 e => (by have t := (G.2.2.2.1 K2 e).comma (by rw [e i (by omega) (by rw [c44.1]; decide)]; exact c44.1) c44.2 (by omega); exact t), G.2.2.2.2⟩
          have W := G1.h (Or.inl (by omega))
          refine nb_b (nb_P (i0 _ _ _ _ Y1 (W.mono (by omega)) (by omega)) (fun a ha K2 => xe_gc K2 hgc f 0 _ _ _ _ a ha)) (fun r1 h1 => ?_)
          obtain ⟨⟨a1, a2, A⟩, ga⟩ := h1
          refine nb_b (nb_P (i1 _ _ _ _ (A.x Y1 a2) (A.h W) (by rw [A.2.1]; omega) (by omega)) (fun a ha K2 => xe_gc K2 hgc f 1 _ _ _ _ a ha)) (fun r2 h2 => ?_)
          obtain ⟨⟨b1, b2, B⟩, gb⟩ := h2
          have G2 : pG K V deep (n + 1 + 1) ((n + 1 : Nat) : Int) r2.1 q l (π r2.2.2.1) := G1.e (A.trans B) (fun K2 e => gc.trans ((ga K2).2 e (by omega)) ((gb K2).2 e (by omega)) (z := 1) (by decide) (by decide)) (by omega) (by omega)
          refine nb_b (i3 _ _ _ _ q l (n + 1) ((A.trans B).x Y1 b2) G2 (by omega) (by omega)) (fun r3 h3 => ?_)
          obtain ⟨c1, c2, D, c4, c5⟩ := h3
          refine ⟨by show i < r3.1; omega, c2, ?_, fun k => ?_, ?_⟩
          · have T := (((pE_on (pE_0 X) (show i ≤ i + 1 by omega)).trans A).trans B).trans D
            rw [show 0 + 1 + 0 + r3.2.2.2 = r3.2.2.2 + 1 by omega] at T
            exact T
          · have t1 := A.2.2.2.2.2.2 k
            have t2 := B.2.2.2.2.2.2 k
            have t3 := c4 k
            show (π r3.2.2.1).2.2.2 k + 2 * i + 2 ≤ (π s).2.2.2 k + 2 * r3.1
            omega
          · show pr_cs K V q.2.1.toNat ((n : Int) + 1 + ((r3.2.2.2 + 1 : Nat) : Int))
            rw [show (n : Int) + 1 + ((r3.2.2.2 + 1 : Nat) : Int) = ((n + 1 : Nat) : Int) + 1 + (r3.2.2.2 : Int) by omega]
            exact c5
      all_goals (intro z; omega)
/-- a whole e -/
theorem xe_e_N (H : pr_H w K V C π nx sx Z) {f deep st i : Nat} {s : σ} (X : pX Z i st (π s)) (Hh : pH K V deep 0 (π s)) (hf : 3 * (Z - i) + 1 ≤ f) : nb (xe_e nx sx K V P C f deep st i s) (fun a => i < a.1 ∧ a.1 ≤ Z ∧ pE (π s) (π a.2.2.1) i a.1 1 a.2.1) := by
  obtain ⟨i0, i1, -, -⟩ := xe_N (P := P) H f
  refine nb_b (i0 _ _ _ _ X (Hh.mono (by omega)) hf) (fun r1 h1 => ?_)
  obtain ⟨a1, a2, A⟩ := h1
  refine nb_imp (i1 _ _ _ _ (A.x X a2) (A.h Hh) (by rw [A.2.1]; omega) (by omega)) (fun a ha => ?_)
  exact ⟨by have := ha.1; omega, ha.2.1, A.trans ha.2.2⟩
/-- where ( e ) may begin -/
def pXc (Z i st : Nat) (p : pr_S) : Prop := (p.1 9 = 6 ∧ p.1 16 = 1) ∧ p.1 10 ≤ i ∧ p.1 8 = st ∧ i ≤ Z ∧ ∀ k, p.2.2.2 k ≤ 2 * i + 62
theorem pX.c {p : pr_S} {i st : Nat} (X : pX Z i st p) : pXc Z i st p := ⟨X.1, X.2.1, X.2.2.1, X.2.2.2.1, fun k => by have := X.2.2.2.2 k; omega⟩
/-- ( e ) -/
theorem xe_c_N (H : pr_H w K V C π nx sx Z) {f deep st i : Nat} {s : σ} (X : pXc Z i st (π s)) (Hh : pH K V deep 0 (π s)) (hf : 3 * (Z - i) + 1 ≤ f) : nb (xe_c nx sx K V P C f deep st i s) (fun a => i + 2 < a.1 ∧ a.1 ≤ Z ∧ pE (π s) (π a.2.2) i a.1 1 a.2.1 ∧ ∀ k, (π a.2.2).2.2.2 k + 2 * i + 4 ≤ (π s).2.2.2 k + 2 * a.1) := by
  refine nb_ops H X.2.2.2.1 (fun hi hd => ?_)
  have E0 : pE (π s) (π s) i (i + 1) 0 st := ⟨fun _ _ _ _ => rfl, rfl, X.2.2.1, by have := X.2.1; omega, rfl, rfl, fun k => by omega⟩
  have Y1 : pX Z (i + 1) st (π s) := ⟨X.1, by have := X.2.1; omega, X.2.2.1, by omega, fun k => by have := X.2.2.2.2 k; omega⟩
  refine nb_b (xe_e_N H Y1 (Hh.up (by omega) hd) (by omega)) (fun r h => ?_)
  obtain ⟨a1, a2, A⟩ := h
  refine nb_sg H a2 (fun hr => ⟨by show i + 2 < r.1 + 1; omega, by show r.1 + 1 ≤ Z; omega, ?_, fun k => ?_⟩)
  · exact pE_on (E0.trans A) (by show r.1 ≤ r.1 + 1; omega)
  · have t := A.2.2.2.2.2.2 k
    show (π r.2.2.1).2.2.2 k + 2 * i + 4 ≤ (π s).2.2.2 k + 2 * (r.1 + 1)
    omega
theorem pE.xc {p p' : pr_S} {i j d st st' : Nat} (X : pXc Z i st p) (E : pE p p' i j d st') (hj : j ≤ Z) (h : ∀ k, p'.2.2.2 k ≤ 2 * j + 60) : pX Z j st' p' := ⟨by rw [E.1 9 (by decide) (by decide) (by decide), E.1 16 (by decide) (by decide) (by decide)]; exact X.1, E.2.2.2.1, E.2.2.1, hj, h⟩
end
