/-! CHIPS, 24: the model's rows, chip by chip; its notes -/
def aP (l : List cCh) : List (Nat × Int × Bool) := l.flatMap cpM
def aT (l : List cCh) : List (Nat × List cLk) := l.flatMap (·.2.2.2.1)
def aI (l : List cCh) : List Nat := l.flatMap (·.2.2.2.2)
def oP (l : List cCh) (c : Nat) : Nat := (aP (l.take c)).length
def oT (l : List cCh) (c : Nat) : Nat := (aT (l.take c)).length
def oI (l : List cCh) (c : Nat) : Nat := (aI (l.take c)).length
def oLx (l : List cCh) (i : Nat) : Nat := (fll ((aT l).take i)).length
theorem flt_apps : ∀ (a b : List (Nat × List cLk)) (n : Nat), flt n (a ++ b) = flt n a ++ flt (n + (fll a).length) b
  | [], b, n => rfl
  | p :: a, b, n => by
    show (p.1, n) :: flt (n + p.2.length) (a ++ b) = (p.1, n) :: (flt (n + p.2.length) a ++ _)
    rw [flt_apps a b, show (fll (p :: a)).length = p.2.length + (fll a).length by unfold fll; rw [List.flatMap_cons, List.length_append], Nat.add_assoc]
theorem fll_apps (a b : List (Nat × List cLk)) : fll (a ++ b) = fll a ++ fll b := by unfold fll; rw [List.flatMap_append]
theorem flt_at : ∀ (a : List (Nat × List cLk)) (n i : Nat) {q : Nat × List cLk}, a[i]? = some q → (flt n a)[i]? = some (q.1, n + (fll (a.take i)).length)
  | [], n, i, q, h => by cases i <;> cases h
  | p :: a, n, 0, q, h => by cases h; rfl
  | p :: a, n, i + 1, q, h => by
    show (flt (n + p.2.length) a)[i]? = _
    rw [flt_at a (n + p.2.length) i h]
    rw [List.take_succ_cons, show (fll (p :: a.take i)).length = p.2.length + (fll (a.take i)).length by unfold fll; rw [List.flatMap_cons, List.length_append], Nat.add_assoc]
theorem fll_at : ∀ (a : List (Nat × List cLk)) (i : Nat) {q : Nat × List cLk} {j : Nat} {l : cLk}, a[i]? = some q → q.2[j]? = some l → (fll a)[(fll (a.take i)).length + j]? = some l
  | [], i, q, j, l, h, _ => by cases i <;> cases h
  | p :: a, 0, q, j, l, h, hl => by
    cases h
    rw [show fll (p :: a) = p.2 ++ fll a from rfl, List.take_zero, show (fll []).length + j = j from Nat.zero_add j, List.getElem?_append_left (List.getElem?_eq_some_iff.1 hl).1]
    exact hl
  | p :: a, i + 1, q, j, l, h, hl => by
    have := fll_at a i h hl
    rw [show fll (p :: a) = p.2 ++ fll a from rfl, List.take_succ_cons, show fll (p :: a.take i) = p.2 ++ fll (a.take i) from rfl, List.length_append, List.getElem?_append_right (by omega), show p.2.length + (fll (a.take i)).length + j - p.2.length = (fll (a.take i)).length + j by omega]
    exact this
theorem fFs_eq : ∀ (l a : List cCh) (F : fM), F.2.1 = aP a → F.2.2.1 = flt 0 (aT a) → F.2.2.2.1 = fll (aT a) → F.2.2.2.2 = aI a → (l.foldl fF F).2.1 = aP (a ++ l) ∧ (l.foldl fF F).2.2.1 = flt 0 (aT (a ++ l)) ∧ (l.foldl fF F).2.2.2.1 = fll (aT (a ++ l)) ∧ (l.foldl fF F).2.2.2.2 = aI (a ++ l)
  | [], a, F, h1, h2, h3, h4 => by rw [List.append_nil]; exact ⟨h1, h2, h3, h4⟩
  | c :: l, a, F, h1, h2, h3, h4 => by
    have := fFs_eq l (a ++ [c]) (fF F c) (by unfold fF aP; dsimp only; rw [List.flatMap_append, h1]; simp [aP]) (by
      unfold fF; dsimp only; rw [h2, h3, show aT (a ++ [c]) = aT a ++ c.2.2.2.1 by unfold aT; simp, flt_apps, Nat.zero_add]) (by
      unfold fF; dsimp only; rw [h3, show aT (a ++ [c]) = aT a ++ c.2.2.2.1 by unfold aT; simp, fll_apps]) (by unfold fF aI; dsimp only; rw [List.flatMap_append, h4]; simp [aI])
    rw [List.append_assoc] at this
    exact this
theorem fFs_c : ∀ (l : List cCh) (F : fM) (c : Nat) {ch : cCh}, l[c]? = some ch → (l.foldl fF F).1[F.1.length + c]? = some (ch.1, F.2.1.length + (aP (l.take c)).length, F.2.2.1.length + (aT (l.take c)).length, F.2.2.2.2.length + (aI (l.take c)).length)
  | [], F, c, ch, h => by cases c <;> cases h
  | x :: l, F, 0, ch, h => by
    cases h
    have ext : ∀ (l : List cCh) (F : fM), ∃ y, (l.foldl fF F).1 = F.1 ++ y := by
      intro l
      induction l with
      | nil => intro F; exact ⟨[], (List.append_nil _).symm⟩
      | cons a l ih =>
        intro F
        obtain ⟨y, hy⟩ := ih (fF F a)
        refine ⟨(a.1, F.2.1.length, F.2.2.1.length, F.2.2.2.2.length) :: y, ?_⟩
        rw [List.foldl_cons, hy]
        unfold fF
        dsimp only
        rw [List.append_assoc]; rfl
    obtain ⟨y, hy⟩ := ext l (fF F x)
    rw [List.foldl_cons, hy]
    unfold fF
    dsimp only
    rw [List.append_assoc, List.getElem?_append_right (by omega), Nat.add_zero, Nat.sub_self]
    rfl
  | x :: l, F, c + 1, ch, h => by
    have := fFs_c l (fF F x) c h
    rw [List.foldl_cons]
    rw [show (fF F x).1.length + c = F.1.length + (c + 1) by unfold fF; dsimp only; rw [List.length_append, List.length_singleton]; omega] at this
    rw [this, List.take_succ_cons]
    unfold fF aP aT aI
    dsimp only
    rw [List.flatMap_cons, List.flatMap_cons, List.flatMap_cons, List.length_append, List.length_append, List.length_append, List.length_append, List.length_append, List.length_append, flt_len]
    simp only [Nat.add_assoc]
theorem flat_at {α : Type} (f : cCh → List α) : ∀ (l : List cCh) (c : Nat) {ch : cCh} {k : Nat} {x : α}, l[c]? = some ch → (f ch)[k]? = some x → (l.flatMap f)[((l.take c).flatMap f).length + k]? = some x
  | [], c, ch, k, x, h, _ => by cases c <;> cases h
  | y :: l, 0, ch, k, x, h, hx => by
    cases h
    rw [List.flatMap_cons, List.take_zero, show (List.flatMap f []).length + k = k from Nat.zero_add k, List.getElem?_append_left (List.getElem?_eq_some_iff.1 hx).1]
    exact hx
  | y :: l, c + 1, ch, k, x, h, hx => by
    have := flat_at f l c h hx
    rw [List.flatMap_cons, List.take_succ_cons, List.flatMap_cons, List.length_append, List.getElem?_append_right (by omega), show (f y).length + ((l.take c).flatMap f).length + k - (f y).length = ((l.take c).flatMap f).length + k by omega]
    exact this
theorem flat_next {α : Type} (f : cCh → List α) (l : List cCh) (c : Nat) {ch : cCh} (h : l[c]? = some ch) : ((l.take (c + 1)).flatMap f).length = ((l.take c).flatMap f).length + (f ch).length := by
  obtain ⟨h1, h2⟩ := List.getElem?_eq_some_iff.1 h
  rw [List.take_succ_eq_append_getElem h1, List.flatMap_append, List.length_append, h2]
  simp
theorem flat_le {α : Type} (f : cCh → List α) (l : List cCh) (c : Nat) : ((l.take c).flatMap f).length ≤ (l.flatMap f).length := by
  have : l.flatMap f = (l.take c).flatMap f ++ (l.drop c).flatMap f := by rw [← List.flatMap_append, List.take_append_drop]
  rw [this, List.length_append]; exact Nat.le_add_right _ _
theorem cpM_len (ch : cCh) : (cpM ch).length = ch.2.1.length := by
  unfold cpM
  rw [List.length_append, List.length_map, List.length_map, ← List.length_append, List.take_append_drop]
theorem cpM_at {ch : cCh} {k : Nat} {p : Nat × Int} (h : ch.2.1[k]? = some p) : (cpM ch)[k]? = some (p.1, p.2, decide (ch.2.2.1 ≤ k)) := by
  have hl := (List.getElem?_eq_some_iff.1 h).1
  unfold cpM
  by_cases c : k < ch.2.2.1
  · rw [List.getElem?_append_left (by rw [List.length_map, List.length_take]; omega), List.getElem?_map, List.getElem?_take, if_pos c, h, show decide (ch.2.2.1 ≤ k) = false by simp; omega]
    rfl
  · rw [List.getElem?_append_right (by rw [List.length_map, List.length_take]; omega), List.length_map, List.length_take, List.getElem?_map, List.getElem?_drop, show ch.2.2.1 + (k - min ch.2.2.1 ch.2.1.length) = k by omega, h, show decide (ch.2.2.1 ≤ k) = true by simp; omega]
    rfl
theorem oP_n {l : List cCh} {c : Nat} {ch : cCh} (h : l[c]? = some ch) : oP l (c + 1) = oP l c + ch.2.1.length := by rw [← cpM_len ch]; exact flat_next cpM l c h
theorem oT_n {l : List cCh} {c : Nat} {ch : cCh} (h : l[c]? = some ch) : oT l (c + 1) = oT l c + ch.2.2.2.1.length := flat_next _ l c h
theorem oI_n {l : List cCh} {c : Nat} {ch : cCh} (h : l[c]? = some ch) : oI l (c + 1) = oI l c + ch.2.2.2.2.length := flat_next _ l c h
theorem aT_at {l : List cCh} {c : Nat} {ch : cCh} (h : l[c]? = some ch) {k : Nat} {q : Nat × List cLk} (hq : ch.2.2.2.1[k]? = some q) : (aT l)[oT l c + k]? = some q := flat_at _ l c h hq
theorem oL_n {l : List cCh} {i : Nat} {q : Nat × List cLk} (h : (aT l)[i]? = some q) : oLx l (i + 1) = oLx l i + q.2.length := by
  obtain ⟨h1, h2⟩ := List.getElem?_eq_some_iff.1 h
  unfold oLx
  rw [List.take_succ_eq_append_getElem h1, fll_apps, List.length_append, h2]
  unfold fll; simp
/-- the model's rows -/
def mV (V : Nat → Int) (chs : List cCh) (h : am_H) : Prop := (h 254 122 = (chs.length : Int) ∧ chs.length ≤ 16) ∧ ((aP chs).length ≤ 192 ∧ (aT chs).length ≤ 384 ∧ (fll (aT chs)).length ≤ 550 ∧ (aI chs).length ≤ 550) ∧ (∀ c ch, chs[c]? = some ch → h 328 c = (ch.1 : Int)) ∧ (∀ c, c ≤ chs.length → h 329 c = (oP chs c : Int) ∧ h 334 c = (oT chs c : Int) ∧ h 345 c = (oI chs c : Int)) ∧ (∀ c ch, chs[c]? = some ch → ∀ k p, ch.2.1[k]? = some p → h 331 (oP chs c + k) = (p.1 : Int) ∧ h 333 (oP chs c + k) = p.2 ∧ h 330 (oP chs c + k) = (if ch.2.2.1 ≤ k then 1 else 0) ∧ h 332 (oP chs c + k) = c_w V p.2) ∧ (∀ i, i ≤ (aT chs).length → h 336 i = (oLx chs i : Int)) ∧ (∀ i q, (aT chs)[i]? = some q → h 335 i = (q.1 : Int) ∧ ∀ j l, q.2[j]? = some l → fRl l (oLx chs i + j) h) ∧ ∀ c ch, chs[c]? = some ch → ∀ (k t : Nat), ch.2.2.2.2[k]? = some t → h 346 (oI chs c + k) = (t : Int)
theorem mV_of {V : Nat → Int} {chs : List cCh} {h : am_H} (R : fR V (fFs chs) h) (E : fE (fFs chs) h) : mV V chs h := by
  obtain ⟨⟨⟨a1, a2⟩, ⟨b1, b2⟩, ⟨c1, c2⟩, ⟨d1, d2⟩, ⟨e1, e2⟩⟩, r1, r2, r3, r4, r5⟩ := R
  obtain ⟨x1, x2, x3, x4⟩ := E
  obtain ⟨q1, q2, q3, q4⟩ := fFs_eq chs [] ([], [], [], [], []) rfl rfl rfl rfl
  rw [List.nil_append] at q1 q2 q3 q4
  have ql : (fFs chs).1.length = chs.length := by unfold fFs; rw [fFs_len]; exact Nat.zero_add _
  have tk : chs.take chs.length = chs := List.take_length
  change (fFs chs).2.1 = _ at q1
  change (fFs chs).2.2.1 = _ at q2
  change (fFs chs).2.2.2.1 = _ at q3
  change (fFs chs).2.2.2.2 = _ at q4
  rw [ql] at a1 a2 x1 x2 x3
  rw [q1] at b2 x1 r2
  rw [q2, flt_len] at c2 x2 x4
  rw [q3] at d2 x4 r4
  rw [q4] at e2 x3 r5
  have at_ : ∀ c ch, chs[c]? = some ch → (fFs chs).1[c]? = some (ch.1, oP chs c, oT chs c, oI chs c) := fun c ch hc => by
    have := fFs_c chs ([], [], [], [], []) c hc
    rw [show (([], [], [], [], []) : fM).1.length + c = c from Nat.zero_add c, show (([], [], [], [], []) : fM).2.1.length + (aP (chs.take c)).length = oP chs c from Nat.zero_add _, show (([], [], [], [], []) : fM).2.2.1.length + (aT (chs.take c)).length = oT chs c from Nat.zero_add _, show (([], [], [], [], []) : fM).2.2.2.2.length + (aI (chs.take c)).length = oI chs c from Nat.zero_add _] at this
    exact this
  refine ⟨⟨a1, a2⟩, ⟨b2, c2, d2, e2⟩, fun c ch hc => (r1 c _ (at_ c ch hc)).1, fun c hc => ?_, fun c ch hc k p hp => ?_, fun i hi => ?_, fun i q hq => ?_, fun c ch hc k t ht => ?_⟩
  · by_cases y : c < chs.length
    · exact (r1 c _ (at_ c _ (List.getElem?_eq_getElem y))).2
    · have : c = chs.length := by omega
      subst this
      unfold oP oT oI
      rw [tk]
      exact ⟨x1, x2, x3⟩
  · obtain ⟨y1, y2, y3, y4⟩ := r2 _ _ (flat_at cpM chs c hc (cpM_at hp))
    refine ⟨y1, y2, ?_, y4⟩
    refine y3.trans ?_
    by_cases z : ch.2.2.1 ≤ k
    · rw [if_pos z, if_pos (by simpa using z)]
    · rw [if_neg z, if_neg (by simpa using z)]
  · by_cases y : i < (aT chs).length
    · have := (r3 i _ (by rw [q2]; exact flt_at (aT chs) 0 i (List.getElem?_eq_getElem y))).2
      rw [this]
      show (((0 + _ : Nat) : Nat) : Int) = _
      rw [Nat.zero_add]; rfl
    · have : i = (aT chs).length := by omega
      subst this
      rw [x4]
      unfold oLx
      rw [List.take_length]
  · refine ⟨(r3 i _ (by rw [q2]; exact flt_at (aT chs) 0 i hq)).1, fun j l hl => r4 _ l (fll_at (aT chs) i hq hl)⟩
  · exact r5 _ t (flat_at (·.2.2.2.2) chs c hc ht)
/-! notes -/
def nadd (F : Option (Int × Int)) (x : Int × Int) : Option (Int × Int) := match F with
  | none => some x
  | some y => if y.1 < x.1 ∨ (y.1 = x.1 ∧ y.2 ≤ x.2) then some y else some x
def nfoldx (P : Nat → Int) (F : Option (Int × Int)) (ns : List cF) : Option (Int × Int) := ns.foldl (fun F x => nadd F (P x.2, x.1)) F
def nR (F : Option (Int × Int)) (h : am_H) : Prop := match F with
  | none => h 254 69 = 0
  | some y => h 254 69 = y.2 ∧ 0 < y.2 ∧ h 254 70 = y.1
theorem nfold_app (P : Nat → Int) (F : Option (Int × Int)) (a b : List cF) : nfoldx P F (a ++ b) = nfoldx P (nfoldx P F a) b := by unfold nfoldx; rw [List.foldl_append]
def ntF : List (Nat × Nat) := [(254, 69), (254, 70)]
theorem mn_note {d L : Nat} {P : Nat → Int} {h : am_H} {F : Option (Int × Int)} (R : nR F h) {n : Int} (hn : 0 < n) {t : Nat} (ht : t < 2002) (hp : h 258 t = P t) : ∃ h', am_D (d + 1) 17 58 [am_r (am_a 254), am_i n, am_i (t : Int)] (zS L, h) = pV L h' ∧ nR (nfoldx P F [(n, t)]) h' ∧ p_fr [] ntF h h' := by
  have put : nR (some (P t, n)) (am_up (am_up h 254 69 n) 254 70 (P t)) ∧ p_fr [] ntF h (am_up (am_up h 254 69 n) 254 70 (P t)) := ⟨⟨by rw [p_up_n _ _ _ _ _ _ (Or.inr (by decide)), p_up_s], hn, p_up_s _ _ _ _⟩, ((p_fr.refl h).upf _ _ _ rfl).upf _ _ _ rfl⟩
  rw [D_17_58, p_idx (by omega) (by omega), p_idx (by omega) (by omega), p_idx (by omega) (by omega), Int.toNat_natCast, hp]
  cases F with
  | none =>
    have r : h 254 69 = 0 := R
    rw [r, if_neg (by decide)]
    exact ⟨_, rfl, put⟩
  | some y =>
    obtain ⟨r1, r2, r3⟩ := R
    rw [r1, r3, if_pos r2]
    show ∃ h', _ ∧ nR (if y.1 < P t ∨ (y.1 = P t ∧ y.2 ≤ n) then some y else some (P t, n)) h' ∧ _
    by_cases c1 : y.1 < P t
    · rw [if_pos c1, if_pos (Or.inl c1)]
      exact ⟨h, rfl, ⟨r1, r2, r3⟩, p_fr.refl h⟩
    · rw [if_neg c1]
      by_cases c2 : y.1 = P t
      · rw [if_pos c2]
        by_cases c3 : n < y.2
        · rw [if_pos c3, if_neg (show ¬ (y.1 < P t ∨ (y.1 = P t ∧ y.2 ≤ n)) by omega)]
          exact ⟨_, rfl, put⟩
        · rw [if_neg c3, if_pos (show y.1 < P t ∨ (y.1 = P t ∧ y.2 ≤ n) by omega)]
          exact ⟨h, rfl, ⟨r1, r2, r3⟩, p_fr.refl h⟩
      · rw [if_neg c2, if_neg (show ¬ (y.1 < P t ∨ (y.1 = P t ∧ y.2 ≤ n)) by omega)]
        exact ⟨_, rfl, put⟩
theorem nR.fr {F : Option (Int × Int)} {h h' : am_H} (R : nR F h) (e : h' 254 69 = h 254 69) (e2 : h' 254 70 = h 254 70) : nR F h' := by
  unfold nR at R ⊢
  cases F with
  | none => dsimp only at R ⊢; rw [e]; exact R
  | some y => dsimp only at R ⊢; rw [e, e2]; exact R
/-- the least of notes -/
def nlex (P : Nat → Int) (e x : cF) : Prop := P e.2 < P x.2 ∨ (P e.2 = P x.2 ∧ e.1 ≤ x.1)
def lstx (P : Nat → Int) (e : cF) (ns : List cF) : Prop := e ∈ ns ∧ ∀ x ∈ ns, nlex P e x
def lstO (P : Nat → Int) (r : Option cF) (ns : List cF) : Prop := match r with
  | none => ns = []
  | some e => lstx P e ns
/-- notes at tokens from a to before b -/
def nrg (a b : Nat) (ns : List cF) : Prop := ∀ x ∈ ns, a ≤ x.2 ∧ x.2 < b ∧ 0 < x.1
theorem nfold_lst {P : Nat → Int} {e : cF} : ∀ (ns : List cF) (F : Option (Int × Int)), (F = none ∧ e ∈ ns ∨ ∃ y, F = some y ∧ (P e.2 < y.1 ∨ (P e.2 = y.1 ∧ e.1 ≤ y.2)) ∧ (y = (P e.2, e.1) ∨ e ∈ ns)) → (∀ x ∈ ns, nlex P e x) → nfoldx P F ns = some (P e.2, e.1)
  | [], F, h, _ => by
    rcases h with ⟨-, z⟩ | ⟨y, z1, z2, z3 | z3⟩
    · exact absurd z List.not_mem_nil
    · show F = _; rw [z1, z3]
    · exact absurd z3 List.not_mem_nil
  | x :: ns, F, h, hx => by
    show nfoldx P (nadd F (P x.2, x.1)) ns = _
    have ex := hx x (List.mem_cons_self ..)
    refine nfold_lst ns _ (Or.inr ?_) (fun z hz => hx z (List.mem_cons_of_mem _ hz))
    rcases h with ⟨z1, z2⟩ | ⟨y, z1, z2, z3⟩
    · subst z1
      refine ⟨_, rfl, ex, ?_⟩
      rcases List.mem_cons.1 z2 with w | w
      · subst w; exact Or.inl rfl
      · exact Or.inr w
    · subst z1
      show ∃ y', (if y.1 < P x.2 ∨ (y.1 = P x.2 ∧ y.2 ≤ x.1) then some y else some (P x.2, x.1)) = some y' ∧ _
      by_cases c : y.1 < P x.2 ∨ (y.1 = P x.2 ∧ y.2 ≤ x.1)
      · rw [if_pos c]
        refine ⟨y, rfl, z2, ?_⟩
        rcases z3 with w | w
        · exact Or.inl w
        · rcases List.mem_cons.1 w with v | v
          · left
            rw [← v] at c
            obtain ⟨y1, y2⟩ := y
            dsimp only at c z2 ⊢
            have : y1 = P e.2 ∧ y2 = e.1 := by omega
            rw [this.1, this.2]
          · exact Or.inr v
      · rw [if_neg c]
        refine ⟨_, rfl, ex, ?_⟩
        rcases z3 with w | w
        · exfalso
          rw [w] at c
          exact c ex
        · rcases List.mem_cons.1 w with v | v
          · left; rw [v]
          · exact Or.inr v
theorem lst_fold {P : Nat → Int} {e : cF} {ns : List cF} (h : lstx P e ns) : nfoldx P none ns = some (P e.2, e.1) := nfold_lst ns none (Or.inl ⟨rfl, h.1⟩) h.2
theorem lst_app {P : Nat → Int} {e : cF} {a b : List cF} {i j : Nat} (h : lstx P e a) (ra : nrg i j a) (rb : ∀ x ∈ b, j ≤ x.2) (hP : ∀ x ∈ b, e.2 < x.2 → P e.2 < P x.2) : lstx P e (a ++ b) := by
  refine ⟨List.mem_append_left _ h.1, fun x hx => ?_⟩
  rcases List.mem_append.1 hx with z | z
  · exact h.2 x z
  · have := ra e h.1
    have := rb x z
    exact Or.inl (hP x z (by omega))
theorem lstO_app {P : Nat → Int} {r1 r2 : Option cF} {a b : List cF} {i j k Z : Nat} (h1 : lstO P r1 a) (h2 : lstO P r2 b) (ra : nrg i j a) (rb : nrg j k b) (hk : k ≤ Z) (hP : ∀ x y, x < y → y ≤ Z → P x < P y) : lstO P (match r1 with | some e => some e | none => r2) (a ++ b) := by
  cases r1 with
  | none =>
    have : a = [] := h1
    rw [this, List.nil_append]
    exact h2
  | some e => exact lst_app h1 ra (fun x hx => (rb x hx).1) (fun x hx hl => hP _ _ hl (by have := rb x hx; omega))
theorem nrg_app {i j k : Nat} {a b : List cF} (ra : nrg i j a) (rb : nrg j k b) (hij : i ≤ j) (hjk : j ≤ k) : nrg i k (a ++ b) := fun x hx => by
  rcases List.mem_append.1 hx with z | z
  · have := ra x z; omega
  · have := rb x z; omega
theorem nrg_nil (i j : Nat) : nrg i j [] := fun x hx => absurd hx List.not_mem_nil
theorem nrg_mono {i j i' j' : Nat} {a : List cF} (h : nrg i j a) (h1 : i' ≤ i) (h2 : j ≤ j') : nrg i' j' a := fun x hx => by have := h x hx; omega
