/-! CHIPS, 31: the model's checks, joined -/
theorem flat_mono {α : Type} (f : cCh → List α) (l : List cCh) {c e : Nat} (h : c ≤ e) : ((l.take c).flatMap f).length ≤ ((l.take e).flatMap f).length := by
  have := flat_le f (l.take e) c
  rw [List.take_take, Nat.min_eq_left h] at this
  exact this
section
variable {d L : Nat} {K V P : Nat → Int} {W : Nat → List Int} {Z : Nat} {chs : List cCh} {ch : cCh} {c : Nat} {h h' : am_H}
/-- where heads and parts stand -/
def posF (K V : Nat → Int) (chs : List cCh) (f : Nat → Nat × Nat × Nat) (lo hi : Nat) : Prop := ∀ c ch, chs[c]? = some ch → lo ≤ ch.1 ∧ pinT K V ch.2.1 (ch.1 + 1) (f c).1 ∧ (f c).1 ≤ (f c).2.1 ∧ ptsT K V ch.2.2.2.1 (f c).2.1 (f c).2.2 ∧ (f c).2.2 ≤ hi ∧ ∀ ch', chs[c + 1]? = some ch' → (f c).2.2 ≤ ch'.1
theorem chsT_len : ∀ {l : List cCh} {i j : Nat}, chsT K V l i j → (∀ (ps : List (Nat × List cLk)) a b, ptsT K V ps a b → a ≤ b) → i ≤ j
  | [], i, j, h, _ => h
  | ch :: l, i, j, h, hp => by
    obtain ⟨e, ⟨h1, h2, h3, m, m', h4, h5, h6⟩, h7⟩ := h
    have := chsT_len h7 hp
    have := pinT_rg h4
    have := hp _ _ _ h6
    omega
theorem ptsT_le : ∀ (ps : List (Nat × List cLk)) (a b : Nat), ptsT K V ps a b → (∀ ls i e, lksT K V ls i e → i ≤ e) → a ≤ b
  | [], a, b, h, _ => by have : a = b := h; omega
  | q :: qs, a, b, h, hl => by
    obtain ⟨h1, h2, h3, e, h4, h5, h6, h7⟩ := h
    have := hl _ _ _ h4
    have := ptsT_le qs _ _ h7 hl
    omega
theorem c_rng_le {i : Nat} {q : Int × Int × Int × Nat} (h : c_rng K V i = .inr q) : i ≤ q.2.2.2 := by
  obtain ⟨q1, q2, q3, q4⟩ := q
  rcases c_rng_c (r := (q1, q2, q3)) (q := q4) h with ⟨-, -, z⟩ | ⟨-, -, -, -, ⟨-, -, -, -, z⟩ | ⟨-, -, -, z⟩⟩ <;> (dsimp only; omega)
theorem lkT_le {l : cLk} (h : lkT K V l) : l.1 < l.2.2.2.2 := by
  obtain ⟨h1, q, h2, h3, h4, h5⟩ := h
  have := c_rng_le h2
  dsimp only at this
  rcases h5 with ⟨-, -, z⟩ | ⟨-, z⟩
  · omega
  · have := c_rng_le z
    dsimp only at this
    omega
theorem lksT_le : ∀ (ls : List cLk) (i e : Nat), lksT K V ls i e → i ≤ e
  | [], i, e, h => False.elim h
  | l :: ls, i, e, h => by
    obtain ⟨h1, h2, h3⟩ := h
    have := lkT_le h2
    rcases h3 with ⟨-, -, z⟩ | ⟨-, z⟩
    · omega
    · have := lksT_le ls _ _ z
      omega
theorem chsT_fun : ∀ {l : List cCh} {i j : Nat}, chsT K V l i j → ∃ f, posF K V l f i j
  | [], i, j, h => ⟨fun _ => (0, 0, 0), fun c ch hc => by cases c <;> cases hc⟩
  | ch :: l, i, j, h => by
    obtain ⟨e, ⟨h1, h2, h3, m, m', h4, h5, h6⟩, h7⟩ := h
    obtain ⟨f, hf⟩ := chsT_fun h7
    have le := chsT_len h7 (fun ps a b hp => ptsT_le ps a b hp lksT_le)
    have l2 := ptsT_le _ _ _ h6 lksT_le
    have l3 := pinT_rg h4
    refine ⟨fun c => match c with | 0 => (m, m', e) | c + 1 => f c, fun c x hc => ?_⟩
    cases c with
    | zero =>
      cases hc
      exact ⟨h1, h4, h5, h6, le, fun ch' hc' => (hf 0 ch' hc').1⟩
    | succ c =>
      obtain ⟨g1, g2, g3, g4, g5, g6⟩ := hf c x hc
      exact ⟨by omega, g2, g3, g4, g5, g6⟩
/-- what the links of a chip say -/
def lkO (K V : Nat → Int) (chs : List cCh) (ch : cCh) : Option cF := match prsS K V chs ch (cIW K V chs ch) ch.2.2.2.1 (fun _ => 0, fun _ => 0) with
  | .inl e => some e
  | .inr _ => none
theorem mn_heads (E : kEx K V Z) (G : mWd K V W Z) (hP : ∀ x y, x < y → y ≤ Z → P x < P y) (T : ∀ ch ∈ chs, cht K V Z ch) {f : Nat → Nat × Nat × Nat} {lo hi : Nat} (hf : posF K V chs f lo hi) (hh : hi ≤ Z) : ∀ (m c : Nat) {F : Option (Int × Int)} {h : am_H} (u2 u3 u4 u5 : Option am_V), c + m = chs.length → mQ K V P W Z chs h → nR F h → ∃ (h' : am_H) (AL : List (List cF)), am_E (am_D (d + 2)) m_17_164 (.inl 1) [some (am_r (am_a 254)), some (am_i (c : Int)), u2, u3, u4, u5] [] (zS L, h) = pV L h' ∧ nR (nfoldx P F AL.flatten) h' ∧ p_fr [] ntF h h' ∧ AL.length = m ∧ ∀ j a ch, AL[j]? = some a → chs[c + j]? = some ch → nrg ch.1 (f (c + j)).1 a ∧ lstO P (hdS V chs (c + j) ch) a
  | 0, c, F, h, u2, u3, u4, u5, hm, Q, N => by
    rw [q_17_164_1, Q.2.1.1, if_neg (by omega)]
    exact ⟨h, [], rfl, N, p_fr.refl h, rfl, fun j a ch ha => by cases ha⟩
  | m + 1, c, F, h, u2, u3, u4, u5, hm, Q, N => by
    have hc : chs[c]? = some chs[c] := List.getElem?_eq_getElem (by omega)
    obtain ⟨p1, p2, p3, p4, p5, p6⟩ := hf c _ hc
    have l2 := ptsT_le _ _ _ p4 lksT_le
    obtain ⟨h1, ns, w2, w3, w4, w5, r1, N1, g1, f1, s1⟩ := mn_head (d := d) (L := L) E G hP T hc (by omega) p2 Q N u2 u3 u4 u5
    rw [r1]
    obtain ⟨h2, AL, r2, N2, f2, l2, s2⟩ := mn_heads E G hP T hf hh m (c + 1) w2 w3 w4 w5 (by omega) (Q.fr (nt_q f1)) N1
    refine ⟨h2, ns :: AL, r2, by rw [List.flatten_cons, nfold_app]; exact N2, f1.trans f2, by rw [List.length_cons, l2], fun j a ch ha hc' => ?_⟩
    cases j with
    | zero =>
      cases ha
      rw [Nat.add_zero] at hc' ⊢
      rw [hc] at hc'; cases hc'
      exact ⟨g1, s1⟩
    | succ j =>
      have := s2 j a ch ha (by rw [show c + 1 + j = c + (j + 1) by omega]; exact hc')
      rw [show c + 1 + j = c + (j + 1) by omega] at this
      exact this
/-- what stands behind the checks of the first c chips -/
def mI (K V : Nat → Int) (chs : List cCh) (c : Nat) (h : am_H) : Prop := ∀ c' ch, c' < c → chs[c']? = some ch → gM chs c' ch (cIW K V chs ch) h ∧ ∀ a q, ch.2.2.2.1[a]? = some q → h 349 (oT chs c' + a) = kInt (kOf V chs (V q.1))
theorem mI.next (H : mI K V chs c h) (hc : chs[c]? = some ch) (f1 : fiF chs c h h') (hg : gM chs c ch (cIW K V chs ch) h') (h9 : ∀ a q, ch.2.2.2.1[a]? = some q → h' 349 (oT chs c + a) = kInt (kOf V chs (V q.1))) {h2 : am_H} (f2 : p_fr ckC ntF h' h2) : mI K V chs (c + 1) h2 := fun c' ch' hl hc' => by
  refine ⟨fun j hj => ?_, fun a q ha => ?_⟩
  · rw [f2.cell 347 rfl rfl]
    by_cases e : c' = c
    · subst e; rw [hc] at hc'; cases hc'; exact hg j hj
    · have o1 := oI_n hc'
      have o2 : oI chs (c' + 1) ≤ oI chs c := flat_mono _ chs (by omega)
      rw [(f1.2.1 _ (Or.inl (by omega))).1]
      exact (H c' ch' (by omega) hc').1 j hj
  · rw [f2.cell 349 rfl rfl]
    by_cases e : c' = c
    · subst e; rw [hc] at hc'; cases hc'; exact h9 a q ha
    · have o1 := oT_n hc'
      have o2 : oT chs (c' + 1) ≤ oT chs c := flat_mono _ chs (by omega)
      have al := (List.getElem?_eq_some_iff.1 ha).1
      rw [f1.2.2 _ (Or.inl (by omega))]
      exact (H c' ch' (by omega) hc').2 a q ha
theorem mn_links (E : kEx K V Z) (G : mWd K V W Z) (hP : ∀ x y, x < y → y ≤ Z → P x < P y) (T : ∀ ch ∈ chs, cht K V Z ch) {f : Nat → Nat × Nat × Nat} {lo hi : Nat} (hf : posF K V chs f lo hi) (hh : hi ≤ Z) (u1 : Option am_V) : ∀ (m c : Nat) {F : Option (Int × Int)} {h : am_H}, c + m = chs.length → mQ K V P W Z chs h → nR F h → mI K V chs c h → ∃ (h' : am_H) (BL : List (List cF)), am_E (am_D (d + 4)) m_17_183 (.inl 3) [some (am_r (am_a 254)), u1, some (am_i (c : Int))] [] (zS L, h) = am_E (am_D (d + 4)) m_17_183 (.inl 3) [some (am_r (am_a 254)), u1, some (am_i (chs.length : Int))] [] (zS L, h') ∧ nR (nfoldx P F BL.flatten) h' ∧ p_fr nfC ntF h h' ∧ mI K V chs chs.length h' ∧ BL.length = m ∧ ∀ j a ch, BL[j]? = some a → chs[c + j]? = some ch → nrg (f (c + j)).2.1 (f (c + j)).2.2 a ∧ lstO P (lkO K V chs ch) a
  | 0, c, F, h, hm, Q, N, H => by
    rw [show c = chs.length by omega] at H ⊢
    exact ⟨h, [], rfl, N, p_fr.refl h, H, rfl, fun j a ch ha => by cases ha⟩
  | m + 1, c, F, h, hm, Q, N, H => by
    have l16 := Q.2.1.2
    have hc : chs[c]? = some chs[c] := List.getElem?_eq_getElem (by omega)
    obtain ⟨p1, p2, p3, p4, p5, p6⟩ := hf c _ hc
    obtain ⟨h1, r1, g1, z1, k1, f1⟩ := mn_find (d := d) (L := L) E G T Q hc
    have q1 : p_fr nfC ntF h h1 := f1.q (Q := h)
    have Q1 := Q.fr q1
    have n1 : nR F h1 := N.fr (f1.1 254 69 rfl rfl) (f1.1 254 70 rfl rfl)
    obtain ⟨h2, ns, r2, N2, g2, f2, s2⟩ := mn_check (d := d) (L := L) E G hP T hc (gvs_rg _ _ (fun _ => Or.inr (Int.le_refl _))) (show (f c).2.2 ≤ Z by omega) p4 Q1 g1 z1 k1 n1
    rw [q_17_183_3, Q.2.1.1, if_pos (by omega), r1, p_xV, r2, p_xV, p_w (by omega) (by omega)]
    have q2 := q1.trans (ck_q f2)
    obtain ⟨h3, BL, r3, N3, f3, I3, l3, s3⟩ := mn_links E G hP T hf hh u1 m (c + 1) (by omega) (Q.fr q2) N2 (H.next hc f1 g1 k1 f2)
    refine ⟨h3, ns :: BL, r3, by rw [List.flatten_cons, nfold_app]; exact N3, q2.trans f3, I3, by rw [List.length_cons, l3], fun j a ch ha hc' => ?_⟩
    cases j with
    | zero =>
      cases ha
      rw [Nat.add_zero] at hc' ⊢
      rw [hc] at hc'; cases hc'
      exact ⟨g2, s2⟩
    | succ j =>
      have := s3 j a ch ha (by rw [show c + 1 + j = c + (j + 1) by omega]; exact hc')
      rw [show c + 1 + j = c + (j + 1) by omega] at this
      exact this
theorem ckS_o (c : Nat) (ch : cCh) : ckS K V chs c ch = match hdS V chs c ch with | some e => some e | none => lkO K V chs ch := by
  unfold ckS lkO
  cases hdS V chs c ch with
  | some e => rfl
  | none => rfl
/-- heads and links in the order of the tokens -/
theorem inter (hP : ∀ x y, x < y → y ≤ Z → P x < P y) {f : Nat → Nat × Nat × Nat} {lo hi : Nat} (hf : posF K V chs f lo hi) (hh : hi ≤ Z) : ∀ (cs : List cCh) (c : Nat) (AL BL : List (List cF)) (lo' : Nat), chs.drop c = cs → AL.length = cs.length → BL.length = cs.length → (∀ j a ch, AL[j]? = some a → chs[c + j]? = some ch → nrg ch.1 (f (c + j)).1 a ∧ lstO P (hdS V chs (c + j) ch) a) → (∀ j a ch, BL[j]? = some a → chs[c + j]? = some ch → nrg (f (c + j)).2.1 (f (c + j)).2.2 a ∧ lstO P (lkO K V chs ch) a) → (∀ ch, chs[c]? = some ch → lo' ≤ ch.1) → lo' ≤ hi → ∃ I, (∀ x, x ∈ I ↔ x ∈ AL.flatten ∨ x ∈ BL.flatten) ∧ lstO P (cksS K V chs cs c) I ∧ nrg lo' hi I
  | [], c, AL, BL, lo', hd, hAx, hB, sA, sB, hl, hh' => by
    rw [List.length_eq_zero_iff.1 hAx, List.length_eq_zero_iff.1 hB]
    exact ⟨[], fun x => ⟨fun z => absurd z List.not_mem_nil, fun z => by rcases z with w | w <;> exact absurd w List.not_mem_nil⟩, rfl, nrg_nil _ _⟩
  | ch :: cs, c, AL, BL, lo', hd, hAx, hB, sA, sB, hl, hh' => by
    have hcl : c < chs.length := by
      rcases Nat.lt_or_ge c chs.length with z | z
      · exact z
      · rw [List.drop_eq_nil_of_le z] at hd; cases hd
    rw [List.drop_eq_getElem_cons hcl] at hd
    have e1 : chs[c] = ch := by have := List.cons.inj hd; exact this.1
    have e2 : chs.drop (c + 1) = cs := (List.cons.inj hd).2
    have hc : chs[c]? = some ch := by rw [List.getElem?_eq_getElem hcl, e1]
    obtain ⟨p1, p2, p3, p4, p5, p6⟩ := hf c ch hc
    have l2 := ptsT_le _ _ _ p4 lksT_le
    have l3 := pinT_rg p2
    cases AL with
    | nil => cases hAx
    | cons a AL =>
      cases BL with
      | nil => cases hB
      | cons b BL =>
        obtain ⟨a1, a2⟩ := sA 0 a ch rfl (by rw [Nat.add_zero]; exact hc)
        obtain ⟨b1, b2⟩ := sB 0 b ch rfl (by rw [Nat.add_zero]; exact hc)
        rw [Nat.add_zero] at a1 a2 b1
        obtain ⟨I, i1, i2, i3⟩ := inter hP hf hh cs (c + 1) AL BL (f c).2.2 e2 (by simpa using hAx) (by simpa using hB) (fun j x ch' hx hc' => by
          have := sA (j + 1) x ch' hx (by rw [show c + (j + 1) = c + 1 + j by omega]; exact hc')
          rw [show c + (j + 1) = c + 1 + j by omega] at this
          exact this) (fun j x ch' hx hc' => by
          have := sB (j + 1) x ch' hx (by rw [show c + (j + 1) = c + 1 + j by omega]; exact hc')
          rw [show c + (j + 1) = c + 1 + j by omega] at this
          exact this) p6 p5
        have q1 := lstO_app a2 b2 a1 (nrg_mono b1 p3 (Nat.le_refl _)) (by omega) hP
        have g1 : nrg ch.1 (f c).2.2 (a ++ b) := nrg_app a1 (nrg_mono b1 p3 (Nat.le_refl _)) (by omega) (by omega)
        have q2 := lstO_app q1 i2 g1 i3 hh hP
        refine ⟨a ++ b ++ I, fun x => ?_, ?_, nrg_app (nrg_mono g1 (hl ch hc) (Nat.le_refl _)) i3 (by have := hl ch hc; omega) p5⟩
        · rw [List.flatten_cons, List.flatten_cons, List.mem_append, List.mem_append, List.mem_append, List.mem_append, i1 x]
          constructor
          · rintro ((z | z) | (z | z))
            · exact Or.inl (Or.inl z)
            · exact Or.inr (Or.inl z)
            · exact Or.inl (Or.inr z)
            · exact Or.inr (Or.inr z)
          · rintro ((z | z) | (z | z))
            · exact Or.inl (Or.inl z)
            · exact Or.inr (Or.inl z)
            · exact Or.inl (Or.inr z)
            · exact Or.inr (Or.inr z)
        · unfold cksS
          rw [ckS_o]
          exact q2
theorem lstO_mem {r : Option cF} {a b : List cF} (h1 : lstO P r a) (h2 : ∀ x, x ∈ a ↔ x ∈ b) : lstO P r b := by
  cases r with
  | none =>
    have h1' : a = [] := h1
    rw [h1'] at h2
    show b = []
    cases b with
    | nil => rfl
    | cons x b => exact absurd ((h2 x).2 (List.mem_cons_self ..)) List.not_mem_nil
  | some e => exact ⟨(h2 e).1 h1.1, fun x hx => h1.2 x ((h2 x).2 hx)⟩
/-- the checks of the model: as those of the component -/
theorem mn_all (E : kEx K V Z) (G : mWd K V W Z) (hP : ∀ x y, x < y → y ≤ Z → P x < P y) (T : ∀ ch ∈ chs, cht K V Z ch) {e : Nat} (C : chsT K V chs 0 e) (he : e ≤ Z) (Q : mQ K V P W Z chs h) (N : h 254 69 = 0) (u1 : Option am_V) : ∃ h1 h2, am_D (d + 4) 17 164 [am_r (am_a 254)] (zS L, h) = pV L h1 ∧ am_E (am_D (d + 4)) m_17_183 (.inl 3) [some (am_r (am_a 254)), u1, some (am_i 0)] [] (zS L, h1) = am_E (am_D (d + 4)) m_17_183 (.inl 3) [some (am_r (am_a 254)), u1, some (am_i (chs.length : Int))] [] (zS L, h2) ∧ p_fr nfC ntF h h2 ∧ mI K V chs chs.length h2 ∧ (match cksS K V chs chs 0 with
      | some e => h2 254 69 = e.1 ∧ 0 < e.1 ∧ h2 254 70 = P e.2
      | none => h2 254 69 = 0) := by
  obtain ⟨f, hf⟩ := chsT_fun C
  obtain ⟨h1, AL, r1, N1, f1, l1, s1⟩ := mn_heads (d := d + 1) (L := L) E G hP T hf he chs.length 0 none none none none (by omega) Q (F := none) N
  obtain ⟨h2, BL, r2, N2, f2, I2, l2, s2⟩ := mn_links (d := d) (L := L) E G hP T hf he u1 chs.length 0 (by omega) (Q.fr (nt_q f1)) N1 (fun c' ch hl => by omega)
  rw [show ((0 : Nat) : Int) = 0 from rfl] at r1 r2
  refine ⟨h1, h2, by rw [D_17_164, r1], r2, (nt_q f1).trans f2, I2, ?_⟩
  obtain ⟨I, i1, i2, i3⟩ := inter hP hf he chs 0 AL BL 0 (List.drop_zero ..) l1 l2 s1 s2 (fun ch _ => Nat.zero_le _) (by
    have := chsT_len C (fun ps a b hp => ptsT_le ps a b hp lksT_le); omega)
  have q := lstO_mem i2 (b := AL.flatten ++ BL.flatten) (fun x => by rw [i1 x, List.mem_append])
  have rg : ∀ x ∈ AL.flatten ++ BL.flatten, 0 < x.1 := fun x hx => (i3 x ((i1 x).2 (List.mem_append.1 hx))).2.2
  rw [← nfold_app] at N2
  cases hx : cksS K V chs chs 0 with
  | none =>
    rw [hx] at q
    have q' : AL.flatten ++ BL.flatten = [] := q
    rw [q'] at N2
    exact N2
  | some e =>
    rw [hx] at q
    rw [lst_fold q] at N2
    exact ⟨N2.1, rg e q.1, N2.2.2⟩
end
