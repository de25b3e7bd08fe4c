/-! CHIPS, 17: what the grammar says of the chips that it reads -/
section
variable (K V : Nat → Int)
/-- a link as it stands among the tokens -/
def lkT (l : cLk) : Prop := K l.1 = 2 ∧ ∃ q, c_rng K V (l.1 + 1) = .inr (l.2.1.1, l.2.1.2.1, l.2.1.2.2, q) ∧ cSg K V 61 q ∧ l.2.2.1 = q + 1 ∧ ((cWd K V 4 (q + 1) ∨ cWd K V 5 (q + 1)) ∧ l.2.2.2.1 = (-1, 0, 0) ∧ l.2.2.2.2 = q + 2 ∨ K (q + 1) = 2 ∧ c_rng K V (q + 2) = .inr (l.2.2.2.1.1, l.2.2.2.1.2.1, l.2.2.2.1.2.2, l.2.2.2.2))
def lksT : List cLk → Nat → Nat → Prop
  | [], _, _ => False
  | l :: ls, i, j => l.1 = i ∧ lkT K V l ∧ (ls = [] ∧ ¬ cSg K V 44 l.2.2.2.2 ∧ j = l.2.2.2.2 ∨ cSg K V 44 l.2.2.2.2 ∧ lksT ls (l.2.2.2.2 + 1) j)
def ptsT : List (Nat × List cLk) → Nat → Nat → Prop
  | [], i, j => i = j
  | q :: qs, i, j => q.1 = i ∧ K i = 2 ∧ cSg K V 40 (i + 1) ∧ ∃ e, lksT K V q.2 (i + 2) e ∧ cSg K V 41 e ∧ cSg K V 59 (e + 1) ∧ ptsT qs (e + 2) j
def pinT : List (Nat × Int) → Nat → Nat → Prop
  | [], i, j => i ≤ j
  | p :: ps, i, j => i ≤ p.1 ∧ K p.1 = 2 ∧ ∃ q, c_wid K V (p.1 + 1) = .inr (p.2, q) ∧ pinT ps q j
def innT (ch : cCh) : Prop := (∀ q ∈ ch.2.2.2.1, ∀ l ∈ q.2, K l.2.2.1 = 2 → V l.2.2.1 ∈ ch.2.1.map (fun p => V p.1) ∨ V l.2.2.1 ∈ ch.2.2.2.2.map V) ∧ (∀ t ∈ ch.2.2.2.2, K t = 2 ∧ ∃ q ∈ ch.2.2.2.1, ∃ l ∈ q.2, l.2.2.1 = t) ∧ ch.2.2.2.2.length ≤ 100 ∧ ch.2.1.length ≤ 12 ∧ (1 ≤ ch.2.2.1 ∧ ch.2.2.1 < ch.2.1.length) ∧ ch.2.2.2.1.length ≤ 24
def chT (ch : cCh) (i e : Nat) : Prop := i ≤ ch.1 ∧ K ch.1 = 2 ∧ innT K V ch ∧ ∃ m m', pinT K V ch.2.1 (ch.1 + 1) m ∧ m ≤ m' ∧ ptsT K V ch.2.2.2.1 m' e
def chsT : List cCh → Nat → Nat → Prop
  | [], i, j => i ≤ j
  | ch :: cs, i, j => ∃ e, chT K V ch i e ∧ chsT cs e j
end
section
variable {K V : Nat → Int} {Z : Nat}
theorem c_lnk_T {P I : List Nat} {i : Nat} {w : cLk × List Nat} (h : c_lnk K V P I i = .inr w) : w.1.1 = i ∧ lkT K V w.1 ∧ ((K w.1.2.2.1 ≠ 2 ∧ w.2 = I) ∨ (K w.1.2.2.1 = 2 ∧ c_inn V P I w.1.2.2.1 = .inr w.2)) := by
  unfold c_lnk at h
  by_cases c1 : K i = 2
  · rw [if_pos c1] at h
    cases hq : c_rng K V (i + 1) with
    | inl e => rw [hq] at h; cases h
    | inr q =>
      rw [hq] at h
      dsimp only at h
      by_cases c2 : cSg K V 61 q.2.2.2
      · rw [if_pos c2] at h
        cases hr : c_rgt K V P I (q.2.2.2 + 1) with
        | inl e => rw [hr] at h; cases h
        | inr u =>
          rw [hr] at h
          dsimp only at h
          cases h
          unfold c_rgt at hr
          by_cases c3 : cWd K V 4 (q.2.2.2 + 1) ∨ cWd K V 5 (q.2.2.2 + 1)
          · rw [if_pos c3] at hr
            cases hr
            refine ⟨rfl, ⟨c1, q.2.2.2, hq, c2, rfl, Or.inl ⟨c3, rfl, rfl⟩⟩, Or.inl ⟨?_, rfl⟩⟩
            show K (q.2.2.2 + 1) ≠ 2
            rcases c3 with z | z <;> rw [z.1] <;> decide
          · rw [if_neg c3] at hr
            by_cases c4 : K (q.2.2.2 + 1) = 2
            · rw [if_pos c4] at hr
              cases hi : c_inn V P I (q.2.2.2 + 1) with
              | inl e => rw [hi] at hr; cases hr
              | inr I' =>
                rw [hi] at hr
                dsimp only at hr
                cases hg : c_rng K V (q.2.2.2 + 1 + 1) with
                | inl e => rw [hg] at hr; cases hr
                | inr v =>
                  rw [hg] at hr
                  cases hr
                  exact ⟨rfl, ⟨c1, q.2.2.2, hq, c2, rfl, Or.inr ⟨c4, hg⟩⟩, Or.inr ⟨c4, rfl⟩⟩
            · rw [if_neg c4] at hr; cases hr
      · rw [if_neg c2] at h; cases h
  · rw [if_neg c1] at h; cases h
theorem c_inn_T {P I J : List Nat} {r : Nat} (h : c_inn V P I r = .inr J) (hI : I.length ≤ 100) : (∃ l, J = I ++ l ∧ (∀ t ∈ l, t = r)) ∧ J.length ≤ 100 ∧ (V r ∈ P.map V ∨ V r ∈ J.map V) := by
  unfold c_inn at h
  split at h
  · rename_i c
    cases h
    exact ⟨⟨[], (List.append_nil _).symm, fun _ z => absurd z List.not_mem_nil⟩, hI, c⟩
  · split at h
    · cases h
      refine ⟨⟨[r], rfl, fun t z => List.mem_singleton.1 z⟩, by rw [List.length_append, List.length_singleton]; omega, Or.inr ?_⟩
      rw [List.map_append]
      exact List.mem_append_right _ (List.mem_singleton.2 rfl)
    · cases h
/-- what grows of inner names -/
def inG (K V : Nat → Int) (P I J : List Nat) (ls : List cLk) : Prop := (∃ l, J = I ++ l ∧ ∀ t ∈ l, K t = 2 ∧ ∃ x ∈ ls, x.2.2.1 = t) ∧ J.length ≤ 100 ∧ ∀ l ∈ ls, K l.2.2.1 = 2 → V l.2.2.1 ∈ P.map V ∨ V l.2.2.1 ∈ J.map V
theorem c_lks_T {P : List Nat} : ∀ (m : Nat) {I : List Nat} {i : Nat} {acc : List cLk} {w : List cLk × List Nat × Nat}, c_lks K V P m I i acc = .inr w → I.length ≤ 100 → ∃ ls, w.1 = acc ++ ls ∧ lksT K V ls i w.2.2 ∧ inG K V P I w.2.1 ls
  | 0, _, _, _, _, h, _ => by cases h
  | m + 1, I, i, acc, w, h, hI => by
    unfold c_lks at h
    cases hl : c_lnk K V P I i with
    | inl e => rw [hl] at h; cases h
    | inr u =>
      rw [hl] at h
      dsimp only at h
      obtain ⟨t1, t2, t3⟩ := c_lnk_T hl
      have g1 : inG K V P I u.2 [u.1] := by
        rcases t3 with ⟨z1, z2⟩ | ⟨z1, z2⟩
        · rw [z2]
          refine ⟨⟨[], (List.append_nil _).symm, fun _ z => absurd z List.not_mem_nil⟩, hI, fun l hl hk => ?_⟩
          rw [List.mem_singleton.1 hl] at hk
          exact absurd hk z1
        · obtain ⟨⟨l, hl1, hl2⟩, hl3, hl4⟩ := c_inn_T z2 hI
          refine ⟨⟨l, hl1, fun t ht => ⟨by rw [hl2 t ht]; exact z1, u.1, List.mem_singleton.2 rfl, (hl2 t ht).symm⟩⟩, hl3, fun l' hl' _ => ?_⟩
          rw [List.mem_singleton.1 hl']
          exact hl4
      by_cases c : cSg K V 44 u.1.2.2.2.2
      · rw [if_pos c] at h
        obtain ⟨ls, e1, e2, ⟨l2, g21, g22⟩, g23, g24⟩ := c_lks_T m h g1.2.1
        obtain ⟨⟨l1, g11, g12⟩, g13, g14⟩ := g1
        refine ⟨u.1 :: ls, by rw [e1, List.append_assoc]; rfl, ⟨t1, t2, Or.inr ⟨c, e2⟩⟩, ⟨l1 ++ l2, by rw [g21, g11, List.append_assoc], fun t ht => ?_⟩, g23, fun l hl hk => ?_⟩
        · rcases List.mem_append.1 ht with z | z
          · obtain ⟨w1, x, w2, w3⟩ := g12 t z
            rw [List.mem_singleton.1 w2] at w3
            exact ⟨w1, u.1, List.mem_cons_self .., w3⟩
          · obtain ⟨w1, x, w2, w3⟩ := g22 t z
            exact ⟨w1, x, List.mem_cons_of_mem _ w2, w3⟩
        rcases List.mem_cons.1 hl with z | z
        · subst z
          rcases g14 _ (List.mem_singleton.2 rfl) hk with y | y
          · exact Or.inl y
          · refine Or.inr ?_
            rw [g21, List.map_append]
            exact List.mem_append_left _ y
        · exact g24 l z hk
      · rw [if_neg c] at h
        cases h
        exact ⟨[u.1], rfl, ⟨t1, t2, Or.inl ⟨rfl, c, rfl⟩⟩, g1⟩
theorem ptsT_app : ∀ {a b : List (Nat × List cLk)} {i j k : Nat}, ptsT K V a i j → ptsT K V b j k → ptsT K V (a ++ b) i k
  | [], b, i, j, k, h1, h2 => by have : i = j := h1; rw [this]; exact h2
  | q :: a, b, i, j, k, h1, h2 => by
    obtain ⟨x1, x2, x3, e, x4, x5, x6, x7⟩ := h1
    exact ⟨x1, x2, x3, e, x4, x5, x6, ptsT_app x7 h2⟩
theorem pinT_app : ∀ {a b : List (Nat × Int)} {i j k : Nat}, pinT K V a i j → pinT K V b j k → pinT K V (a ++ b) i k
  | [], [], i, j, k, h1, h2 => Nat.le_trans h1 h2
  | [], p :: b, i, j, k, h1, h2 => by
    obtain ⟨x1, x2⟩ := h2
    exact ⟨Nat.le_trans h1 x1, x2⟩
  | q :: a, b, i, j, k, h1, h2 => by
    obtain ⟨x1, x2, e, x3, x4⟩ := h1
    exact ⟨x1, x2, e, x3, pinT_app x4 h2⟩
theorem pinT_mono : ∀ {a : List (Nat × Int)} {i i' j j' : Nat}, pinT K V a i j → i' ≤ i → j ≤ j' → pinT K V a i' j'
  | [], i, i', j, j', h, h1, h2 => Nat.le_trans h1 (Nat.le_trans h h2)
  | p :: a, i, i', j, j', h, h1, h2 => by
    obtain ⟨x1, x2, q, x3, x4⟩ := h
    exact ⟨Nat.le_trans h1 x1, x2, q, x3, pinT_mono x4 (Nat.le_refl _) h2⟩
/-- of a chip that is being read: parts from m' to i -/
def prtT (K V : Nat → Int) (ch : cCh) (m' i : Nat) : Prop := ptsT K V ch.2.2.2.1 m' i ∧ (∀ q ∈ ch.2.2.2.1, ∀ l ∈ q.2, K l.2.2.1 = 2 → V l.2.2.1 ∈ ch.2.1.map (fun p => V p.1) ∨ V l.2.2.1 ∈ ch.2.2.2.2.map V) ∧ (∀ t ∈ ch.2.2.2.2, K t = 2 ∧ ∃ q ∈ ch.2.2.2.1, ∃ l ∈ q.2, l.2.2.1 = t) ∧ ch.2.2.2.2.length ≤ 100 ∧ ch.2.2.2.1.length ≤ 24
theorem c_prt_T {m m' : Nat} {ch : cCh} {i : Nat} {w : cCh × Nat} (h : c_prt K V m ch i = .inr w) (H : prtT K V ch m' i) : prtT K V w.1 m' w.2 ∧ w.1.1 = ch.1 ∧ w.1.2.1 = ch.2.1 ∧ w.1.2.2.1 = ch.2.2.1 := by
  obtain ⟨h1, h2, h3, h4, h5⟩ := H
  unfold c_prt at h
  split at h
  · rename_i c1
    split at h
    · rename_i c2
      split at h
      · rename_i c3
        split at h
        · cases h
        · rename_i u hu
          obtain ⟨ls, e1, e2, ⟨l2, g21, g22⟩, g23, g24⟩ := c_lks_T m hu h4
          rw [List.nil_append] at e1
          split at h
          · rename_i c4
            split at h
            · rename_i c5
              cases h
              refine ⟨⟨ptsT_app h1 ⟨rfl, c1, c3, _, by rw [← e1] at e2; exact e2, c4, c5, rfl⟩, fun q hq l hl hk => ?_, fun t ht => ?_, g23, by dsimp only; rw [List.length_append, List.length_singleton]; omega⟩, rfl, rfl, rfl⟩
              · dsimp only at hq hl ⊢
                rcases List.mem_append.1 hq with z | z
                · rcases h2 q z l hl hk with y | y
                  · exact Or.inl y
                  · refine Or.inr ?_
                    rw [g21, List.map_append]
                    exact List.mem_append_left _ y
                · rw [List.mem_singleton.1 z] at hl
                  dsimp only at hl
                  rw [e1] at hl
                  have := g24 l hl hk
                  rw [List.map_map] at this
                  exact this
              · dsimp only at ht
                rw [g21] at ht
                rcases List.mem_append.1 ht with z | z
                · obtain ⟨w1, q, w2, w3⟩ := h3 t z
                  exact ⟨w1, q, List.mem_append_left _ w2, w3⟩
                · obtain ⟨w1, x, w2, w3⟩ := g22 t z
                  exact ⟨w1, (i, u.1), List.mem_append_right _ (List.mem_singleton.2 rfl), x, by rw [e1]; exact w2, w3⟩
            · cases h
          · cases h
      · cases h
    · cases h
  · cases h
theorem c_pts_T {M m' : Nat} : ∀ (m : Nat) {ch : cCh} {i : Nat} {w : cCh × Nat}, c_pts K V M m ch i = .inr w → prtT K V ch m' i → ∃ e, e ≤ w.2 ∧ prtT K V w.1 m' e ∧ w.1.1 = ch.1 ∧ w.1.2.1 = ch.2.1 ∧ w.1.2.2.1 = ch.2.2.1
  | 0, _, _, _, h, _ => by cases h
  | m + 1, ch, i, w, h, H => by
    unfold c_pts at h
    split at h
    · cases h; exact ⟨i, by dsimp only; omega, H, rfl, rfl, rfl⟩
    · split at h
      · cases h
      · rename_i u hu
        obtain ⟨H1, a1, a2, a3⟩ := c_prt_T hu H
        obtain ⟨e, he, H2, b1, b2, b3⟩ := c_pts_T m h H1
        exact ⟨e, he, H2, b1.trans a1, b2.trans a2, b3.trans a3⟩
theorem c_pin_T : ∀ (m : Nat) {ps : List (Nat × Int)} {i : Nat} {w : List (Nat × Int) × Nat}, c_pin K V m ps i = .inr w → ps.length ≤ 12 → ∃ qs, w.1 = ps ++ qs ∧ qs ≠ [] ∧ pinT K V qs i w.2 ∧ w.1.length ≤ 12
  | 0, _, _, _, h, _ => by cases h
  | m + 1, ps, i, w, h, hl => by
    unfold c_pin at h
    split at h
    · rename_i c1
      split at h
      · rename_i c2
        split at h
        · cases h
        · rename_i u hu
          have l1 : (ps ++ [(i, u.1)]).length ≤ 12 := by rw [List.length_append, List.length_singleton]; omega
          split at h
          · obtain ⟨qs, e1, e2, e3, e4⟩ := c_pin_T m h l1
            exact ⟨(i, u.1) :: qs, by rw [e1, List.append_assoc]; rfl, List.cons_ne_nil _ _, ⟨Nat.le_refl _, c1, _, hu, pinT_mono e3 (Nat.le_succ _) (Nat.le_refl _)⟩, e4⟩
          · split at h
            · cases h
              exact ⟨[(i, u.1)], rfl, List.cons_ne_nil _ _, ⟨Nat.le_refl _, c1, _, hu, Nat.le_succ _⟩, l1⟩
            · cases h
      · cases h
    · cases h
theorem c_chp_T {M n i : Nat} {w : cCh × Nat} (h : c_chp K V M n i = .inr w) : ∃ e, e ≤ w.2 ∧ chT K V w.1 i e := by
  unfold c_chp at h
  split at h
  · split at h
    · rename_i c1
      split at h
      · split at h
        · split at h
          · split at h
            · cases h
            · rename_i u hu
              obtain ⟨qs, e1, e2, e3, e4⟩ := c_pin_T M hu (Nat.zero_le _)
              rw [List.nil_append] at e1
              split at h
              · split at h
                · cases h
                · rename_i v hv
                  obtain ⟨qs', f1, f2, f3, f4⟩ := c_pin_T M hv e4
                  split at h
                  · split at h
                    · obtain ⟨e, he, ⟨h1, h2, h3, h4, h5⟩, b1, b2, b3⟩ := c_pts_T (m' := v.2 + 2) M h ⟨rfl, fun _ z => absurd z List.not_mem_nil, fun _ z => absurd z List.not_mem_nil, Nat.zero_le _, Nat.zero_le _⟩
                      dsimp only at b1 b2 b3
                      refine ⟨e, he, by omega, by rw [b1]; exact c1, ⟨h2, h3, h4, by rw [b2]; exact f4, ?_, h5⟩, v.2, v.2 + 2, ?_, by omega, h1⟩
                      · rw [b3, b2, f1, List.length_append]
                        have := List.length_pos_iff.2 e2
                        have := List.length_pos_iff.2 f2
                        rw [e1]; omega
                      · rw [b2, b1, f1, e1]
                        exact pinT_app (pinT_mono e3 (by omega) (Nat.le_succ _)) f3
                    · cases h
                  · cases h
              · cases h
          · cases h
        · cases h
      · cases h
    · cases h
  · cases h
theorem chsT_app : ∀ {a : List cCh} {c : cCh} {i e j : Nat}, chsT K V a i e → chT K V c e j → chsT K V (a ++ [c]) i j
  | [], c, i, e, j, h1, h2 => by
    obtain ⟨x1, x2⟩ := h2
    exact ⟨j, ⟨Nat.le_trans h1 x1, x2⟩, Nat.le_refl _⟩
  | a :: l, c, i, e, j, h1, h2 => by
    obtain ⟨x, y1, y2⟩ := h1
    exact ⟨x, y1, chsT_app y2 h2⟩
theorem chT_mono {c : cCh} {i i' e : Nat} (h : chT K V c i e) (hi : i' ≤ i) : chT K V c i' e := ⟨Nat.le_trans hi h.1, h.2⟩
theorem c_chs_T {M : Nat} : ∀ (m : Nat) {acc : List cCh} {i e : Nat} {w : List cCh}, c_chs K V M m acc i = .inr w → chsT K V acc 0 e → e ≤ i → acc.length ≤ 16 → ∃ e, chsT K V w 0 e ∧ 1 ≤ w.length ∧ w.length ≤ 16
  | 0, _, _, _, _, h, _, _, _ => by cases h
  | m + 1, acc, i, e, w, h, H, he, hl => by
    unfold c_chs at h
    split at h
    · cases h
    · rename_i u hu
      obtain ⟨e', he', H'⟩ := c_chp_T hu
      have H2 := chsT_app H (chT_mono H' he)
      have l16 : (acc ++ [u.1]).length ≤ 16 := by
        rw [List.length_append, List.length_singleton]
        rcases Nat.lt_or_ge acc.length 16 with z | z
        · omega
        · exfalso
          unfold c_chp at hu
          rw [if_neg (show ¬ acc.length < 16 by omega)] at hu
          split at hu
          · split at hu <;> cases hu
          · cases hu
      split at h
      · cases h
        exact ⟨e', H2, by rw [List.length_append, List.length_singleton]; omega, l16⟩
      · exact c_chs_T m h H2 he' l16
/-! within the tokens -/
theorem lkT_rg (T : cT K Z) {l : cLk} (h : lkT K V l) (hl : l.1 ≤ Z) : l.1 < l.2.2.1 ∧ l.2.2.1 < l.2.2.2.2 ∧ l.2.2.2.2 ≤ Z ∧ (l.2.1.1 = -1 ∧ ¬ cSg K V 91 (l.1 + 1) ∨ l.2.1.1 = ((l.1 + 1 : Nat) : Int) ∧ cSg K V 91 (l.1 + 1) ∧ l.1 + 1 < l.2.2.1) ∧ (l.2.2.2.1.1 = -1 ∨ l.2.2.2.1.1 = ((l.2.2.1 + 1 : Nat) : Int) ∧ l.2.2.1 + 1 < l.2.2.2.2) := by
  obtain ⟨h1, q, h2, h3, h4, h5⟩ := h
  have a1 := T.lt hl (by rw [h1]; omega)
  have a2 := c_rng_rg (V := V) T (i := l.1 + 1) (by omega)
  rw [h2] at a2
  dsimp only at a2
  have a3 := T.lt a2.2.1 (by rw [h3.1]; omega)
  have nb : l.2.1.1 = -1 → ¬ cSg K V 91 (l.1 + 1) := fun z y => by
    rcases a2.2.2 with ⟨z1, z2⟩ | ⟨z1, z2⟩
    · rw [z2] at h3
      have := y.2; have := h3.2; omega
    · rw [z] at z1; omega
  rcases h5 with ⟨z1, z2, z3⟩ | ⟨z1, z2⟩
  · have a4 := T.lt (i := q + 1) (by omega) (by rcases z1 with y | y <;> (rw [y.1]; omega))
    refine ⟨by omega, by omega, by omega, ?_, Or.inl (by rw [z2])⟩
    rcases a2.2.2 with ⟨y1, y2⟩ | ⟨y1, y2, y3⟩
    · exact Or.inl ⟨y1, nb y1⟩
    · exact Or.inr ⟨y1, y2, by omega⟩
  · have a4 := T.lt (i := q + 1) (by omega) (by rw [z1]; omega)
    have a5 := c_rng_rg (V := V) T (i := q + 2) (by omega)
    rw [z2] at a5
    dsimp only at a5
    refine ⟨by omega, by omega, by omega, ?_, ?_⟩
    · rcases a2.2.2 with ⟨y1, y2⟩ | ⟨y1, y2, y3⟩
      · exact Or.inl ⟨y1, nb y1⟩
      · exact Or.inr ⟨y1, y2, by omega⟩
    · rcases a5.2.2 with ⟨y1, y2⟩ | ⟨y1, y2, y3⟩
      · exact Or.inl y1
      · exact Or.inr ⟨by rw [y1]; omega, by omega⟩
theorem lksT_rg (T : cT K Z) : ∀ {ls : List cLk} {i e : Nat}, lksT K V ls i e → i ≤ Z → i < e ∧ e ≤ Z ∧ ∀ l ∈ ls, lkT K V l ∧ i ≤ l.1 ∧ l.2.2.2.2 ≤ e
  | [], _, _, h, _ => False.elim h
  | l :: ls, i, e, h, hi => by
    obtain ⟨h1, h2, h3⟩ := h
    have r := lkT_rg T h2 (by omega)
    rcases h3 with ⟨z1, z2, z3⟩ | ⟨z1, z2⟩
    · subst z1
      refine ⟨by omega, by omega, fun l' hl' => ?_⟩
      rw [List.mem_singleton.1 hl']
      exact ⟨h2, by omega, by omega⟩
    · have a := T.lt r.2.2.1 (by rw [z1.1]; omega)
      obtain ⟨b1, b2, b3⟩ := lksT_rg T z2 (by omega)
      refine ⟨by omega, b2, fun l' hl' => ?_⟩
      rcases List.mem_cons.1 hl' with y | y
      · subst y; exact ⟨h2, by omega, by omega⟩
      · obtain ⟨c1, c2, c3⟩ := b3 l' y
        exact ⟨c1, by omega, c3⟩
theorem ptsT_rg (T : cT K Z) : ∀ {ps : List (Nat × List cLk)} {i e : Nat}, ptsT K V ps i e → i ≤ Z → i ≤ e ∧ e ≤ Z ∧ ∀ q ∈ ps, i ≤ q.1 ∧ q.1 < e ∧ K q.1 = 2 ∧ ∃ j, j ≤ e ∧ lksT K V q.2 (q.1 + 2) j
  | [], i, e, h, hi => by
    have : i = e := h
    exact ⟨by omega, by omega, fun _ z => absurd z List.not_mem_nil⟩
  | q :: qs, i, e, h, hi => by
    obtain ⟨h1, h2, h3, j, h4, h5, h6, h7⟩ := h
    have a1 := T.lt hi (by rw [h2]; omega)
    have a2 := T.lt (i := i + 1) (by omega) (by rw [h3.1]; omega)
    obtain ⟨b1, b2, b3⟩ := lksT_rg T h4 (by omega)
    have a3 := T.lt b2 (by rw [h5.1]; omega)
    have a4 := T.lt (i := j + 1) (by omega) (by rw [h6.1]; omega)
    obtain ⟨c1, c2, c3⟩ := ptsT_rg T h7 (by omega)
    refine ⟨by omega, c2, fun q' hq' => ?_⟩
    rcases List.mem_cons.1 hq' with y | y
    · subst y
      exact ⟨by omega, by omega, by rw [h1]; exact h2, j, by omega, by rw [h1]; exact h4⟩
    · obtain ⟨d1, d2, d3, d4⟩ := c3 q' y
      exact ⟨by omega, d2, d3, d4⟩
theorem c_wid_T {i : Nat} {w : Int × Nat} (h : c_wid K V i = .inr w) : i ≤ w.2 ∧ (w.1 = -1 ∧ ¬ cSg K V 91 i ∨ w.1 = ((i + 1 : Nat) : Int) ∧ cSg K V 91 i ∧ K (i + 1) = 3 ∧ i + 3 ≤ w.2) := by
  unfold c_wid at h
  split at h
  · rename_i c1
    split at h
    · rename_i c2
      split at h
      · cases h; exact ⟨by dsimp only; omega, Or.inr ⟨rfl, c1, c2, Nat.le_refl _⟩⟩
      · cases h
    · cases h
  · rename_i c1
    cases h; exact ⟨Nat.le_refl _, Or.inl ⟨rfl, c1⟩⟩
theorem pinT_rg : ∀ {ps : List (Nat × Int)} {i e : Nat}, pinT K V ps i e → i ≤ e ∧ ∀ p ∈ ps, i ≤ p.1 ∧ p.1 < e ∧ K p.1 = 2 ∧ (p.2 = -1 ∧ ¬ cSg K V 91 (p.1 + 1) ∨ p.2 = ((p.1 + 2 : Nat) : Int) ∧ cSg K V 91 (p.1 + 1) ∧ K (p.1 + 2) = 3 ∧ p.1 + 2 < e)
  | [], i, e, h => ⟨h, fun _ z => absurd z List.not_mem_nil⟩
  | p :: ps, i, e, h => by
    obtain ⟨h1, h2, q, h3, h4⟩ := h
    obtain ⟨w1, w2⟩ := c_wid_T h3
    dsimp only at w1 w2
    obtain ⟨b1, b2⟩ := pinT_rg h4
    refine ⟨by omega, fun p' hp' => ?_⟩
    rcases List.mem_cons.1 hp' with y | y
    · subst y
      refine ⟨h1, by omega, h2, ?_⟩
      rcases w2 with z | ⟨z1, z2, z3, z4⟩
      · exact Or.inl z
      · exact Or.inr ⟨z1, z2, z3, by omega⟩
    · obtain ⟨d1, d2, d3⟩ := b2 p' y
      exact ⟨by omega, d2, d3⟩
end
