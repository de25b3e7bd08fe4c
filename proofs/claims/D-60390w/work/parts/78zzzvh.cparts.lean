/-! CHIPS, 8: the component's parts, pins, chips -/
/-- behind the links of a part -/
def c_cls (K V : Nat → Int) (r : cF ⊕ (List cLk × List Nat × Nat)) : cF ⊕ (List cLk × List Nat × Nat) := match r with
  | .inl e => .inl e
  | .inr w => if cSg K V 41 w.2.2 then (if cSg K V 59 (w.2.2 + 1) then .inr (w.1, w.2.1, w.2.2 + 2) else .inl (csx K (w.2.2 + 1))) else .inl (csx K w.2.2)
theorem c_prt_e (K V : Nat → Int) (m : Nat) (ch : cCh) (i : Nat) : c_prt K V m ch i = if K i = 2 then
    (if ch.2.2.2.1.length < 24 then
      (if cSg K V 40 (i + 1) then
        match c_cls K V (c_lks K V (ch.2.1.map (·.1)) m ch.2.2.2.2 (i + 2) []) with
        | .inl e => .inl e
        | .inr w => .inr ((ch.1, ch.2.1, ch.2.2.1, ch.2.2.2.1 ++ [(i, w.1)], w.2.1), w.2.2)
      else .inl (csx K (i + 1)))
    else .inl (2, i))
  else .inl (csx K i) := by
  unfold c_prt c_cls
  by_cases c1 : K i = 2
  · rw [if_pos c1, if_pos c1]
    by_cases c2 : ch.2.2.2.1.length < 24
    · rw [if_pos c2, if_pos c2]
      by_cases c3 : cSg K V 40 (i + 1)
      · rw [if_pos c3, if_pos c3]
        cases c_lks K V (ch.2.1.map (·.1)) m ch.2.2.2.2 (i + 2) [] with
        | inl e => rfl
        | inr w =>
          dsimp only
          by_cases c4 : cSg K V 41 w.2.2
          · rw [if_pos c4, if_pos c4]
            by_cases c5 : cSg K V 59 (w.2.2 + 1)
            · rw [if_pos c5, if_pos c5]
            · rw [if_neg c5, if_neg c5]
          · rw [if_neg c4, if_neg c4]
      · rw [if_neg c3, if_neg c3]
    · rw [if_neg c2, if_neg c2]
  · rw [if_neg c1, if_neg c1]
theorem kCh.lk {V : Nat → Int} {b : Nat} {a : Nat} {ps : List (Nat × Int)} {n : Nat} {pp : List (Nat × List cLk)} {t : Nat} {X Y : List cLk} {I : List Nat} {h : am_H} (C : kCh V b (a, ps, n, pp ++ [(t, X)], I) h) : kCh V b (a, ps, n, pp ++ [(t, Y)], I) h := by
  obtain ⟨c1, c2, c3, c4, c5, c6, c7, c8⟩ := C
  refine ⟨c1, c2, c3, ⟨by rw [c4.1]; simp, by have := c4.2; simp at this ⊢; exact this⟩, c5, c6, fun k q hq => ?_, c8⟩
  dsimp only at hq c7
  by_cases z : k < pp.length
  · rw [List.getElem?_append_left z] at hq
    exact c7 k q (by rw [List.getElem?_append_left z]; exact hq)
  · have : k = pp.length := by
      have := (List.getElem?_eq_some_iff.1 hq).1
      rw [List.length_append, List.length_singleton] at this; omega
    subst this
    rw [List.getElem?_append_right (Nat.le_refl _), Nat.sub_self] at hq
    cases hq
    exact c7 pp.length (t, X) (by rw [List.getElem?_append_right (Nat.le_refl _), Nat.sub_self]; rfl)
section
variable {d L : Nat} {K V P : Nat → Int} {Z b : Nat} {g : am_H}
theorem kx_links (C : CB L b) (hb : 83 ≤ b) {a n t : Nat} {ps : List (Nat × Int)} {pp : List (Nat × List cLk)} : ∀ (m : Nat) {i : Nat} {I : List Nat} {acc : List cLk} {h : am_H}, kN K V P Z i h → kf b g h → kCh V b (a, ps, n, pp ++ [(t, [])], I) h → Z < i + m → match c_cls K V (c_lks K V (ps.map (·.1)) m I i acc) with
      | .inl e => ∃ h', am_E (am_D (d + 5)) m_4_16 (.inl 5) [some (am_r (am_a 36)), some (am_r (am_a b)), some (am_i 1)] [] (zS L, h) = kT L h' ∧ kB P b g e h'
      | .inr w => (stkx K w.2.2 ∧ ∃ h', am_E (am_D (d + 5)) m_4_16 (.inl 5) [some (am_r (am_a 36)), some (am_r (am_a b)), some (am_i 1)] [] (zS L, h) = kT L h' ∧ kB P b g (csx K w.2.2) h') ∨ ∃ h1, am_E (am_D (d + 5)) m_4_16 (.inl 5) [some (am_r (am_a 36)), some (am_r (am_a b)), some (am_i 1)] [] (zS L, h) = pV L h1 ∧ kN K V P Z w.2.2 h1 ∧ kf b g h1 ∧ kCh V b (a, ps, n, pp ++ [(t, [])], w.2.1) h1
  | 0, i, I, acc, h, N, f, G, hm => by have := N.2.2.1; omega
  | m + 1, i, I, acc, h, N, f, G, hm => by
    have hz := N.2.2.1
    -- the rest, behind a link
    have rest : ∀ {lk : cLk} {I' : List Nat} {j : Nat} {h1 : am_H}, lk.2.2.2.2 = j → i < j → kN K V P Z j h1 → kf b g h1 → kCh V b (a, ps, n, pp ++ [(t, [])], I') h1 → match c_cls K V (if cSg K V 44 lk.2.2.2.2 then c_lks K V (ps.map (·.1)) m I' (lk.2.2.2.2 + 1) (acc ++ [lk]) else .inr (acc ++ [lk], I', lk.2.2.2.2)) with
        | .inl e => ∃ h', (am_xI (zS L) (am_D (d + 5) 4 8 [am_r (am_a 36), am_i 44] (zS L, h1)) (am_up1 (zS L)) fun v6 h5 => if v6 = 0 then am_E (am_D (d + 5)) m_4_16 (.inl 5) [some (am_r (am_a 36)), some (am_r (am_a b)), some (am_i v6)] [] (zS L, h5) else am_xV (zS L) (am_D (d + 5) 4 10 [am_r (am_a 36)] (zS L, h5)) (am_up1 (zS L)) fun h7 => am_E (am_D (d + 5)) m_4_16 (.inl 5) [some (am_r (am_a 36)), some (am_r (am_a b)), some (am_i v6)] [] (zS L, h7)) = kT L h' ∧ kB P b g e h'
        | .inr w => (stkx K w.2.2 ∧ ∃ h', (am_xI (zS L) (am_D (d + 5) 4 8 [am_r (am_a 36), am_i 44] (zS L, h1)) (am_up1 (zS L)) fun v6 h5 => if v6 = 0 then am_E (am_D (d + 5)) m_4_16 (.inl 5) [some (am_r (am_a 36)), some (am_r (am_a b)), some (am_i v6)] [] (zS L, h5) else am_xV (zS L) (am_D (d + 5) 4 10 [am_r (am_a 36)] (zS L, h5)) (am_up1 (zS L)) fun h7 => am_E (am_D (d + 5)) m_4_16 (.inl 5) [some (am_r (am_a 36)), some (am_r (am_a b)), some (am_i v6)] [] (zS L, h7)) = kT L h' ∧ kB P b g (csx K w.2.2) h') ∨ ∃ h2, (am_xI (zS L) (am_D (d + 5) 4 8 [am_r (am_a 36), am_i 44] (zS L, h1)) (am_up1 (zS L)) fun v6 h5 => if v6 = 0 then am_E (am_D (d + 5)) m_4_16 (.inl 5) [some (am_r (am_a 36)), some (am_r (am_a b)), some (am_i v6)] [] (zS L, h5) else am_xV (zS L) (am_D (d + 5) 4 10 [am_r (am_a 36)] (zS L, h5)) (am_up1 (zS L)) fun h7 => am_E (am_D (d + 5)) m_4_16 (.inl 5) [some (am_r (am_a 36)), some (am_r (am_a b)), some (am_i v6)] [] (zS L, h7)) = pV L h2 ∧ kN K V P Z w.2.2 h2 ∧ kf b g h2 ∧ kCh V b (a, ps, n, pp ++ [(t, [])], w.2.1) h2 := by
      intro lk I' j h1 ej hij N1 f1 G1
      rw [ej, kx_isSign (d := d + 3) N1, p_xI]
      by_cases c : cSg K V 44 j
      · rw [if_pos c, pB_t c, if_neg (show ¬ (1 : Int) = 0 by decide)]
        rcases kx_next (d := d + 3) (L := L) N1 f1 (by rw [c.1]; omega) with ⟨s, h', r1, r2⟩ | ⟨h2, e2, r1, N2, f2⟩
        · obtain ⟨m', rfl⟩ : ∃ m', m = m' + 1 := ⟨m - 1, by have := N1.2.2.1; have := N1.1.1.lt N1.2.2.1 (by rw [c.1]; omega); omega⟩
          rw [c_lks_s s]
          exact ⟨h', by rw [r1, kT_V], r2⟩
        · have G2 : kCh V b (a, ps, n, pp ++ [(t, [])], I') h2 := by rw [e2]; exact G1.at36 (by omega) _ _
          have ih := kx_links C hb m (acc := acc ++ [lk]) N2 f2 G2 (by omega)
          rw [r1, p_xV]
          exact ih
      · rw [if_neg c, pB_f c, if_pos rfl, q_4_16_5, if_pos rfl]
        show match (if cSg K V 41 j then (if cSg K V 59 (j + 1) then .inr (acc ++ [lk], I', j + 2) else .inl (csx K (j + 1))) else .inl (csx K j) : cF ⊕ (List cLk × List Nat × Nat)) with
          | .inl e => _
          | .inr w => _
        rcases kx_sign (d := d + 1) (L := L) N1 f1 41 with ⟨z, h', r1, r2⟩ | ⟨z, ⟨s, h', r1, r2⟩ | ⟨h2, e2, r1, N2, f2⟩⟩
        · rw [if_neg z]
          exact ⟨h', by rw [r1, kT_V], r2⟩
        · rw [if_pos z, if_neg (s.sg 59)]
          exact ⟨h', by rw [r1, kT_V], r2⟩
        · rw [if_pos z, r1, p_xV]
          rcases kx_sign (d := d + 1) (L := L) N2 f2 59 with ⟨y, h', r3, r4⟩ | ⟨y, ⟨s, h', r3, r4⟩ | ⟨h3, e3, r3, N3, f3⟩⟩
          · rw [if_neg y]
            exact ⟨h', by rw [r3, kT_V], r4⟩
          · rw [if_pos y]
            exact Or.inl ⟨s, h', by rw [r3, kT_V], r4⟩
          · rw [if_pos y]
            refine Or.inr ⟨h3, by rw [r3, p_xV], N3, f3, ?_⟩
            rw [e3, e2]
            exact (G1.at36 (by omega) _ _).at36 (by omega) _ _
    rw [q_4_16_5, if_neg (by decide), kx_kind (d := d + 4) N, p_xI]
    unfold c_lks c_lnk
    by_cases c1 : K i = 2
    · rw [if_pos c1, if_pos c1, q_4_16_7]
      rcases kx_need (d := d + 2) (L := L) N f 1 with ⟨y, -⟩ | ⟨-, r1⟩
      · omega
      rw [r1, p_xV]
      rcases kx_next (d := d + 3) (L := L) N f (by rw [c1]; omega) with ⟨s, h', r2, r3⟩ | ⟨h1, e1, r2, N1, f1⟩
      · rw [c_rng_s s]
        dsimp only
        rw [if_neg (s.sg 61)]
        exact ⟨h', by rw [r2, kT_V], r3⟩
      have G1 : kCh V b (a, ps, n, pp ++ [(t, [])], I) h1 := by rw [e1]; exact G.at36 (by omega) _ _
      rw [r2, p_xV]
      have kr := kx_range (d := d) (L := L) N1 f1
      have rrx := c_rng_rg (V := V) N.1.1 (i := i + 1) N1.2.2.1
      cases hr : c_rng K V (i + 1) with
      | inl e =>
        rw [hr] at kr
        obtain ⟨h', r4, r5⟩ := kr
        exact ⟨h', by rw [r4, kT_V], r5⟩
      | inr q =>
        rw [hr] at kr rrx
        dsimp only at kr rrx ⊢
        rcases kr with ⟨s, h', r4, r5⟩ | ⟨h2, r4, N2, f2, e2⟩
        · rw [if_neg (s.sg 61)]
          exact ⟨h', by rw [r4, kT_V], r5⟩
        have G2 : kCh V b (a, ps, n, pp ++ [(t, [])], I) h2 := by rw [e2]; exact G1.at36 (by omega) _ _
        rw [r4, p_xV]
        rcases kx_sign (d := d + 1) (L := L) N2 f2 61 with ⟨z, h', r6, r7⟩ | ⟨z, ⟨s, h', r6, r7⟩ | ⟨h3, e3, r6, N3, f3⟩⟩
        · rw [if_neg z]
          exact ⟨h', by rw [r6, kT_V], r7⟩
        · rw [if_pos z, c_rgt_s s]
          exact ⟨h', by rw [r6, kT_V], r7⟩
        rw [if_pos z, r6, p_xV]
        have G3 : kCh V b (a, ps, n, pp ++ [(t, [])], I) h3 := by rw [e3]; exact G2.at36 (by omega) _ _
        obtain ⟨r, hr'⟩ : ∃ r, r = q.2.2.2 + 1 := ⟨_, rfl⟩
        have hir : i + 1 < r := by have := rrx.1; omega
        rw [← hr'] at N3 ⊢
        rw [kx_isWord (d := d + 3) N3, p_xI]
        unfold c_rgt
        by_cases w4 : cWd K V 4 r
        · rw [pB_t w4, if_neg (show ¬ (1 : Int) = 0 by decide), if_pos (Or.inl w4)]
          dsimp only
          rcases kx_next (d := d + 3) (L := L) N3 f3 (by rw [w4.1]; omega) with ⟨s, h', r8, r9⟩ | ⟨h4, e4, r8, N4, f4⟩
          · rw [if_neg (s.sg 44)]
            show match (if cSg K V 41 (r + 1) then (if cSg K V 59 (r + 1 + 1) then .inr (acc ++ [_], I, r + 1 + 2) else .inl (csx K (r + 1 + 1))) else .inl (csx K (r + 1)) : cF ⊕ (List cLk × List Nat × Nat)) with
              | .inl e => _
              | .inr w => _
            rw [if_neg (s.sg 41)]
            exact ⟨h', by rw [r8, kT_V], r9⟩
          · rw [r8, p_xV]
            exact rest (lk := (i, (q.1, q.2.1, q.2.2.1), r, (-1, 0, 0), r + 1)) rfl (show i < r + 1 by omega) N4 f4 (by rw [e4]; exact G3.at36 (by omega) _ _)
        rw [pB_f w4, if_pos rfl, kx_isWord (d := d + 3) N3, p_xI]
        by_cases w5 : cWd K V 5 r
        · rw [pB_t w5, if_neg (show ¬ (1 : Int) = 0 by decide), if_pos (Or.inr w5)]
          dsimp only
          rcases kx_next (d := d + 3) (L := L) N3 f3 (by rw [w5.1]; omega) with ⟨s, h', r8, r9⟩ | ⟨h4, e4, r8, N4, f4⟩
          · rw [if_neg (s.sg 44)]
            show match (if cSg K V 41 (r + 1) then (if cSg K V 59 (r + 1 + 1) then .inr (acc ++ [_], I, r + 1 + 2) else .inl (csx K (r + 1 + 1))) else .inl (csx K (r + 1)) : cF ⊕ (List cLk × List Nat × Nat)) with
              | .inl e => _
              | .inr w => _
            rw [if_neg (s.sg 41)]
            exact ⟨h', by rw [r8, kT_V], r9⟩
          · rw [r8, p_xV]
            exact rest (lk := (i, (q.1, q.2.1, q.2.2.1), r, (-1, 0, 0), r + 1)) rfl (show i < r + 1 by omega) N4 f4 (by rw [e4]; exact G3.at36 (by omega) _ _)
        rw [pB_f w5, if_pos rfl, kx_kind (d := d + 4) N3, p_xI, if_neg (c := cWd K V 4 r ∨ cWd K V 5 r) (by rintro (y | y); exact w4 y; exact w5 y)]
        by_cases k2 : K r = 2
        · rw [if_pos k2, if_pos k2, q_4_16_11]
          rcases kx_need (d := d + 2) (L := L) N3 f3 1 with ⟨y, -⟩ | ⟨-, r8⟩
          · omega
          rw [r8, p_xV]
          have ki := kx_inner (d := d + 1) (L := L) C hb N3 f3 G3
          dsimp only at ki
          cases hi : c_inn V (ps.map (·.1)) I r with
          | inl e =>
            rw [hi] at ki
            obtain ⟨h', r9, r10⟩ := ki
            exact ⟨h', by rw [r9, kT_V], r10⟩
          | inr I' =>
            rw [hi] at ki
            dsimp only at ki ⊢
            obtain ⟨h4, r9, N4, f4, G4⟩ := ki
            rw [r9, p_xV]
            rcases kx_next (d := d + 3) (L := L) N4 f4 (by rw [k2]; omega) with ⟨s, h', r10, r11⟩ | ⟨h5, e5, r10, N5, f5⟩
            · rw [c_rng_s s]
              dsimp only
              rw [if_neg (s.sg 44)]
              show match (if cSg K V 41 (r + 1) then (if cSg K V 59 (r + 1 + 1) then .inr (acc ++ [_], I', r + 1 + 2) else .inl (csx K (r + 1 + 1))) else .inl (csx K (r + 1)) : cF ⊕ (List cLk × List Nat × Nat)) with
                | .inl e => _
                | .inr w => _
              rw [if_neg (s.sg 41)]
              exact ⟨h', by rw [r10, kT_V], r11⟩
            rw [r10, p_xV]
            have G5 : kCh V b (a, ps, n, pp ++ [(t, [])], I') h5 := by rw [e5]; exact G4.at36 (by omega) _ _
            have kr2 := kx_range (d := d) (L := L) N5 f5
            have rr2 := c_rng_rg (V := V) N.1.1 (i := r + 1) N5.2.2.1
            cases hr2 : c_rng K V (r + 1) with
            | inl e =>
              rw [hr2] at kr2
              obtain ⟨h', r12, r13⟩ := kr2
              exact ⟨h', by rw [r12, kT_V], r13⟩
            | inr u =>
              rw [hr2] at kr2 rr2
              dsimp only at kr2 rr2 ⊢
              rcases kr2 with ⟨s, h', r12, r13⟩ | ⟨h6, r12, N6, f6, e6⟩
              · rw [if_neg (s.sg 44)]
                show match (if cSg K V 41 u.2.2.2 then (if cSg K V 59 (u.2.2.2 + 1) then .inr (acc ++ [_], I', u.2.2.2 + 2) else .inl (csx K (u.2.2.2 + 1))) else .inl (csx K u.2.2.2) : cF ⊕ (List cLk × List Nat × Nat)) with
                  | .inl e => _
                  | .inr w => _
                rw [if_neg (s.sg 41)]
                exact ⟨h', by rw [r12, kT_V], r13⟩
              · rw [r12, p_xV]
                exact rest (lk := (i, (q.1, q.2.1, q.2.2.1), r, (u.1, u.2.1, u.2.2.1), u.2.2.2)) rfl (show i < u.2.2.2 by have := rr2.1; omega) N6 f6 (by rw [e6]; exact G5.at36 (by omega) _ _)
        · rw [if_neg k2, if_neg k2, q_4_16_11]
          rcases kx_need (d := d + 2) (L := L) N3 f3 0 with ⟨-, h', r8, r9⟩ | ⟨y, -⟩
          · exact ⟨h', by rw [r8, kT_V], r9⟩
          · omega
    · rw [if_neg c1, if_neg c1, q_4_16_7]
      rcases kx_need (d := d + 2) (L := L) N f 0 with ⟨-, h', r1, r2⟩ | ⟨y, -⟩
      · exact ⟨h', by rw [r1, kT_V], r2⟩
      · omega
end
