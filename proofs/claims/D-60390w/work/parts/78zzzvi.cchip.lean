/-! CHIPS, 9: the component's parts, pins, chips, whole -/
section
variable {d L : Nat} {K V P : Nat → Int} {Z i b : Nat} {g h : am_H} {ch : cCh}
theorem kx_part (C : CB L b) (hb : 83 ≤ b) {m : Nat} (N : kN K V P Z i h) (f : kf b g h) (G : kCh V b ch h) (hm : Z < i + m) : match c_prt K V m ch i with
      | .inl e => ∃ h', am_D (d + 6) 4 16 [am_r (am_a 36), am_r (am_a b)] (zS L, h) = kT L h' ∧ kB P b g e h'
      | .inr w => (stkx K w.2 ∧ ∃ h', am_D (d + 6) 4 16 [am_r (am_a 36), am_r (am_a b)] (zS L, h) = kT L h' ∧ kB P b g (csx K w.2) h') ∨ ∃ h1, am_D (d + 6) 4 16 [am_r (am_a 36), am_r (am_a b)] (zS L, h) = pV L h1 ∧ kN K V P Z w.2 h1 ∧ kf b g h1 ∧ kCh V b w.1 h1 := by
  have hz := N.2.2.1
  have G' := G
  obtain ⟨⟨g0, g1⟩, ⟨g2, g2'⟩, g3, ⟨g4, g4'⟩, ⟨g5, g5'⟩, g6, g7, g8⟩ := G
  rw [c_prt_e, D_4_16, kx_kind (d := d + 4) N, p_xI]
  by_cases c1 : K i = 2
  · rw [if_pos c1, if_pos c1]
    rcases kx_need (d := d + 2) (L := L) N f 1 with ⟨y, -⟩ | ⟨-, r1⟩
    · omega
    rw [r1, p_xV, C.ob, g4]
    by_cases c2 : ch.2.2.2.1.length < 24
    · rw [if_pos c2, if_pos (show (ch.2.2.2.1.length : Int) < 24 by omega), q_4_16_4, kx_here (d := d + 4) N, p_xI]
      rcases kx_check (d := d + 3) (L := L) (P := P) f 1 2 i with ⟨y, -⟩ | ⟨-, r2⟩
      · omega
      rw [r2, p_xV, C.ob, C.ob, CB.r8, C.a3, g4, p_idx (by omega) (by omega), Int.toNat_natCast, beq_b, C.ob, C.ob, p_up_c _ _ _ _ b (by omega), g4, p_w (x := (ch.2.2.2.1.length : Int) + 1) (by omega) (by omega), N.2.1]
      obtain ⟨H, hH⟩ : ∃ H, H = am_up (am_up h (b + 3) ch.2.2.2.1.length (i : Int)) b 4 ((ch.2.2.2.1.length : Int) + 1) := ⟨_, rfl⟩
      rw [← hH]
      have e36 : ∀ c, c ≠ b → c ≠ b + 3 → H c = h c := fun c z1 z2 => by rw [hH, p_up_c _ _ _ _ _ z1, p_up_c _ _ _ _ _ z2]
      have NH : kN K V P Z i H := ⟨N.1.fr (e36 78 (by omega) (by omega)) (e36 79 (by omega) (by omega)) (e36 80 (by omega) (by omega)), by rw [e36 36 (by omega) (by omega)]; exact N.2.1, N.2.2⟩
      have fH : kf b g H := by rw [hH]; exact (f.upc (by omega) (by omega)).upc (by omega) (by omega)
      have GH : kCh V b (ch.1, ch.2.1, ch.2.2.1, ch.2.2.2.1 ++ [(i, [])], ch.2.2.2.2) H := by
        have eb : ∀ k, k ≠ 4 → H b k = h b k := fun k hk => by rw [hH, p_up_n _ _ _ _ _ _ (Or.inr hk), p_up_c _ _ _ _ _ (by omega)]
        unfold kCh
        dsimp only
        rw [eb 0 (by decide), eb 1 (by decide), eb 2 (by decide), eb 3 (by decide), eb 5 (by decide), e36 (b + 1) (by omega) (by omega), e36 (b + 2) (by omega) (by omega), e36 (b + 4) (by omega) (by omega), e36 (b + 5) (by omega) (by omega), e36 (b + 6) (by omega) (by omega)]
        refine ⟨⟨g0, g1⟩, ⟨g2, g2'⟩, g3, ⟨by rw [hH, p_up_s, List.length_append, List.length_singleton]; omega, by rw [List.length_append, List.length_singleton]; omega⟩, ⟨g5, g5'⟩, g6, fun k q hk => ?_, g8⟩
        by_cases y : k < ch.2.2.2.1.length
        · rw [List.getElem?_append_left y] at hk
          rw [hH, p_up_c _ _ _ _ _ (by omega), p_up_n _ _ _ _ _ _ (Or.inr (by omega))]
          exact g7 k q hk
        · have : k = ch.2.2.2.1.length := by
            have := (List.getElem?_eq_some_iff.1 hk).1
            rw [List.length_append, List.length_singleton] at this; omega
          subst this
          rw [List.getElem?_append_right (Nat.le_refl _), Nat.sub_self] at hk
          cases hk
          rw [hH, p_up_c _ _ _ _ _ (by omega), p_up_s]
      rcases kx_next (d := d + 3) (L := L) NH fH (by rw [c1]; omega) with ⟨s, h', r3, r4⟩ | ⟨h1, e1, r3, N1, f1⟩
      · rw [if_neg (s.sg 40)]
        exact ⟨h', by rw [r3, kT_V], r4⟩
      rw [r3, p_xV]
      rcases kx_sign (d := d + 1) (L := L) N1 f1 40 with ⟨z, h', r5, r6⟩ | ⟨z, ⟨s, h', r5, r6⟩ | ⟨h2, e2, r5, N2, f2⟩⟩
      · rw [if_neg z]
        exact ⟨h', by rw [r5, kT_V], r6⟩
      · obtain ⟨m', rfl⟩ : ∃ m', m = m' + 1 := ⟨m - 1, by have := N1.1.1.lt N1.2.2.1 (by rw [z.1]; omega); omega⟩
        rw [if_pos z, c_lks_s s]
        exact ⟨h', by rw [r5, kT_V], r6⟩
      · rw [if_pos z, r5, p_xV]
        have G2 : kCh V b (ch.1, ch.2.1, ch.2.2.1, ch.2.2.2.1 ++ [(i, [])], ch.2.2.2.2) h2 := by rw [e2, e1]; exact (GH.at36 (by omega) _ _).at36 (by omega) _ _
        have kl := kx_links (d := d) (L := L) C hb m (acc := []) N2 f2 G2 (by omega)
        cases hc : c_cls K V (c_lks K V (ch.2.1.map (·.1)) m ch.2.2.2.2 (i + 2) []) with
        | inl e => rw [hc] at kl; exact kl
        | inr w =>
          rw [hc] at kl
          dsimp only at kl ⊢
          rcases kl with z | ⟨h3, r7, N3, f3, G3⟩
          · exact Or.inl z
          · exact Or.inr ⟨h3, r7, N3, f3, G3.lk⟩
    · rw [if_neg c2, if_neg (show ¬ (ch.2.2.2.1.length : Int) < 24 by omega), q_4_16_4, kx_here (d := d + 4) N, p_xI]
      rcases kx_check (d := d + 3) (L := L) (P := P) f 0 2 i with ⟨-, h', r2, r3⟩ | ⟨y, -⟩
      · exact ⟨h', by rw [r2, kT_V], r3⟩
      · omega
  · rw [if_neg c1, if_neg c1]
    rcases kx_need (d := d + 2) (L := L) N f 0 with ⟨-, h', r1, r2⟩ | ⟨y, -⟩
    · exact ⟨h', by rw [r1, kT_V], r2⟩
    · omega
/-- a chip that has been read -/
def kCd (V P : Nat → Int) (b : Nat) (ch : cCh) (h : am_H) : Prop := (h b 0 = V ch.1 ∧ h b 1 = P ch.1) ∧ (h b 2 = (ch.2.1.length : Int) ∧ ch.2.1.length ≤ 12) ∧ h b 3 = (ch.2.2.1 : Int) ∧ (h b 4 = (ch.2.2.2.1.length : Int) ∧ ch.2.2.2.1.length ≤ 24) ∧ (h b 5 = (ch.2.2.2.2.length : Int) ∧ ch.2.2.2.2.length ≤ 100) ∧ (∀ k p, ch.2.1[k]? = some p → h (b + 1) k = V p.1 ∧ h (b + 2) k = (p.1 : Int)) ∧ (∀ k q, ch.2.2.2.1[k]? = some q → h (b + 3) k = (q.1 : Int)) ∧ ∀ (k t : Nat), ch.2.2.2.2[k]? = some t → h (b + 4) k = V t ∧ h (b + 5) k = 0 ∧ h (b + 6) k = 0
theorem kCd.fr {h h' : am_H} (C : kCd V P b ch h) (e : ∀ c, b ≤ c → c ≤ b + 6 → h' c = h c) : kCd V P b ch h' := by
  unfold kCd
  rw [e b (by omega) (by omega), e (b + 1) (by omega) (by omega), e (b + 2) (by omega) (by omega), e (b + 3) (by omega) (by omega), e (b + 4) (by omega) (by omega), e (b + 5) (by omega) (by omega), e (b + 6) (by omega) (by omega)]
  exact C
theorem kx_parts (C : CB L b) (hb : 83 ≤ b) {M : Nat} (hM : Z < M) (hnt : ch.1 ≤ Z) : ∀ (m : Nat) {i : Nat} {ch' : cCh} {h : am_H}, ch'.1 = ch.1 → kN K V P Z i h → kf b g h → kCh V b ch' h → Z < i + m → match c_pts K V M m ch' i with
      | .inl e => ∃ h', am_E (am_D (d + 6)) m_4_14 (.inl 5) [some (am_r (am_a 36)), some (am_r (am_a b))] [] (zS L, h) = kT L h' ∧ kB P b g e h'
      | .inr w => (stkx K w.2 ∧ ∃ h', am_E (am_D (d + 6)) m_4_14 (.inl 5) [some (am_r (am_a 36)), some (am_r (am_a b))] [] (zS L, h) = kT L h' ∧ kB P b g (csx K w.2) h') ∨ ∃ h1, am_E (am_D (d + 6)) m_4_14 (.inl 5) [some (am_r (am_a 36)), some (am_r (am_a b))] [] (zS L, h) = pV L (am_up h1 36 6 (am_w (g 36 6 + 1))) ∧ kN K V P Z w.2 h1 ∧ kf b g h1 ∧ kCd V P b w.1 h1
  | 0, i, ch', h, e1, N, f, G, hm => by have := N.2.2.1; omega
  | m + 1, i, ch', h, e1, N, f, G, hm => by
    have hz := N.2.2.1
    rw [q_4_14_5, kx_isSign (d := d + 4) N, p_xI]
    unfold c_pts
    by_cases c : cSg K V 125 i
    · rw [if_pos c, pB_t c, if_neg (show ¬ (1 : Int) = 0 by decide)]
      rcases kx_next (d := d + 4) (L := L) N f (by rw [c.1]; omega) with ⟨s, h', r1, r2⟩ | ⟨h1, eh1, r1, N1, f1⟩
      · exact Or.inl ⟨s, h', by rw [r1, kT_V], r2⟩
      · have G1 : kCh V b ch' h1 := by rw [eh1]; exact G.at36 (by omega) _ _
        obtain ⟨⟨g0, g1⟩, ⟨g2, g2'⟩, g3, ⟨g4, g4'⟩, ⟨g5, g5'⟩, g6, g7, g8⟩ := G1
        have h2000 := N.1.1.1
        obtain ⟨H, hH⟩ : ∃ H, H = am_up h1 b 1 (P ch'.1) := ⟨_, rfl⟩
        have eC : ∀ c, c ≠ b → H c = h1 c := fun c z1 => by rw [hH, p_up_c _ _ _ _ _ z1]
        have eb : ∀ k, k ≠ 1 → H b k = h1 b k := fun k hk => by rw [hH, p_up_n _ _ _ _ _ _ (Or.inr hk)]
        have fH : kf b g H := by rw [hH]; exact f1.upc (by omega) (by omega)
        refine Or.inr ⟨H, ?_, ⟨N1.1.fr (eC 78 (by omega)) (eC 79 (by omega)) (eC 80 (by omega)), by rw [eC 36 (by omega)]; exact N1.2.1, N1.2.2⟩, fH, ?_⟩
        · rw [r1, p_xV, C.ob, g1, p_idx (by omega) (by omega), C.ob, Int.toNat_natCast, (N1.1.2 ch'.1 (by omega)).2.2.2, ← hH, fH.2 6 (by decide)]
        · unfold kCd
          dsimp only
          rw [eb 0 (by decide), eb 2 (by decide), eb 3 (by decide), eb 4 (by decide), eb 5 (by decide), eC (b + 1) (by omega), eC (b + 2) (by omega), eC (b + 3) (by omega), eC (b + 4) (by omega), eC (b + 5) (by omega), eC (b + 6) (by omega)]
          exact ⟨⟨g0, by rw [hH, p_up_s]⟩, ⟨g2, g2'⟩, g3, ⟨g4, g4'⟩, ⟨g5, g5'⟩, g6, g7, g8⟩
    · rw [if_neg c, pB_f c, if_pos rfl]
      have kp := kx_part (d := d) (L := L) C hb (m := M) N f G (by omega)
      have rp := c_prt_rg (V := V) N.1.1 (m := M) (ch := ch') hz (by omega)
      have ename : ∀ w, c_prt K V M ch' i = .inr w → w.1.1 = ch'.1 := by
        intro w hw
        rw [c_prt_e] at hw
        split at hw
        · split at hw
          · split at hw
            · split at hw
              · cases hw
              · cases hw; rfl
            · cases hw
          · cases hw
        · cases hw
      cases hc : c_prt K V M ch' i with
      | inl e =>
        rw [hc] at kp
        obtain ⟨h', r1, r2⟩ := kp
        exact ⟨h', by rw [r1, kT_V], r2⟩
      | inr w =>
        rw [hc] at kp rp
        dsimp only at kp rp ⊢
        rcases kp with ⟨s, h', r1, r2⟩ | ⟨h1, r1, N1, f1, G1⟩
        · obtain ⟨m', rfl⟩ : ∃ m', m = m' + 1 := ⟨m - 1, by have := rp.1; have := rp.2; omega⟩
          rw [c_pts_s s]
          exact ⟨h', by rw [r1, kT_V], r2⟩
        · rw [r1, p_xV]
          exact kx_parts C hb hM hnt m (by rw [ename w hc, e1]) N1 f1 G1 (by have := rp.1; omega)
/-- pins -/
theorem kx_pins (C : CB L b) (hb : 83 ≤ b) {a n : Nat} : ∀ (m : Nat) {i : Nat} {ps : List (Nat × Int)} {h : am_H}, kN K V P Z i h → kf b g h → kCh V b (a, ps, n, [], []) h → Z < i + m → match c_pin K V m ps i with
      | .inl e => ∃ h', am_E (am_D (d + 5)) m_4_15 (.inl 1) [some (am_r (am_a 36)), some (am_r (am_a b)), some (am_i 1)] [] (zS L, h) = kT L h' ∧ kB P b g e h'
      | .inr w => (stkx K w.2 ∧ ∃ h', am_E (am_D (d + 5)) m_4_15 (.inl 1) [some (am_r (am_a 36)), some (am_r (am_a b)), some (am_i 1)] [] (zS L, h) = kT L h' ∧ kB P b g (csx K w.2) h') ∨ ∃ h1, am_E (am_D (d + 5)) m_4_15 (.inl 1) [some (am_r (am_a 36)), some (am_r (am_a b)), some (am_i 1)] [] (zS L, h) = pV L h1 ∧ kN K V P Z w.2 h1 ∧ kf b g h1 ∧ kCh V b (a, w.1, n, [], []) h1
  | 0, i, ps, h, N, f, G, hm => by have := N.2.2.1; omega
  | m + 1, i, ps, h, N, f, G, hm => by
    have hz := N.2.2.1
    -- the rest, behind a pin
    have rest : ∀ {ps' : List (Nat × Int)} {j : Nat} {h1 : am_H}, i < j → kN K V P Z j h1 → kf b g h1 → kCh V b (a, ps', n, [], []) h1 → match (if cSg K V 44 j then c_pin K V m ps' (j + 1) else if cSg K V 59 j then .inr (ps', j + 1) else .inl (csx K j) : cF ⊕ (List (Nat × Int) × Nat)) with
        | .inl e => ∃ h', (am_xI (zS L) (am_D (d + 5) 4 8 [am_r (am_a 36), am_i 44] (zS L, h1)) (am_up1 (zS L)) fun v5 h4 => if v5 = 0 then am_E (am_D (d + 5)) m_4_15 (.inl 1) [some (am_r (am_a 36)), some (am_r (am_a b)), some (am_i v5)] [] (zS L, h4) else am_xV (zS L) (am_D (d + 5) 4 10 [am_r (am_a 36)] (zS L, h4)) (am_up1 (zS L)) fun h6 => am_E (am_D (d + 5)) m_4_15 (.inl 1) [some (am_r (am_a 36)), some (am_r (am_a b)), some (am_i v5)] [] (zS L, h6)) = kT L h' ∧ kB P b g e h'
        | .inr w => (stkx K w.2 ∧ ∃ h', (am_xI (zS L) (am_D (d + 5) 4 8 [am_r (am_a 36), am_i 44] (zS L, h1)) (am_up1 (zS L)) fun v5 h4 => if v5 = 0 then am_E (am_D (d + 5)) m_4_15 (.inl 1) [some (am_r (am_a 36)), some (am_r (am_a b)), some (am_i v5)] [] (zS L, h4) else am_xV (zS L) (am_D (d + 5) 4 10 [am_r (am_a 36)] (zS L, h4)) (am_up1 (zS L)) fun h6 => am_E (am_D (d + 5)) m_4_15 (.inl 1) [some (am_r (am_a 36)), some (am_r (am_a b)), some (am_i v5)] [] (zS L, h6)) = kT L h' ∧ kB P b g (csx K w.2) h') ∨ ∃ h2, (am_xI (zS L) (am_D (d + 5) 4 8 [am_r (am_a 36), am_i 44] (zS L, h1)) (am_up1 (zS L)) fun v5 h4 => if v5 = 0 then am_E (am_D (d + 5)) m_4_15 (.inl 1) [some (am_r (am_a 36)), some (am_r (am_a b)), some (am_i v5)] [] (zS L, h4) else am_xV (zS L) (am_D (d + 5) 4 10 [am_r (am_a 36)] (zS L, h4)) (am_up1 (zS L)) fun h6 => am_E (am_D (d + 5)) m_4_15 (.inl 1) [some (am_r (am_a 36)), some (am_r (am_a b)), some (am_i v5)] [] (zS L, h6)) = pV L h2 ∧ kN K V P Z w.2 h2 ∧ kf b g h2 ∧ kCh V b (a, w.1, n, [], []) h2 := by
      intro ps' j h1 hij N1 f1 G1
      rw [kx_isSign (d := d + 3) N1, p_xI]
      by_cases c : cSg K V 44 j
      · rw [if_pos c, pB_t c, if_neg (show ¬ (1 : Int) = 0 by decide)]
        rcases kx_next (d := d + 3) (L := L) N1 f1 (by rw [c.1]; omega) with ⟨s, h', r1, r2⟩ | ⟨h2, e2, r1, N2, f2⟩
        · obtain ⟨m', rfl⟩ : ∃ m', m = m' + 1 := ⟨m - 1, by have := N1.1.1.lt N1.2.2.1 (by rw [c.1]; omega); omega⟩
          rw [c_pin_s s]
          exact ⟨h', by rw [r1, kT_V], r2⟩
        · rw [r1, p_xV]
          exact kx_pins C hb m N2 f2 (by rw [e2]; exact G1.at36 (by omega) _ _) (by omega)
      · rw [if_neg c, pB_f c, if_pos rfl, q_4_15_1, if_pos rfl]
        rcases kx_sign (d := d + 1) (L := L) N1 f1 59 with ⟨z, h', r1, r2⟩ | ⟨z, ⟨s, h', r1, r2⟩ | ⟨h2, e2, r1, N2, f2⟩⟩
        · rw [if_neg z]
          exact ⟨h', by rw [r1, kT_V], r2⟩
        · rw [if_pos z]
          exact Or.inl ⟨s, h', by rw [r1, kT_V], r2⟩
        · rw [if_pos z]
          exact Or.inr ⟨h2, by rw [r1, p_xV], N2, f2, by rw [e2]; exact G1.at36 (by omega) _ _⟩
    obtain ⟨⟨g0, g1⟩, ⟨g2, g2'⟩, g3, g4, g5, g6, g7, g8⟩ := G
    rw [q_4_15_1, if_neg (by decide), kx_kind (d := d + 4) N, p_xI]
    unfold c_pin
    by_cases c1 : K i = 2
    · rw [if_pos c1, if_pos c1]
      rcases kx_need (d := d + 2) (L := L) N f 1 with ⟨y, -⟩ | ⟨-, r1⟩
      · omega
      rw [r1, p_xV, C.ob, g2]
      dsimp only at g2'
      by_cases c2 : ps.length < 12
      · rw [if_pos c2, if_pos (show (ps.length : Int) < 12 by omega), q_4_15_5, kx_here (d := d + 4) N, p_xI]
        rcases kx_check (d := d + 3) (L := L) (P := P) f 1 2 i with ⟨y, -⟩ | ⟨-, r2⟩
        · omega
        dsimp only at g2
        rw [r2, p_xV, C.ob, C.ob, kx_val (d := d + 4) N, p_xI, CB.r6, C.a1, g2, p_idx (by omega) (by omega), Int.toNat_natCast, beq_b, C.ob, C.ob, CB.r7, C.a2, p_up_c _ _ _ _ b (by omega), g2, p_idx (by omega) (by omega), Int.toNat_natCast, beq_b, C.ob, C.ob, p_up_c _ _ _ _ 36 (by omega), N.2.1, p_up_c _ _ _ _ b (by omega), p_up_c _ _ _ _ b (by omega), g2, p_w (x := (ps.length : Int) + 1) (by omega) (by omega)]
        obtain ⟨H, hH⟩ : ∃ H, H = am_up (am_up (am_up h (b + 1) ps.length (V i)) (b + 2) ps.length (i : Int)) b 2 ((ps.length : Int) + 1) := ⟨_, rfl⟩
        rw [← hH]
        have eC : ∀ c, c ≠ b → c ≠ b + 1 → c ≠ b + 2 → H c = h c := fun c z1 z2 z3 => by rw [hH, p_up_c _ _ _ _ _ z1, p_up_c _ _ _ _ _ z3, p_up_c _ _ _ _ _ z2]
        have eb : ∀ k, k ≠ 2 → H b k = h b k := fun k hk => by rw [hH, p_up_n _ _ _ _ _ _ (Or.inr hk), p_up_c _ _ _ _ _ (by omega), p_up_c _ _ _ _ _ (by omega)]
        have NH : kN K V P Z i H := ⟨N.1.fr (eC 78 (by omega) (by omega) (by omega)) (eC 79 (by omega) (by omega) (by omega)) (eC 80 (by omega) (by omega) (by omega)), by rw [eC 36 (by omega) (by omega) (by omega)]; exact N.2.1, N.2.2⟩
        have fH : kf b g H := by rw [hH]; exact ((f.upc (by omega) (by omega)).upc (by omega) (by omega)).upc (by omega) (by omega)
        have GH : ∀ nm : Int, kCh V b (a, ps ++ [(i, nm)], n, [], []) H := fun nm => by
          unfold kCh
          dsimp only
          rw [eb 0 (by decide), eb 1 (by decide), eb 3 (by decide), eb 4 (by decide), eb 5 (by decide)]
          refine ⟨⟨g0, g1⟩, ⟨by rw [hH, p_up_s, List.length_append, List.length_singleton]; omega, by rw [List.length_append, List.length_singleton]; omega⟩, g3, g4, g5, fun k p hk => ?_, fun k q hq => (by cases hq), fun k t ht => (by cases ht)⟩
          by_cases y : k < ps.length
          · rw [List.getElem?_append_left y] at hk
            rw [hH, p_up_n _ _ _ _ _ _ (Or.inl (by omega)), p_up_n _ _ _ _ _ _ (Or.inl (by omega)), p_up_n _ _ _ _ _ _ (Or.inr (by omega)), p_up_n _ _ _ _ _ _ (Or.inl (by omega)), p_up_n _ _ _ _ _ _ (Or.inr (by omega)), p_up_n _ _ _ _ _ _ (Or.inl (by omega))]
            exact g6 k p hk
          · have : k = ps.length := by
              have := (List.getElem?_eq_some_iff.1 hk).1
              rw [List.length_append, List.length_singleton] at this; omega
            subst this
            rw [List.getElem?_append_right (Nat.le_refl _), Nat.sub_self] at hk
            cases hk
            refine ⟨?_, ?_⟩
            · rw [hH, p_up_n _ _ _ _ _ _ (Or.inl (by omega)), p_up_n _ _ _ _ _ _ (Or.inl (by omega)), p_up_s]
            · rw [hH, p_up_n _ _ _ _ _ _ (Or.inl (by omega)), p_up_s]
        rcases kx_next (d := d + 3) (L := L) NH fH (by rw [c1]; omega) with ⟨s, h', r3, r4⟩ | ⟨h1, e1, r3, N1, f1⟩
        · rw [c_wid_s s]
          dsimp only
          rw [if_neg (s.sg 44), if_neg (s.sg 59)]
          exact ⟨h', by rw [r3, kT_V], r4⟩
        have G1 : ∀ nm : Int, kCh V b (a, ps ++ [(i, nm)], n, [], []) h1 := fun nm => by rw [e1]; exact (GH nm).at36 (by omega) _ _
        rw [r3, p_xV, kx_isSign (d := d + 3) N1, p_xI]
        unfold c_wid
        by_cases c3 : cSg K V 91 (i + 1)
        · rw [if_pos c3, pB_t c3, if_neg (show ¬ (1 : Int) = 0 by decide)]
          rcases kx_next (d := d + 3) (L := L) N1 f1 (by rw [c3.1]; omega) with ⟨s, h', r5, r6⟩ | ⟨h2, e2, r5, N2, f2⟩
          · rw [if_neg s.k.2.2.2.1]
            exact ⟨h', by rw [r5, kT_V], r6⟩
          rw [r5, p_xV, kx_kind (d := d + 4) N2, p_xI]
          by_cases c4 : K (i + 1 + 1) = 3
          · rw [if_pos c4, if_pos c4, q_4_15_7]
            rcases kx_need (d := d + 2) (L := L) N2 f2 1 with ⟨y, -⟩ | ⟨-, r7⟩
            · omega
            rw [r7, p_xV]
            rcases kx_next (d := d + 3) (L := L) N2 f2 (by rw [c4]; omega) with ⟨s, h', r8, r9⟩ | ⟨h3, e3, r8, N3, f3⟩
            · rw [if_neg (s.sg 93)]
              exact ⟨h', by rw [r8, kT_V], r9⟩
            rw [r8, p_xV]
            rcases kx_sign (d := d + 1) (L := L) N3 f3 93 with ⟨z, h', r10, r11⟩ | ⟨z, ⟨s, h', r10, r11⟩ | ⟨h4, e4, r10, N4, f4⟩⟩
            · rw [if_neg z]
              exact ⟨h', by rw [r10, kT_V], r11⟩
            · rw [if_pos z]
              dsimp only
              rw [if_neg (s.sg 44), if_neg (s.sg 59)]
              exact ⟨h', by rw [r10, kT_V], r11⟩
            · rw [if_pos z, r10, p_xV]
              exact rest (j := i + 1 + 3) (by omega) N4 f4 (by rw [e4, e3, e2]; exact (((G1 _).at36 (by omega) _ _).at36 (by omega) _ _).at36 (by omega) _ _)
          · rw [if_neg c4, if_neg c4, q_4_15_7]
            rcases kx_need (d := d + 2) (L := L) N2 f2 0 with ⟨-, h', r7, r8⟩ | ⟨y, -⟩
            · exact ⟨h', by rw [r7, kT_V], r8⟩
            · omega
        · rw [if_neg c3, pB_f c3, if_pos rfl]
          exact rest (j := i + 1) (by omega) N1 f1 (G1 _)
      · rw [if_neg c2, if_neg (show ¬ (ps.length : Int) < 12 by omega), q_4_15_5, kx_here (d := d + 4) N, p_xI]
        rcases kx_check (d := d + 3) (L := L) (P := P) f 0 2 i with ⟨-, h', r2, r3⟩ | ⟨y, -⟩
        · exact ⟨h', by rw [r2, kT_V], r3⟩
        · omega
    · rw [if_neg c1, if_neg c1]
      rcases kx_need (d := d + 2) (L := L) N f 0 with ⟨-, h', r1, r2⟩ | ⟨y, -⟩
      · exact ⟨h', by rw [r1, kT_V], r2⟩
      · omega
end
