/-! CHIPS, 10: the component's chips, all -/
section
variable {d L : Nat} {K V P : Nat → Int} {Z i b : Nat} {g h : am_H}
theorem kx_begin (C : CB L b) (hb : 83 ≤ b) (x y : Int) : ∃ H, am_D (d + 1) 3 1 [am_r (am_a b), am_i x, am_i y] (zS L, h) = pV L H ∧ (∀ c, c ≠ b → H c = h c) ∧ (H b 0 = x ∧ H b 1 = y ∧ H b 2 = 0 ∧ H b 3 = 0 ∧ H b 4 = 0 ∧ H b 5 = 0) := by
  refine ⟨_, by rw [D_3_1, C.ob, C.ob, C.ob, C.ob, C.ob, C.ob], fun c hc => by rw [p_up_c _ _ _ _ _ hc, p_up_c _ _ _ _ _ hc, p_up_c _ _ _ _ _ hc, p_up_c _ _ _ _ _ hc, p_up_c _ _ _ _ _ hc, p_up_c _ _ _ _ _ hc], ?_, ?_, ?_, ?_, ?_, ?_⟩
  · rw [p_up_n _ _ _ _ _ _ (Or.inr (by decide)), p_up_n _ _ _ _ _ _ (Or.inr (by decide)), p_up_n _ _ _ _ _ _ (Or.inr (by decide)), p_up_n _ _ _ _ _ _ (Or.inr (by decide)), p_up_n _ _ _ _ _ _ (Or.inr (by decide)), p_up_s]
  · rw [p_up_n _ _ _ _ _ _ (Or.inr (by decide)), p_up_n _ _ _ _ _ _ (Or.inr (by decide)), p_up_n _ _ _ _ _ _ (Or.inr (by decide)), p_up_n _ _ _ _ _ _ (Or.inr (by decide)), p_up_s]
  · rw [p_up_n _ _ _ _ _ _ (Or.inr (by decide)), p_up_n _ _ _ _ _ _ (Or.inr (by decide)), p_up_n _ _ _ _ _ _ (Or.inr (by decide)), p_up_s]
  · rw [p_up_n _ _ _ _ _ _ (Or.inr (by decide)), p_up_n _ _ _ _ _ _ (Or.inr (by decide)), p_up_s]
  · rw [p_up_n _ _ _ _ _ _ (Or.inr (by decide)), p_up_s]
  · rw [p_up_s]
theorem c_pin_len (K V : Nat → Int) : ∀ (m : Nat) {ps : List (Nat × Int)} {i : Nat} {w : List (Nat × Int) × Nat}, c_pin K V m ps i = .inr w → ps.length ≤ 12 → w.1.length ≤ 12 ∧ ps.length < w.1.length
  | 0, _, _, _, h, _ => by cases h
  | m + 1, ps, i, w, h, hl => by
    unfold c_pin at h
    split at h
    · split at h
      · rename_i c2
        split at h
        · cases h
        · split at h
          · have := c_pin_len K V m h (by rw [List.length_append, List.length_singleton]; omega)
            rw [List.length_append, List.length_singleton] at this
            omega
          · split at h
            · cases h
              rw [List.length_append, List.length_singleton]; omega
            · cases h
      · cases h
    · cases h
theorem c_chp_rg (T : cT K Z) {M n i : Nat} (hi : i ≤ Z) (hM : Z < M) : match c_chp K V M n i with
      | .inl e => e.2 ≤ Z ∧ (e.1 = 1 ∨ e.1 = 2)
      | .inr q => i < q.2 ∧ q.2 ≤ Z := by
  have sx : ∀ j, j ≤ Z → (csx K j).2 ≤ Z ∧ ((csx K j).1 = 1 ∨ (csx K j).1 = 2) := fun j hj => ⟨hj, (csx_rg j).2⟩
  unfold c_chp
  by_cases c1 : cWd K V 0 i
  · have l1 := T.lt hi (by rw [c1.1]; omega)
    rw [if_pos c1]
    by_cases c2 : K (i + 1) = 2
    · have l2 := T.lt (i := i + 1) (by omega) (by rw [c2]; omega)
      rw [if_pos c2]
      by_cases c3 : n < 16
      · rw [if_pos c3]
        by_cases c4 : cSg K V 123 (i + 2)
        · have l3 := T.lt (i := i + 2) (by omega) (by rw [c4.1]; omega)
          rw [if_pos c4]
          by_cases c5 : cWd K V 1 (i + 3)
          · have l4 := T.lt (i := i + 3) (by omega) (by rw [c5.1]; omega)
            rw [if_pos c5]
            have q1 := c_pin_rg (V := V) T M (ps := []) (i := i + 4) (by omega) (by omega)
            cases h1 : c_pin K V M [] (i + 4) with
            | inl e => rw [h1] at q1; exact q1
            | inr w =>
              rw [h1] at q1
              dsimp only at q1 ⊢
              by_cases c6 : cWd K V 2 w.2
              · have l5 := T.lt q1.2 (by rw [c6.1]; omega)
                rw [if_pos c6]
                have q2 := c_pin_rg (V := V) T M (ps := w.1) (i := w.2 + 1) (by omega) (by omega)
                cases h2 : c_pin K V M w.1 (w.2 + 1) with
                | inl e => rw [h2] at q2; exact q2
                | inr u =>
                  rw [h2] at q2
                  dsimp only at q2 ⊢
                  by_cases c7 : cWd K V 3 u.2
                  · have l6 := T.lt q2.2 (by rw [c7.1]; omega)
                    rw [if_pos c7]
                    by_cases c8 : cSg K V 58 (u.2 + 1)
                    · have l7 := T.lt (i := u.2 + 1) (by omega) (by rw [c8.1]; omega)
                      rw [if_pos c8]
                      have q3 := c_pts_rg (V := V) T hM M (ch := (i + 1, u.1, w.1.length, [], [])) (i := u.2 + 2) (by omega) (by omega)
                      cases h3 : c_pts K V M M (i + 1, u.1, w.1.length, [], []) (u.2 + 2) with
                      | inl e => rw [h3] at q3; exact q3
                      | inr v => rw [h3] at q3; dsimp only at q3 ⊢; omega
                    · rw [if_neg c8]; exact sx _ (by omega)
                  · rw [if_neg c7]; exact sx _ (by omega)
              · rw [if_neg c6]; exact sx _ (by omega)
          · rw [if_neg c5]; exact sx _ (by omega)
        · rw [if_neg c4]; exact sx _ (by omega)
      · rw [if_neg c3]; exact ⟨by dsimp only; omega, Or.inr rfl⟩
    · rw [if_neg c2]; exact sx _ (by omega)
  · rw [if_neg c1]; exact sx _ hi
theorem kx_chip {c M : Nat} (hc16 : c ≤ 16) (hM : Z < M) (hb : 83 ≤ b) (hbe : c < 16 → b = 83 + 7 * c) (N : kN K V P Z i h) (f : kf b g h) (hc : h 36 6 = (c : Int)) : match c_chp K V M c i with
      | .inl e => ∃ h', am_D (d + 7) 4 14 [am_r (am_a 36)] (zS L, h) = kT L h' ∧ kB P b g e h'
      | .inr w => (stkx K w.2 ∧ ∃ h', am_D (d + 7) 4 14 [am_r (am_a 36)] (zS L, h) = kT L h' ∧ kB P b g (csx K w.2) h') ∨ ∃ h1, am_D (d + 7) 4 14 [am_r (am_a 36)] (zS L, h) = pV L (am_up h1 36 6 ((c : Int) + 1)) ∧ kN K V P Z w.2 h1 ∧ kf b g h1 ∧ kCd V P b w.1 h1 := by
  have hz := N.2.2.1
  have g6 : g 36 6 = (c : Int) := by rw [← f.2 6 (by decide)]; exact hc
  rw [D_4_14]
  unfold c_chp
  rcases kx_word (d := d + 2) (L := L) N f 0 with ⟨z, h', r1, r2⟩ | ⟨z, ⟨s, h', r1, r2⟩ | ⟨h1, e1, r1, N1, f1⟩⟩
  · rw [if_neg z]
    exact ⟨h', by rw [r1, kT_V], r2⟩
  · rw [if_pos z, if_neg s.k.2.2.1]
    exact ⟨h', by rw [r1, kT_V], r2⟩
  rw [if_pos z, r1, p_xV, kx_kind (d := d + 5) N1, p_xI]
  by_cases c1 : K (i + 1) = 2
  · rw [if_pos c1, if_pos c1]
    rcases kx_need (d := d + 3) (L := L) N1 f1 1 with ⟨y, -⟩ | ⟨-, r2⟩
    · omega
    have hc1 : h1 36 6 = (c : Int) := by rw [f1.2 6 (by decide)]; exact g6
    rw [r2, p_xV, hc1]
    by_cases c2 : c < 16
    · have hbe := hbe c2
      have C : CB L b := by rw [hbe]; exact CB_c L c c2
      rw [if_pos c2, if_pos (show (c : Int) < 16 by omega), q_4_14_4, kx_here (d := d + 5) N1, p_xI]
      rcases kx_check (d := d + 4) (L := L) (P := P) f1 1 2 (i + 1) with ⟨y, -⟩ | ⟨-, r3⟩
      · omega
      rw [r3, p_xV, hc1, p_idx (by omega) (by omega), Int.toNat_natCast, kx_val (d := d + 5) N1, p_xI, CHS_at c c2, ← hbe, C.ob, N1.2.1]
      obtain ⟨H, r4, eC, b0, b1, b2, b3, b4, b5⟩ := kx_begin (d := d + 5) (L := L) (h := h1) C hb (V (i + 1)) ((i + 1 : Nat) : Int)
      have fH : kf b g H := ⟨fun c' k hc' h36 => by rw [eC c' (by omega)]; exact f1.1 c' k hc' h36, fun k k1 => by rw [eC 36 (by omega)]; exact f1.2 k k1⟩
      have NH : kN K V P Z (i + 1) H := ⟨N1.1.fr (eC 78 (by omega)) (eC 79 (by omega)) (eC 80 (by omega)), by rw [eC 36 (by omega)]; exact N1.2.1, N1.2.2⟩
      have GH : kCh V b (i + 1, [], 0, [], []) H := ⟨⟨b0, b1⟩, ⟨b2, Nat.zero_le _⟩, b3, ⟨b4, Nat.zero_le _⟩, ⟨b5, Nat.zero_le _⟩, fun k p hp => (by cases hp), fun k q hq => (by cases hq), fun k t ht => (by cases ht)⟩
      rw [r4, p_xV]
      rcases kx_next (d := d + 4) (L := L) NH fH (by rw [c1]; omega) with ⟨s, h', r5, r6⟩ | ⟨h2, e2, r5, N2, f2⟩
      · rw [if_neg (s.sg 123)]
        exact ⟨h', by rw [r5, kT_V], r6⟩
      have G2 : kCh V b (i + 1, [], 0, [], []) h2 := by rw [e2]; exact GH.at36 (by omega) _ _
      rw [r5, p_xV]
      rcases kx_sign (d := d + 2) (L := L) N2 f2 123 with ⟨z3, h', r6, r7⟩ | ⟨z3, ⟨s, h', r6, r7⟩ | ⟨h3, e3, r6, N3, f3⟩⟩
      · rw [if_neg z3]
        exact ⟨h', by rw [r6, kT_V], r7⟩
      · rw [if_pos z3, if_neg (s.wd 1)]
        exact ⟨h', by rw [r6, kT_V], r7⟩
      have G3 : kCh V b (i + 1, [], 0, [], []) h3 := by rw [e3]; exact G2.at36 (by omega) _ _
      rw [if_pos z3, r6, p_xV]
      rcases kx_word (d := d + 2) (L := L) N3 f3 1 with ⟨z4, h', r7, r8⟩ | ⟨z4, ⟨s, h', r7, r8⟩ | ⟨h4, e4, r7, N4, f4⟩⟩
      · rw [if_neg z4]
        exact ⟨h', by rw [r7, kT_V], r8⟩
      · obtain ⟨M', rfl⟩ : ∃ M', M = M' + 1 := ⟨M - 1, by omega⟩
        rw [if_pos z4, c_pin_s s]
        exact ⟨h', by rw [r7, kT_V], r8⟩
      have G4 : kCh V b (i + 1, [], 0, [], []) h4 := by rw [e4]; exact G3.at36 (by omega) _ _
      rw [if_pos z4, r7, p_xV, D_4_15]
      have kp := kx_pins (d := d) (L := L) C hb M N4 f4 G4 (by omega)
      have rp := c_pin_rg (V := V) N.1.1 M (ps := []) (i := i + 4) N4.2.2.1 (by omega)
      cases hp : c_pin K V M [] (i + 4) with
      | inl e =>
        have kp : (match c_pin K V M [] (i + 4) with | .inl e => _ | .inr w => _) := kp
        rw [hp] at kp
        obtain ⟨h', r9, r10⟩ := kp
        exact ⟨h', by rw [r9, kT_V], r10⟩
      | inr w =>
        have kp : (match c_pin K V M [] (i + 4) with | .inl e => _ | .inr w => _) := kp
        rw [hp] at kp rp
        dsimp only at kp rp ⊢
        have l12 := (c_pin_len K V M hp (by decide)).1
        rcases kp with ⟨s, h', r9, r10⟩ | ⟨h5, r9, N5, f5, G5⟩
        · rw [if_neg (s.wd 2)]
          exact ⟨h', by rw [r9, kT_V], r10⟩
        rw [r9, p_xV, C.ob, C.ob]
        obtain ⟨⟨q0, q1⟩, ⟨q2, q2'⟩, q3, q4, q5, q6, q7, q8⟩ := G5
        rw [q2]
        obtain ⟨H6, hH6⟩ : ∃ H6, H6 = am_up h5 b 3 (w.1.length : Int) := ⟨_, rfl⟩
        dsimp only
        rw [← hH6]
        have eC6 : ∀ c', c' ≠ b → H6 c' = h5 c' := fun c' hc' => by rw [hH6, p_up_c _ _ _ _ _ hc']
        have f6 : kf b g H6 := by rw [hH6]; exact f5.upc (by omega) (by omega)
        have N6 : kN K V P Z w.2 H6 := ⟨N5.1.fr (eC6 78 (by omega)) (eC6 79 (by omega)) (eC6 80 (by omega)), by rw [eC6 36 (by omega)]; exact N5.2.1, N5.2.2⟩
        have G6 : kCh V b (i + 1, w.1, w.1.length, [], []) H6 := by
          have eb : ∀ k, k ≠ 3 → H6 b k = h5 b k := fun k hk => by rw [hH6, p_up_n _ _ _ _ _ _ (Or.inr hk)]
          unfold kCh
          dsimp only
          rw [eb 0 (by decide), eb 1 (by decide), eb 2 (by decide), eb 4 (by decide), eb 5 (by decide), eC6 (b + 1) (by omega), eC6 (b + 2) (by omega)]
          exact ⟨⟨q0, q1⟩, ⟨q2, q2'⟩, by rw [hH6, p_up_s], q4, q5, q6, fun k q hq => (by cases hq), fun k t ht => (by cases ht)⟩
        rcases kx_word (d := d + 2) (L := L) N6 f6 2 with ⟨z5, h', r10, r11⟩ | ⟨z5, ⟨s, h', r10, r11⟩ | ⟨h7, e7, r10, N7, f7⟩⟩
        · rw [if_neg z5]
          exact ⟨h', by rw [r10, kT_V], r11⟩
        · obtain ⟨M', rfl⟩ : ∃ M', M = M' + 1 := ⟨M - 1, by omega⟩
          rw [if_pos z5, c_pin_s s]
          exact ⟨h', by rw [r10, kT_V], r11⟩
        have G7 : kCh V b (i + 1, w.1, w.1.length, [], []) h7 := by rw [e7]; exact G6.at36 (by omega) _ _
        rw [if_pos z5, r10, p_xV, D_4_15]
        have kp2 := kx_pins (d := d) (L := L) C hb M N7 f7 G7 (by omega)
        have rp2 := c_pin_rg (V := V) N.1.1 M (ps := w.1) (i := w.2 + 1) N7.2.2.1 (by omega)
        cases hp2 : c_pin K V M w.1 (w.2 + 1) with
        | inl e =>
          rw [hp2] at kp2
          obtain ⟨h', r12, r13⟩ := kp2
          exact ⟨h', by rw [r12, kT_V], r13⟩
        | inr u =>
          rw [hp2] at kp2 rp2
          dsimp only at kp2 rp2 ⊢
          rcases kp2 with ⟨s, h', r12, r13⟩ | ⟨h8, r12, N8, f8, G8⟩
          · rw [if_neg (s.wd 3)]
            exact ⟨h', by rw [r12, kT_V], r13⟩
          rw [r12, p_xV]
          rcases kx_word (d := d + 2) (L := L) N8 f8 3 with ⟨z6, h', r13, r14⟩ | ⟨z6, ⟨s, h', r13, r14⟩ | ⟨h9, e9, r13, N9, f9⟩⟩
          · rw [if_neg z6]
            exact ⟨h', by rw [r13, kT_V], r14⟩
          · rw [if_pos z6, if_neg (s.sg 58)]
            exact ⟨h', by rw [r13, kT_V], r14⟩
          rw [if_pos z6, r13, p_xV]
          rcases kx_sign (d := d + 2) (L := L) N9 f9 58 with ⟨z7, h', r14, r15⟩ | ⟨z7, ⟨s, h', r14, r15⟩ | ⟨h10, e10, r14, N10, f10⟩⟩
          · rw [if_neg z7]
            exact ⟨h', by rw [r14, kT_V], r15⟩
          · obtain ⟨M', rfl⟩ : ∃ M', M = M' + 1 := ⟨M - 1, by omega⟩
            rw [if_pos z7, c_pts_s s]
            exact ⟨h', by rw [r14, kT_V], r15⟩
          have G10 : kCh V b (i + 1, u.1, w.1.length, [], []) h10 := by rw [e10, e9]; exact (G8.at36 (by omega) _ _).at36 (by omega) _ _
          rw [if_pos z7, r14, p_xV]
          have kq := kx_parts (d := d) (L := L) (ch := (i + 1, u.1, w.1.length, [], [])) C hb hM (by have := N1.2.2.1; exact this) M rfl N10 f10 G10 (by omega)
          cases hq : c_pts K V M M (i + 1, u.1, w.1.length, [], []) (u.2 + 2) with
          | inl e =>
            have kq : (match c_pts K V M M (i + 1, u.1, w.1.length, [], []) (u.2 + 2) with | .inl e => _ | .inr w => _) := kq
            rw [hq] at kq
            exact kq
          | inr v =>
            have kq : (match c_pts K V M M (i + 1, u.1, w.1.length, [], []) (u.2 + 2) with | .inl e => _ | .inr w => _) := kq
            rw [hq] at kq
            dsimp only at kq ⊢
            rcases kq with y | ⟨h11, r16, N11, f11, G11⟩
            · exact Or.inl y
            · rw [g6, p_w (by omega) (by omega)] at r16
              exact Or.inr ⟨h11, r16, N11, f11, G11⟩
    · rw [if_neg c2, if_neg (show ¬ (c : Int) < 16 by omega), q_4_14_4, kx_here (d := d + 5) N1, p_xI]
      rcases kx_check (d := d + 4) (L := L) (P := P) f1 0 2 (i + 1) with ⟨-, h', r3, r4⟩ | ⟨y, -⟩
      · exact ⟨h', by rw [r3, kT_V], r4⟩
      · omega
  · rw [if_neg c1, if_neg c1]
    rcases kx_need (d := d + 3) (L := L) N1 f1 0 with ⟨-, h', r2, r3⟩ | ⟨y, -⟩
    · exact ⟨h', by rw [r2, kT_V], r3⟩
    · omega
/-- what the reading of chips changes -/
def kfa (h h' : am_H) : Prop := (∀ c k, (c < 83 ∨ 194 < c) → c ≠ 36 → h' c k = h c k) ∧ ∀ k, k ≠ 5 → k ≠ 6 → k ≠ 7 → k ≠ 8 → h' 36 k = h 36 k
theorem kfa.refl (h : am_H) : kfa h h := ⟨fun _ _ _ _ => rfl, fun _ _ _ _ _ => rfl⟩
theorem kfa.trans {h1 h2 h3 : am_H} (f : kfa h1 h2) (g : kfa h2 h3) : kfa h1 h3 := ⟨fun c k hc h36 => (g.1 c k hc h36).trans (f.1 c k hc h36), fun k k1 k2 k3 k4 => (g.2 k k1 k2 k3 k4).trans (f.2 k k1 k2 k3 k4)⟩
theorem kg.all {b : Nat} {h h' : am_H} (f : kg b h h') (hb : 83 ≤ b) (hb2 : b ≤ 188) : kfa h h' := ⟨fun c' k hc' h36 => f.1 c' k (by omega) h36, fun k k1 k2 k3 k4 => f.2 k k1 k3 k4⟩
/-- as long as nothing is wrong -/
def kfs (h h' : am_H) : Prop := (∀ c k, (c < 83 ∨ 194 < c) → c ≠ 36 → h' c k = h c k) ∧ ∀ k, k ≠ 5 → k ≠ 6 → h' 36 k = h 36 k
theorem kfs.trans {h1 h2 h3 : am_H} (f : kfs h1 h2) (g : kfs h2 h3) : kfs h1 h3 := ⟨fun c k hc h36 => (g.1 c k hc h36).trans (f.1 c k hc h36), fun k k1 k2 => (g.2 k k1 k2).trans (f.2 k k1 k2)⟩
theorem kfs.a {h h' : am_H} (f : kfs h h') : kfa h h' := ⟨f.1, fun k k1 k2 _ _ => f.2 k k1 k2⟩
theorem kf.s {b : Nat} {h h' : am_H} (f : kf b h h') (hb : 83 ≤ b) (hb2 : b ≤ 188) : kfs h h' := ⟨fun c' k hc' h36 => f.1 c' k (by omega) h36, fun k k1 _ => f.2 k k1⟩
theorem kfs.up36 {h h' : am_H} (f : kfs h h') {k : Nat} {v : Int} (hk : k = 5 ∨ k = 6) : kfs h (am_up h' 36 k v) := ⟨fun c' k' h1 h2 => by rw [p_up_c _ _ _ _ _ h2]; exact f.1 c' k' h1 h2, fun k' k1 k2 => by rw [p_up_n _ _ _ _ _ _ (Or.inr (by omega))]; exact f.2 k' k1 k2⟩
theorem kfa.up36 {h h' : am_H} (f : kfa h h') {k : Nat} {v : Int} (hk : k = 5 ∨ k = 6 ∨ k = 7 ∨ k = 8) : kfa h (am_up h' 36 k v) := ⟨fun c' k' h1 h2 => by rw [p_up_c _ _ _ _ _ h2]; exact f.1 c' k' h1 h2, fun k' k1 k2 k3 k4 => by rw [p_up_n _ _ _ _ _ _ (Or.inr (by omega))]; exact f.2 k' k1 k2 k3 k4⟩
/-- chips that have been read -/
def kCs (V P : Nat → Int) (chs : List cCh) (h : am_H) : Prop := h 36 6 = (chs.length : Int) ∧ chs.length ≤ 16 ∧ ∀ c ch, chs[c]? = some ch → kCd V P (83 + 7 * c) ch h
theorem kx_chips {M : Nat} (hM : Z < M) {u1 u2 : Option am_V} : ∀ (m : Nat) {i : Nat} {acc : List cCh} {h : am_H}, kN K V P Z i h → kCs V P acc h → Z < i + m → match c_chs K V M m acc i with
      | .inl e => ∃ h', am_E (am_D (d + 7)) m_4_13 (.inl 1) [some (am_r (am_a 36)), u1, u2] [] (zS L, h) = pI L e.1 h' ∧ h' 36 8 = P e.2 ∧ h' 36 6 = 0 ∧ kfa h h'
      | .inr chs => ∃ h', am_E (am_D (d + 7)) m_4_13 (.inl 1) [some (am_r (am_a 36)), u1, u2] [] (zS L, h) = am_E (am_D (d + 7)) m_4_13 (.inl 2) [some (am_r (am_a 36)), u1, some (am_i 0)] [] (zS L, h') ∧ kR K V P Z h' ∧ kCs V P chs h' ∧ kfs h h'
  | 0, i, acc, h, N, S, hm => by have := N.2.2.1; omega
  | m + 1, i, acc, h, N, S, hm => by
    have hz := N.2.2.1
    obtain ⟨b, hb, hb2, hbe⟩ : ∃ b, 83 ≤ b ∧ b ≤ 188 ∧ (acc.length < 16 → b = 83 + 7 * acc.length) := by
      by_cases y : acc.length < 16
      · exact ⟨83 + 7 * acc.length, by omega, by omega, fun _ => rfl⟩
      · exact ⟨83, by omega, by omega, fun z => absurd z y⟩
    have kc := kx_chip (d := d) (L := L) (g := h) (c := acc.length) (M := M) S.2.1 hM hb hbe N (kf.refl _ h) S.1
    -- what is thrown is caught
    have catch_ : ∀ {e : cF} {h' : am_H}, am_D (d + 7) 4 14 [am_r (am_a 36)] (zS L, h) = kT L h' → kB P b h e h' → ∃ h'', am_E (am_D (d + 7)) m_4_13 (.inl 1) [some (am_r (am_a 36)), u1, u2] [] (zS L, h) = pI L e.1 h'' ∧ h'' 36 8 = P e.2 ∧ h'' 36 6 = 0 ∧ kfa h h'' := by
      intro e h' r1 ⟨b1, b2, b3⟩
      refine ⟨am_up h' 36 6 0, ?_, ?_, p_up_s _ _ _ _, ?_⟩
      · rw [q_4_13_1, r1, p_xVt, p_obj (show (zS L)[52]? = some (0, 20, []) from rfl), q_4_13_8, b1]
      · rw [p_up_n _ _ _ _ _ _ (Or.inr (by decide))]; exact b2
      · exact (b3.all hb hb2).up36 (by omega)
    unfold c_chs
    have rc : ∀ w, c_chp K V M acc.length i = .inr w → i < w.2 ∧ w.2 ≤ Z := fun w hw => by
      have := c_chp_rg (V := V) N.1.1 (M := M) (n := acc.length) hz hM
      rw [hw] at this; exact this
    cases hc : c_chp K V M acc.length i with
    | inl e =>
      rw [hc] at kc
      obtain ⟨h', r1, r2⟩ := kc
      exact catch_ r1 r2
    | inr w =>
      rw [hc] at kc
      dsimp only at kc ⊢
      obtain ⟨w1, w2⟩ := rc w hc
      rcases kc with ⟨s, h', r1, r2⟩ | ⟨h1, r1, N1, f1, G1⟩
      · obtain ⟨m', rfl⟩ : ∃ m', m = m' + 1 := ⟨m - 1, by omega⟩
        rw [if_neg s.k.1]
        unfold c_chs
        rw [c_chp_s s]
        exact catch_ r1 r2
      · have hl : acc.length < 16 := by
          unfold c_chp at hc
          split at hc
          · split at hc
            · split at hc
              · assumption
              · cases hc
            · cases hc
          · cases hc
        have hbe := hbe hl
        have F1 : kfs h (am_up h1 36 6 ((acc.length : Int) + 1)) := (f1.s hb hb2).up36 (by omega)
        have N2 : kN K V P Z w.2 (am_up h1 36 6 ((acc.length : Int) + 1)) := ⟨N1.1.fr (p_up_c _ _ _ _ _ (by decide)) (p_up_c _ _ _ _ _ (by decide)) (p_up_c _ _ _ _ _ (by decide)), by rw [p_up_n _ _ _ _ _ _ (Or.inr (by decide))]; exact N1.2.1, N1.2.2⟩
        have S2 : kCs V P (acc ++ [w.1]) (am_up h1 36 6 ((acc.length : Int) + 1)) := by
          refine ⟨by rw [p_up_s, List.length_append, List.length_singleton]; omega, by rw [List.length_append, List.length_singleton]; omega, fun c ch hch => ?_⟩
          by_cases y : c < acc.length
          · rw [List.getElem?_append_left y] at hch
            exact (S.2.2 c ch hch).fr (fun c' h1' h2' => by rw [p_up_c _ _ _ _ _ (by omega)]; exact f1.cell (by omega) (by omega))
          · have : c = acc.length := by
              have := (List.getElem?_eq_some_iff.1 hch).1
              rw [List.length_append, List.length_singleton] at this; omega
            subst this
            rw [List.getElem?_append_right (Nat.le_refl _), Nat.sub_self] at hch
            cases hch
            rw [hbe] at G1
            exact G1.fr (fun c' h1' h2' => p_up_c _ _ _ _ _ (by omega))
        rw [q_4_13_1, r1, p_xV, kx_kind (d := d + 6) N2, p_xI]
        by_cases z : K w.2 = 0
        · rw [if_pos z, if_pos z]
          exact ⟨_, rfl, N2.1, S2, F1⟩
        · rw [if_neg z, if_neg z]
          have ih := kx_chips hM (u1 := u1) (u2 := u2) m N2 S2 (by omega)
          cases hr : c_chs K V M m (acc ++ [w.1]) w.2 with
          | inl e =>
            rw [hr] at ih
            obtain ⟨h', r2, r3, r4, r5⟩ := ih
            exact ⟨h', r2, r3, r4, F1.a.trans r5⟩
          | inr chs =>
            rw [hr] at ih
            obtain ⟨h', r2, r3, r4, r5⟩ := ih
            exact ⟨h', r2, r3, r4, F1.trans r5⟩
end
