/-! CHIPS, 16: the model's chips -/
/-- a chip's pins as the model has them -/
def cpM (ch : cCh) : List (Nat × Int × Bool) := (ch.2.1.take ch.2.2.1).map (fun p => (p.1, p.2, false)) ++ (ch.2.1.drop ch.2.2.1).map (fun p => (p.1, p.2, true))
def fF (F : fM) (ch : cCh) : fM := (F.1 ++ [(ch.1, F.2.1.length, F.2.2.1.length, F.2.2.2.2.length)], F.2.1 ++ cpM ch, F.2.2.1 ++ flt F.2.2.2.1.length ch.2.2.2.1, F.2.2.2.1 ++ fll ch.2.2.2.1, F.2.2.2.2 ++ ch.2.2.2.2)
def fFs (l : List cCh) : fM := l.foldl fF ([], [], [], [], [])
theorem fFs_app (l : List cCh) (c : cCh) : fFs (l ++ [c]) = fF (fFs l) c := by unfold fFs; rw [List.foldl_append]; rfl
theorem fFs_len : ∀ (l : List cCh) (F : fM), (l.foldl fF F).1.length = F.1.length + l.length
  | [], F => rfl
  | c :: l, F => by
    rw [List.foldl_cons, fFs_len l, List.length_cons]
    unfold fF
    dsimp only
    rw [List.length_append, List.length_singleton]; omega
/-- the ends of rows -/
def fE (F : fM) (h : am_H) : Prop := h 329 F.1.length = (F.2.1.length : Int) ∧ h 334 F.1.length = (F.2.2.1.length : Int) ∧ h 345 F.1.length = (F.2.2.2.2.length : Int) ∧ h 336 F.2.2.1.length = (F.2.2.2.1.length : Int)
section
variable {d L : Nat} {K V P : Nat → Int} {W : Nat → List Int} {Z i : Nat} {g h : am_H}
theorem mx_parts {F : fM} {tok n M : Nat} {ps : List (Nat × Int × Bool)} (hM : Z < M) : ∀ (m : Nat) {i : Nat} {pp : List (Nat × List cLk)} {I : List Nat} {h : am_H}, mcJ K V P W Z i g F tok ps pp I h → Z < i + m → match c_pts K V M m (tok, ps.map (fun p => (p.1, p.2.1)), n, pp, I) i with
      | .inl e => ∃ h', am_E (am_D (d + 6)) m_17_155 (.inl 7) [some (am_r (am_a 254))] [] (zS L, h) = pV L h' ∧ mcB P g e h'
      | .inr w => ∃ h1, am_E (am_D (d + 6)) m_17_155 (.inl 7) [some (am_r (am_a 254))] [] (zS L, h) = pV L h1 ∧ mcJ K V P W Z w.2 g F tok ps w.1.2.2.2.1 w.1.2.2.2.2 h1 ∧ w.1.1 = tok ∧ w.1.2.1 = ps.map (fun p => (p.1, p.2.1)) ∧ w.1.2.2.1 = n
  | 0, i, pp, I, h, S, hm => by have := S.1.1.2.2.1; omega
  | m + 1, i, pp, I, h, S, hm => by
    have N := S.1.1
    have R := S.1.2.1
    rw [q_17_155_7, N.2.2.2.1, if_pos rfl, mx_isSign (d := d + 5) N 125 (by decide) (by decide), p_xI]
    unfold c_pts
    by_cases c : cSg K V 125 i
    · rw [if_pos c, pB_t c, if_neg (show ¬ (1 : Int) = 0 by decide)]
      rcases mx_needSign (d := d + 3) (L := L) N R.lim 125 (by decide) (by decide) with ⟨z, -⟩ | ⟨z, r3, N3⟩
      · exact absurd c z
      · rw [r3, p_xV]
        obtain ⟨⟨s1, s2, s3, s4, s5, s6, s7, s8⟩, s9, s10⟩ := S
        exact ⟨_, rfl, ⟨⟨N3, s2.fr ((p_fr.refl _).upf _ _ _ rfl), s3, s4, s5, s6, by dsimp only; omega, s8⟩, s9, s10⟩, rfl, rfl, rfl⟩
    · rw [if_neg c, pB_f c, if_pos rfl]
      have mp := mx_part (d := d) (L := L) S n (m := M) (by omega)
      have rp := c_prt_rg (V := V) N.1.1 (m := M) (ch := (tok, ps.map (fun p => (p.1, p.2.1)), n, pp, I)) N.2.2.1 (by omega)
      cases hc : c_prt K V M (tok, ps.map (fun p => (p.1, p.2.1)), n, pp, I) i with
      | inl e =>
        rw [hc] at mp
        obtain ⟨h', r1, b1⟩ := mp
        refine ⟨h', ?_, b1⟩
        rw [r1, p_xV, q_17_155_7, if_neg (by have := b1.pos; omega), mz_needSign (d := d + 3) b1, p_xV]
      | inr w =>
        rw [hc] at mp rp
        obtain ⟨h1, r1, S1, e1, e2, e3⟩ := mp
        dsimp only at rp ⊢
        obtain ⟨⟨w1, w2, w3, w4, w5⟩, w6⟩ := w
        dsimp only at S1 e1 e2 e3 rp ⊢
        subst e1 e2 e3
        rw [r1, p_xV]
        exact mx_parts hM m S1 (by omega)
/-- one more chip -/
theorem fR.chp {F : fM} {t : Nat} (R : fR V F h) (hb : F.1.length < 16) : fR V (F.1 ++ [(t, F.2.1.length, F.2.2.1.length, F.2.2.2.2.length)], F.2.1, F.2.2.1, F.2.2.2.1, F.2.2.2.2) (am_up (am_up (am_up (am_up (am_up h 328 F.1.length (t : Int)) 329 F.1.length (F.2.1.length : Int)) 334 F.1.length (F.2.2.1.length : Int)) 345 F.1.length (F.2.2.2.2.length : Int)) 254 122 ((F.1.length : Int) + 1)) := by
  have R1 := (((R.upx (c := 328) (k := F.1.length) (v := (t : Int)) (Or.inl ⟨by decide, Nat.le_refl _⟩)).upx (c := 329) (k := F.1.length) (v := (F.2.1.length : Int)) (Or.inl ⟨by decide, Nat.le_refl _⟩)).upx (c := 334) (k := F.1.length) (v := (F.2.2.1.length : Int)) (Or.inl ⟨by decide, Nat.le_refl _⟩)).upx (c := 345) (k := F.1.length) (v := (F.2.2.2.2.length : Int)) (Or.inl ⟨by decide, Nat.le_refl _⟩)
  obtain ⟨H, hH⟩ : ∃ H, H = am_up (am_up (am_up (am_up h 328 F.1.length (t : Int)) 329 F.1.length (F.2.1.length : Int)) 334 F.1.length (F.2.2.1.length : Int)) 345 F.1.length (F.2.2.2.2.length : Int) := ⟨_, rfl⟩
  rw [← hH] at R1 ⊢
  have v : H 328 F.1.length = (t : Int) ∧ H 329 F.1.length = (F.2.1.length : Int) ∧ H 334 F.1.length = (F.2.2.1.length : Int) ∧ H 345 F.1.length = (F.2.2.2.2.length : Int) := by
    rw [hH]
    refine ⟨?_, ?_, ?_, p_up_s _ _ _ _⟩
    · rw [p_up_c _ _ _ _ _ (by decide), p_up_c _ _ _ _ _ (by decide), p_up_c _ _ _ _ _ (by decide), p_up_s]
    · rw [p_up_c _ _ _ _ _ (by decide), p_up_c _ _ _ _ _ (by decide), p_up_s]
    · rw [p_up_c _ _ _ _ _ (by decide), p_up_s]
  obtain ⟨⟨a, b, c, d, e⟩, r1, r2, r3, r4, r5⟩ := R1
  have nc : ∀ c', c' ≠ 254 → am_up H 254 122 ((F.1.length : Int) + 1) c' = H c' := fun c' z => p_up_c _ _ _ _ _ z
  refine ⟨⟨⟨?_, ?_⟩, ?_, ?_, ?_, ?_⟩, fun k x hx => ?_, ?_, ?_, ?_, ?_⟩
  · rw [p_up_s]; dsimp only; rw [List.length_append, List.length_singleton]; omega
  · dsimp only; rw [List.length_append, List.length_singleton]; omega
  · rw [p_up_n _ _ _ _ _ _ (Or.inr (by decide))]; exact b
  · rw [p_up_n _ _ _ _ _ _ (Or.inr (by decide))]; exact c
  · rw [p_up_n _ _ _ _ _ _ (Or.inr (by decide))]; exact d
  · rw [p_up_n _ _ _ _ _ _ (Or.inr (by decide))]; exact e
  · rw [nc 328 (by decide), nc 329 (by decide), nc 334 (by decide), nc 345 (by decide)]
    dsimp only at hx
    by_cases y : k < F.1.length
    · rw [List.getElem?_append_left y] at hx
      exact r1 k x hx
    · have : k = F.1.length := by
        have := (List.getElem?_eq_some_iff.1 hx).1
        rw [List.length_append, List.length_singleton] at this; omega
      subst this
      rw [List.getElem?_append_right (Nat.le_refl _), Nat.sub_self] at hx
      cases hx
      exact v
  · rw [nc 331 (by decide), nc 333 (by decide), nc 330 (by decide), nc 332 (by decide)]; exact r2
  · rw [nc 335 (by decide), nc 336 (by decide)]; exact r3
  · unfold fRl
    rw [nc 337 (by decide), nc 338 (by decide), nc 339 (by decide), nc 340 (by decide), nc 341 (by decide), nc 342 (by decide), nc 343 (by decide), nc 344 (by decide)]; exact r4
  · rw [nc 346 (by decide)]; exact r5
/-- between chips -/
def mcH (K V P : Nat → Int) (W : Nat → List Int) (Z i : Nat) (g : am_H) (F : fM) (h : am_H) : Prop := mcN K V P W Z i g h ∧ fR V F h ∧ F.2.1.length ≤ 12 * F.1.length ∧ F.2.2.1.length ≤ 24 * F.1.length ∧ 4 * F.2.2.2.1.length ≤ i + 1 ∧ F.2.2.2.2.length ≤ F.2.2.2.1.length
theorem mx_chip7 {e : cF} (B : mcB P g e h) : am_E (am_D (d + 6)) m_17_155 (.inl 6) [some (am_r (am_a 254))] [] (zS L, h) = pV L h := by
  rw [q_17_155_6, mz_needSign (d := d + 3) B, p_xV, q_17_155_7, if_neg (by have := B.pos; omega), mz_needSign (d := d + 3) B, p_xV]
theorem mx_chip4 {e : cF} (B : mcB P g e h) : am_E (am_D (d + 6)) m_17_155 (.inl 4) [some (am_r (am_a 254))] [] (zS L, h) = pV L h := by
  rw [q_17_155_4, mz_needWord (d := d + 3) B, p_xV, if_neg (by have := B.pos; omega), mz_needWord (d := d + 3) B, p_xV]
  exact mx_chip7 B
theorem c_pin_app : ∀ (m : Nat) {ps : List (Nat × Int)} {i : Nat} {w : List (Nat × Int) × Nat}, c_pin K V m ps i = .inr w → ∃ qs, w.1 = ps ++ qs
  | 0, _, _, _, h => by cases h
  | m + 1, ps, i, w, h => by
    unfold c_pin at h
    split at h
    · split at h
      · split at h
        · cases h
        · split at h
          · obtain ⟨l, hl⟩ := c_pin_app m h
            exact ⟨_, by rw [hl, List.append_assoc]⟩
          · split at h
            · cases h; exact ⟨_, rfl⟩
            · cases h
      · cases h
    · cases h
theorem map_pr (qs : List (Nat × Int × Bool)) (b : Bool) (h : ∀ q ∈ qs, q.2.2 = b) : (qs.map fun p => (p.1, p.2.1)).map (fun p => (p.1, p.2, b)) = qs := by
  rw [List.map_map]
  refine (List.map_congr_left (g := id) fun q hq => ?_).trans (List.map_id _)
  obtain ⟨a, b', c⟩ := q
  have := h _ hq
  dsimp only at this
  subst this; rfl
theorem mx_chip {F : fM} {M : Nat} (hM : Z < M) (S : mcH K V P W Z i g F h) : match c_chp K V M F.1.length i with
      | .inl e => ∃ h', am_D (d + 7) 17 155 [am_r (am_a 254)] (zS L, h) = pV L h' ∧ mcB P g e h'
      | .inr w => ∃ h1, am_D (d + 7) 17 155 [am_r (am_a 254)] (zS L, h) = pV L h1 ∧ mcH K V P W Z w.2 g (fF F w.1) h1 := by
  obtain ⟨N, R, lp, lt, ll, li⟩ := S
  have ub := N.ub
  have z2 := N.1.1.1
  have cl : h 254 122 = (F.1.length : Int) := R.1.1.1
  have cl16 : F.1.length ≤ 16 := R.1.1.2
  rw [D_17_155]
  unfold c_chp
  have E2f : ∀ {e : cF} {h' : am_H}, mcB P g e h' → am_E (am_D (d + 6)) m_17_155 (.inl 2) [some (am_r (am_a 254))] [] (zS L, h') = pV L h' := fun {e h'} B => by rw [q_17_155_2, if_pos B.pos]
  rcases mx_needWord (d := d + 3) (L := L) N R.lim 0 with ⟨z, h', r1, b1, -⟩ | ⟨z, r1, N1⟩
  · rw [if_neg z]
    have := b1.pos
    refine ⟨h', ?_, b1⟩
    rw [r1, p_xV, if_neg (by omega), if_neg (by omega)]
    exact E2f b1
  rw [if_pos z, r1, p_xV]
  have R1 := R.fr (h' := am_up h 254 10 ((i + 1 : Nat) : Int)) ((p_fr.refl h).upf _ _ _ rfl)
  obtain ⟨h1, e1⟩ : ∃ h1, h1 = am_up h 254 10 ((i + 1 : Nat) : Int) := ⟨_, rfl⟩
  rw [← e1] at N1 R1 ⊢
  have ub1 := N1.ub
  obtain ⟨a1, a2, a3, a4, a5⟩ := N1.1.2.1 (i + 1) N1.2.2.1
  have kk := kmp_i a5
  rw [N1.2.2.2.1, if_pos rfl, N1.2.1, p_idx (by omega) (by omega), Int.toNat_natCast, a1]
  by_cases k1 : K (i + 1) = 2
  · rw [if_pos k1, if_pos (kk.2.1.2 k1), if_pos rfl, R1.1.1.1]
    rcases mx_room (d := d + 4) (L := L) N1 R1.lim (F.1.length : Int) 16 with ⟨y, r2⟩ | ⟨y, h', r2, b2⟩
    · rw [if_pos (show F.1.length < 16 by omega), r2, p_xV, q_17_155_2, N1.2.2.2.1, if_neg (show ¬ (0 : Int) < 0 by decide), R1.1.1.1, p_idx (by omega) (by omega), p_idx (by omega) (by omega), p_idx (by omega) (by omega), p_idx (by omega) (by omega), Int.toNat_natCast, N1.2.1, R1.1.2.1.1, R1.1.2.2.1.1, R1.1.2.2.2.2.1, p_w (x := (F.1.length : Int) + 1) (by omega) (by omega)]
      have R2 := R1.chp (t := i + 1) (by omega)
      obtain ⟨h2, e2⟩ : ∃ h2, h2 = am_up (am_up (am_up (am_up (am_up h1 328 F.1.length ((i + 1 : Nat) : Int)) 329 F.1.length (F.2.1.length : Int)) 334 F.1.length (F.2.2.1.length : Int)) 345 F.1.length (F.2.2.2.2.length : Int)) 254 122 ((F.1.length : Int) + 1) := ⟨_, rfl⟩
      rw [← e2] at R2 ⊢
      have N2 : mcN K V P W Z (i + 1) g h2 := by rw [e2]; exact ((((N1.up (Or.inl rfl) (by omega)).up (Or.inl rfl) (by omega)).up (Or.inl rfl) (by omega)).up (Or.inl rfl) (by omega)).up (Or.inr rfl) (by omega)
      obtain ⟨r3, N3⟩ := mx_go (d := d + 5) (L := L) N2 (by rw [k1]; omega)
      have R3 := R2.fr (h' := am_up h2 254 10 ((i + 1 + 1 : Nat) : Int)) ((p_fr.refl h2).upf _ _ _ rfl)
      rw [r3, p_xV]
      rcases mx_needSign (d := d + 3) (L := L) N3 R3.lim 123 (by decide) (by decide) with ⟨y4, h', r4, b4, -⟩ | ⟨y4, r4, N4⟩
      · rw [if_neg (show ¬ cSg K V 123 (i + 2) from y4)]
        refine ⟨h', ?_, b4⟩
        rw [r4, p_xV, mz_needWord (d := d + 3) b4, p_xV, if_neg (by have := b4.pos; omega)]
        exact mx_chip4 b4
      rw [if_pos (show cSg K V 123 (i + 2) from y4), r4, p_xV]
      have R4 := R3.fr (h' := am_up (am_up h2 254 10 ((i + 1 + 1 : Nat) : Int)) 254 10 ((i + 1 + 1 + 1 : Nat) : Int)) ((p_fr.refl _).upf _ _ _ rfl)
      rcases mx_needWord (d := d + 3) (L := L) N4 R4.lim 1 with ⟨y5, h', r5, b5, -⟩ | ⟨y5, r5, N5⟩
      · rw [if_neg (show ¬ cWd K V 1 (i + 3) from y5)]
        refine ⟨h', ?_, b5⟩
        rw [r5, p_xV, if_neg (by have := b5.pos; omega)]
        exact mx_chip4 b5
      rw [if_pos (show cWd K V 1 (i + 3) from y5), r5, p_xV]
      have R5 := R4.fr (h' := am_up (am_up (am_up h2 254 10 ((i + 1 + 1 : Nat) : Int)) 254 10 ((i + 1 + 1 + 1 : Nat) : Int)) 254 10 ((i + 1 + 1 + 1 + 1 : Nat) : Int)) ((p_fr.refl _).upf _ _ _ rfl)
      obtain ⟨h5, e5⟩ : ∃ h5, h5 = am_up (am_up (am_up h2 254 10 ((i + 1 + 1 : Nat) : Int)) 254 10 ((i + 1 + 1 + 1 : Nat) : Int)) 254 10 ((i + 1 + 1 + 1 + 1 : Nat) : Int) := ⟨_, rfl⟩
      rw [← e5] at N5 R5 ⊢
      rw [N5.2.2.2.1, if_pos rfl, D_17_149]
      have S5 : mcP K V P W Z (i + 4) g F (i + 1) [] h5 := ⟨N5, by rw [List.append_nil]; exact R5, fun _ hp => absurd hp List.not_mem_nil, Nat.zero_le _, lp⟩
      have m5 := mx_pins (d := d + 2) (L := L) (b := false) M none S5 (by omega)
      rw [List.map_nil, show (bI false) = 0 from rfl] at m5
      cases hc : c_pin K V M [] (i + 4) with
      | inl e =>
        rw [hc] at m5
        obtain ⟨h', r6, b6⟩ := m5
        refine ⟨h', ?_, b6⟩
        rw [r6, p_xV]
        exact mx_chip4 b6
      | inr w =>
        rw [hc] at m5
        obtain ⟨h6, qs, r6, S6, w6, hq6⟩ := m5
        rw [List.nil_append] at S6 w6
        dsimp only
        rw [r6, p_xV, q_17_155_4]
        have R6 := S6.2.1
        rcases mx_needWord (d := d + 3) (L := L) S6.1 R6.lim 2 with ⟨y7, h', r7, b7, -⟩ | ⟨y7, r7, N7⟩
        · rw [if_neg y7]
          refine ⟨h', ?_, b7⟩
          rw [r7, p_xV, if_neg (by have := b7.pos; omega), mz_needWord (d := d + 3) b7, p_xV]
          exact mx_chip7 b7
        rw [if_pos y7, r7, p_xV, N7.2.2.2.1, if_pos rfl, D_17_149]
        have R7 := R6.fr (h' := am_up h6 254 10 ((w.2 + 1 : Nat) : Int)) ((p_fr.refl _).upf _ _ _ rfl)
        have S7 : mcP K V P W Z (w.2 + 1) g F (i + 1) qs (am_up h6 254 10 ((w.2 + 1 : Nat) : Int)) := ⟨N7, R7, S6.2.2.1, S6.2.2.2.1, lp⟩
        have rp := c_pin_rg (V := V) N.1.1 M (ps := []) (i := i + 4) N5.2.2.1 (by omega)
        rw [hc] at rp
        dsimp only at rp
        have m7 := mx_pins (d := d + 2) (L := L) (b := true) M none S7 (by omega)
        rw [← w6, show (bI true) = 1 from rfl] at m7
        cases hc8 : c_pin K V M w.1 (w.2 + 1) with
        | inl e =>
          rw [hc8] at m7
          obtain ⟨h', r8, b8⟩ := m7
          refine ⟨h', ?_, b8⟩
          rw [r8, p_xV, mz_needWord (d := d + 3) b8, p_xV]
          exact mx_chip7 b8
        | inr u =>
          rw [hc8] at m7
          obtain ⟨h8, qs8, r8, S8, w8, hq8⟩ := m7
          dsimp only
          rw [r8, p_xV]
          have R8 := S8.2.1
          rcases mx_needWord (d := d + 3) (L := L) S8.1 R8.lim 3 with ⟨y9, h', r9, b9, -⟩ | ⟨y9, r9, N9⟩
          · rw [if_neg y9]
            refine ⟨h', ?_, b9⟩
            rw [r9, p_xV]
            exact mx_chip7 b9
          rw [if_pos y9, r9, p_xV, q_17_155_6]
          have R9 := R8.fr (h' := am_up h8 254 10 ((u.2 + 1 : Nat) : Int)) ((p_fr.refl _).upf _ _ _ rfl)
          rcases mx_needSign (d := d + 3) (L := L) N9 R9.lim 58 (by decide) (by decide) with ⟨yA, h', rA, bA, -⟩ | ⟨yA, rA, NA⟩
          · rw [if_neg yA]
            refine ⟨h', ?_, bA⟩
            rw [rA, p_xV, q_17_155_7, if_neg (by have := bA.pos; omega), mz_needSign (d := d + 3) bA, p_xV]
          rw [if_pos yA, rA, p_xV]
          have RA := R9.fr (h' := am_up (am_up h8 254 10 ((u.2 + 1 : Nat) : Int)) 254 10 ((u.2 + 1 + 1 : Nat) : Int)) ((p_fr.refl _).upf _ _ _ rfl)
          have rp8 := c_pin_rg (V := V) N.1.1 M (ps := w.1) (i := w.2 + 1) N7.2.2.1 (by omega)
          rw [hc8] at rp8
          dsimp only at rp8
          have SA : mcJ K V P W Z (u.2 + 2) g F (i + 1) (qs ++ qs8) [] [] (am_up (am_up h8 254 10 ((u.2 + 1 : Nat) : Int)) 254 10 ((u.2 + 1 + 1 : Nat) : Int)) := by
            refine ⟨⟨NA, ?_, S8.2.2.1, fun _ hp => absurd hp List.not_mem_nil, S8.2.2.2.1, Nat.zero_le _, ?_, ?_⟩, Nat.zero_le _, lt⟩
            · rw [show F.2.2.1 ++ flt F.2.2.2.1.length [] = F.2.2.1 from List.append_nil _, show F.2.2.2.1 ++ fll [] = F.2.2.2.1 from List.append_nil _, List.append_nil]; exact RA
            · rw [show F.2.2.2.1 ++ fll [] = F.2.2.2.1 from List.append_nil _]; omega
            · rw [show F.2.2.2.1 ++ fll [] = F.2.2.2.1 from List.append_nil _, List.append_nil]; exact li
          have mA := mx_parts (d := d) (L := L) (n := w.1.length) hM M SA (by omega)
          rw [← w8] at mA
          cases hcA : c_pts K V M M (i + 1, u.1, w.1.length, [], []) (u.2 + 2) with
          | inl e => rw [hcA] at mA; exact mA
          | inr x =>
            rw [hcA] at mA
            dsimp only at mA ⊢
            obtain ⟨hB, rB, ⟨⟨s1, s2, s3, s4, s5, s6, s7, s8⟩, s9, s10⟩, eB1, eB2, eB3⟩ := mA
            refine ⟨hB, rB, ?_⟩
            have cpe : cpM x.1 = qs ++ qs8 := by
              unfold cpM
              rw [eB2, eB3, w8, w6, List.map_append, List.length_map, List.take_left' (by rw [List.length_map]), List.drop_left' (by rw [List.length_map]), map_pr _ _ hq6, map_pr _ _ hq8]
            unfold mcH fF
            dsimp only
            rw [cpe, eB1]
            refine ⟨s1, s2, ?_, ?_, s7, s8⟩
            · rw [List.length_append, List.length_append (bs := [_]), List.length_singleton]; omega
            · rw [List.length_append, List.length_append (bs := [_]), List.length_singleton, flt_len]; omega
    · rw [if_neg (show ¬ F.1.length < 16 by omega)]
      refine ⟨h', ?_, b2⟩
      rw [r2, p_xV]
      exact E2f b2
  · obtain ⟨h', r2, b2, -⟩ := mx_syntax (d := d + 4) (L := L) N1 R1.lim
    rw [if_neg k1, if_neg (fun y => k1 (kk.2.1.1 y))]
    refine ⟨h', ?_, b2⟩
    rw [r2, p_xV, if_neg (by have := b2.pos; omega)]
    exact E2f b2
theorem mx_chips4 {F : fM} (S : mcH K V P W Z i g F h) (u : Option am_V) : ∃ h1, am_E (am_D (d + 7)) m_17_156 (.inl 4) [some (am_r (am_a 254)), u] [] (zS L, h) = pV L h1 ∧ mcH K V P W Z i g F h1 ∧ fE F h1 := by
  obtain ⟨N, R, lp, lt, ll, li⟩ := S
  have ub := N.ub
  obtain ⟨⟨b1, b2⟩, ⟨c1, c2⟩, ⟨d1, d2⟩, ⟨e1, e2⟩, f1, f2⟩ := R.1
  rw [q_17_156_4, b1, d1, c1, e1, f1, p_idx (by omega) (by omega), p_idx (by omega) (by omega), p_idx (by omega) (by omega), p_idx (by omega) (by omega), Int.toNat_natCast, Int.toNat_natCast]
  refine ⟨_, rfl, ⟨(((N.up (Or.inl rfl) (by omega)).up (Or.inl rfl) (by omega)).up (Or.inl rfl) (by omega)).up (Or.inl rfl) (by omega), ?_, lp, lt, ll, li⟩, ?_, ?_, ?_, p_up_s _ _ _ _⟩
  · exact (((R.upx (Or.inl ⟨by decide, Nat.le_refl _⟩)).upx (Or.inl ⟨by decide, Nat.le_refl _⟩)).upx (Or.inl ⟨by decide, Nat.le_refl _⟩)).upx (Or.inr (Or.inr ⟨by decide, Nat.le_refl _⟩))
  · rw [p_up_c _ _ _ _ _ (by decide), p_up_c _ _ _ _ _ (by decide), p_up_c _ _ _ _ _ (by decide), p_up_s]
  · rw [p_up_c _ _ _ _ _ (by decide), p_up_c _ _ _ _ _ (by decide), p_up_s]
  · rw [p_up_c _ _ _ _ _ (by decide), p_up_s]
theorem mx_chips {M : Nat} (hM : Z < M) : ∀ (m : Nat) {i : Nat} {acc : List cCh} {h : am_H}, mcH K V P W Z i g (fFs acc) h → Z < i + m → match c_chs K V M m acc i with
      | .inl e => ∃ h', am_E (am_D (d + 7)) m_17_156 (.inl 1) [some (am_r (am_a 254)), some (am_i 1)] [] (zS L, h) = pV L h' ∧ mcB P g e h'
      | .inr w => ∃ h1, am_E (am_D (d + 7)) m_17_156 (.inl 1) [some (am_r (am_a 254)), some (am_i 1)] [] (zS L, h) = pV L h1 ∧ (∃ j, mcH K V P W Z j g (fFs w) h1) ∧ fE (fFs w) h1
  | 0, i, acc, h, S, hm => by have := S.1.2.2.1; omega
  | m + 1, i, acc, h, S, hm => by
    have N := S.1
    rw [q_17_156_1, if_neg (show ¬ (1 : Int) = 0 by decide), N.2.2.2.1, if_pos (show (0 : Int) = 0 from rfl)]
    have mc := mx_chip (d := d) (L := L) hM S
    have ln : (fFs acc).1.length = acc.length := by unfold fFs; rw [fFs_len]; exact Nat.zero_add _
    rw [ln] at mc
    unfold c_chs
    cases hc : c_chp K V M acc.length i with
    | inl e =>
      rw [hc] at mc
      obtain ⟨h', r1, b1⟩ := mc
      dsimp only
      have bb := b1
      obtain ⟨-, ⟨y1, y2⟩, -, b3, -, b5, b6⟩ := bb
      have bp := b1.pos
      have E4 : ∀ u : Option am_V, ∃ h2, am_E (am_D (d + 7)) m_17_156 (.inl 4) [some (am_r (am_a 254)), u] [] (zS L, h') = pV L h2 ∧ mcB P g e h2 := fun u => by
        rw [q_17_156_4, p_idx (by omega) (by omega), p_idx (by omega) (by omega), p_idx (by omega) (by omega), p_idx (by omega) (by omega)]
        exact ⟨_, rfl, (((b1.up (Or.inl rfl) (Or.inl (by decide))).up (Or.inl rfl) (Or.inl (by decide))).up (Or.inl rfl) (Or.inl (by decide))).up (Or.inl rfl) (Or.inl (by decide))⟩
      rw [r1, p_xV, p_idx (by omega) (by omega)]
      by_cases y : h' 257 (h' 254 10).toNat = 0
      · rw [if_pos y, q_17_156_1, if_pos rfl]; exact E4 _
      · rw [if_neg y, q_17_156_1, if_neg (by decide), if_neg (by omega)]; exact E4 _
    | inr w =>
      rw [hc] at mc
      obtain ⟨h1, r1, S1⟩ := mc
      dsimp only
      rw [← fFs_app] at S1
      have N1 := S1.1
      have ub1 := N1.ub
      obtain ⟨a1, a2, a3, a4, a5⟩ := N1.1.2.1 w.2 N1.2.2.1
      have kk := kmp_i a5
      rw [r1, p_xV, N1.2.1, p_idx (by omega) (by omega), Int.toNat_natCast, a1]
      have rc := c_chp_rg (V := V) N.1.1 (M := M) (n := acc.length) N.2.2.1 hM
      rw [hc] at rc
      dsimp only at rc
      by_cases y : K w.2 = 0
      · rw [if_pos y, if_pos (kk.1.2 y), q_17_156_1, if_pos rfl]
        obtain ⟨h2, r2, S2, f2⟩ := mx_chips4 (d := d) (L := L) S1 (some (am_i 0))
        exact ⟨h2, r2, ⟨_, S2⟩, f2⟩
      · rw [if_neg y, if_neg (fun z => y (kk.1.1 z))]
        exact mx_chips hM m S1 (by omega)
theorem mx_read {M m : Nat} (R : mR K V P W Z h) (h10 : h 254 10 = 0) (hM : Z < M) (hm : Z < m) : match c_chs K V M m [] 0 with
      | .inl e => ∃ h', am_D (d + 8) 17 156 [am_r (am_a 254)] (zS L, h) = pV L h' ∧ mcB P h e h'
      | .inr w => ∃ h1, am_D (d + 8) 17 156 [am_r (am_a 254)] (zS L, h) = pV L h1 ∧ (∃ j, mcH K V P W Z j h (fFs w) h1) ∧ fE (fFs w) h1 := by
  rw [D_17_156]
  refine mx_chips hM m (acc := []) ?_ (by omega)
  obtain ⟨H, hH⟩ : ∃ H, H = am_up (am_up (am_up (am_up (am_up (am_up h 254 11 0) 254 122 0) 254 125 0) 254 131 0) 254 134 0) 254 144 0 := ⟨_, rfl⟩
  rw [← hH]
  have f : p_fr mcCx mcFx h H := by rw [hH]; exact ((((((p_fr.refl h).upf _ _ _ rfl).upf _ _ _ rfl).upf _ _ _ rfl).upf _ _ _ rfl).upf _ _ _ rfl).upf _ _ _ rfl
  have v : H 254 11 = 0 ∧ H 254 122 = 0 ∧ H 254 125 = 0 ∧ H 254 131 = 0 ∧ H 254 134 = 0 ∧ H 254 144 = 0 ∧ H 254 10 = h 254 10 := by
    rw [hH]
    refine ⟨?_, ?_, ?_, ?_, ?_, ?_, ?_⟩ <;> simp [p_up]
  obtain ⟨v1, v2, v3, v4, v5, v6, v7⟩ := v
  refine ⟨⟨R.fr f, by rw [v7, h10]; rfl, Nat.zero_le _, v1, f⟩, ⟨⟨⟨v2, Nat.zero_le _⟩, ⟨v3, Nat.zero_le _⟩, ⟨v4, Nat.zero_le _⟩, ⟨v5, Nat.zero_le _⟩, ⟨v6, Nat.zero_le _⟩⟩, ?_, ?_, ?_, ?_, ?_⟩, Nat.zero_le _, Nat.zero_le _, Nat.zero_le _, Nat.zero_le _⟩
  all_goals (intro k c hk; cases hk)
end
