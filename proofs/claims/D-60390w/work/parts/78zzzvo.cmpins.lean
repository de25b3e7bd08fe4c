/-! CHIPS, 15: the model's pins -/
section
variable {d L : Nat} {K V P : Nat → Int} {W : Nat → List Int} {Z i : Nat} {g h : am_H}
/-- a place behind all of its row -/
theorem fR.upx {F : fM} {c k : Nat} {v : Int} (R : fR V F h) (hc : (c = 328 ∨ c = 329 ∨ c = 334 ∨ c = 345) ∧ F.1.length ≤ k ∨ (330 ≤ c ∧ c ≤ 333) ∧ F.2.1.length ≤ k ∨ (c = 335 ∨ c = 336) ∧ F.2.2.1.length ≤ k) : fR V F (am_up h c k v) := by
  obtain ⟨r0, r1, r2, r3, r4, r5⟩ := R
  have nc : ∀ c', c' ≠ c → am_up h c k v c' = h c' := fun c' z => p_up_c _ _ _ _ _ z
  have nn : ∀ c' j, (c' ≠ c ∨ j ≠ k) → am_up h c k v c' j = h c' j := fun c' j z => p_up_n _ _ _ _ _ _ z
  refine ⟨?_, fun j x hx => ?_, fun j x hx => ?_, fun j x hx => ?_, ?_, ?_⟩
  · unfold fRc; rw [nc 254 (by omega)]; exact r0
  · have := (List.getElem?_eq_some_iff.1 hx).1
    rw [nn 328 j (by omega), nn 329 j (by omega), nn 334 j (by omega), nn 345 j (by omega)]; exact r1 j x hx
  · have := (List.getElem?_eq_some_iff.1 hx).1
    rw [nn 331 j (by omega), nn 333 j (by omega), nn 330 j (by omega), nn 332 j (by omega)]; exact r2 j x hx
  · have := (List.getElem?_eq_some_iff.1 hx).1
    rw [nn 335 j (by omega), nn 336 j (by omega)]; exact r3 j x hx
  · unfold fRl; rw [nc 337 (by omega), nc 338 (by omega), nc 339 (by omega), nc 340 (by omega), nc 341 (by omega), nc 342 (by omega), nc 343 (by omega), nc 344 (by omega)]; exact r4
  · rw [nc 346 (by omega)]; exact r5
/-- one more pin -/
theorem fR.pin {F : fM} {p : Nat × Int × Bool} (R : fR V F h) (hp : h 331 F.2.1.length = (p.1 : Int) ∧ h 333 F.2.1.length = p.2.1 ∧ h 330 F.2.1.length = (if p.2.2 = true then 1 else 0) ∧ h 332 F.2.1.length = c_w V p.2.1) (hb : F.2.1.length < 192) : fR V (F.1, F.2.1 ++ [p], F.2.2.1, F.2.2.2.1, F.2.2.2.2) (am_up h 254 125 ((F.2.1.length : Int) + 1)) := by
  obtain ⟨⟨a, b, c, d, e⟩, r1, r2, r3, r4, r5⟩ := R
  have nc : ∀ c', c' ≠ 254 → am_up h 254 125 ((F.2.1.length : Int) + 1) c' = h c' := fun c' z => p_up_c _ _ _ _ _ z
  refine ⟨⟨?_, ⟨?_, ?_⟩, ?_, ?_, ?_⟩, ?_, fun k x hx => ?_, ?_, ?_, ?_⟩
  · rw [p_up_n _ _ _ _ _ _ (Or.inr (by decide))]; exact a
  · rw [p_up_s]; dsimp only; rw [List.length_append, List.length_singleton]; omega
  · dsimp only; rw [List.length_append, List.length_singleton]; omega
  · rw [p_up_n _ _ _ _ _ _ (Or.inr (by decide))]; exact c
  · rw [p_up_n _ _ _ _ _ _ (Or.inr (by decide))]; exact d
  · rw [p_up_n _ _ _ _ _ _ (Or.inr (by decide))]; exact e
  · rw [nc 328 (by decide), nc 329 (by decide), nc 334 (by decide), nc 345 (by decide)]; exact r1
  · rw [nc 331 (by decide), nc 333 (by decide), nc 330 (by decide), nc 332 (by decide)]
    dsimp only at hx
    by_cases y : k < F.2.1.length
    · rw [List.getElem?_append_left y] at hx
      exact r2 k x hx
    · have : k = F.2.1.length := by
        have := (List.getElem?_eq_some_iff.1 hx).1
        rw [List.length_append, List.length_singleton] at this; omega
      subst this
      rw [List.getElem?_append_right (Nat.le_refl _), Nat.sub_self] at hx
      cases hx
      exact hp
  · rw [nc 335 (by decide), nc 336 (by decide)]; exact r3
  · unfold fRl
    rw [nc 337 (by decide), nc 338 (by decide), nc 339 (by decide), nc 340 (by decide), nc 341 (by decide), nc 342 (by decide), nc 343 (by decide), nc 344 (by decide)]; exact r4
  · rw [nc 346 (by decide)]; exact r5
/-- within a chip's pins: parts, links, inner names are those of the chips ahead -/
def mcP (K V P : Nat → Int) (W : Nat → List Int) (Z i : Nat) (g : am_H) (F : fM) (tok : Nat) (ps : List (Nat × Int × Bool)) (h : am_H) : Prop :=
  mcN K V P W Z i g h ∧ fR V (F.1 ++ [(tok, F.2.1.length, F.2.2.1.length, F.2.2.2.2.length)], F.2.1 ++ ps, F.2.2.1, F.2.2.2.1, F.2.2.2.2) h ∧ (∀ p ∈ ps, p.1 ≤ Z ∧ K p.1 = 2) ∧ ps.length ≤ 12 ∧ F.2.1.length ≤ 12 * F.1.length
def bI (b : Bool) : Int := if b = true then 1 else 0
theorem p_bitb (b : Bool) {k : Option am_O} : am_bit (bI b) k = k := by cases b; exact p_bit0; exact p_bit1
/-- behind a pin: comma or semicolon -/
theorem mx_pin8 {F : fM} {tok : Nat} {ps : List (Nat × Int × Bool)} {b : Bool} {j : Nat} {num : Int} {h : am_H} (u2 u3 : Option am_V) (N : mcN K V P W Z j g h) (R : fR V (F.1 ++ [(tok, F.2.1.length, F.2.2.1.length, F.2.2.2.2.length)], F.2.1 ++ ps, F.2.2.1, F.2.2.2.1, F.2.2.2.2) h) (hps : ∀ p ∈ ps, p.1 ≤ Z ∧ K p.1 = 2) (l12 : ps.length < 12) (lF : F.2.1.length ≤ 12 * F.1.length) (hi : i ≤ Z ∧ K i = 2)
    (hn : h 331 (F.2.1 ++ ps).length = (i : Int) ∧ h 333 (F.2.1 ++ ps).length = num ∧ h 330 (F.2.1 ++ ps).length = bI b ∧ h 332 (F.2.1 ++ ps).length = c_w V num) :
    (cSg K V 44 j ∧ ∃ h1, am_E (am_D (d + 3)) m_17_149 (.inl 8) [some (am_r (am_a 254)), some (am_i (bI b)), u2, u3] [] (zS L, h) = am_E (am_D (d + 3)) m_17_149 (.inl 1) [some (am_r (am_a 254)), some (am_i (bI b)), some (am_i 1), u3] [] (zS L, h1) ∧ mcP K V P W Z (j + 1) g F tok (ps ++ [(i, num, b)]) h1)
    ∨ (¬ cSg K V 44 j ∧ ¬ cSg K V 59 j ∧ ∃ h1, am_E (am_D (d + 3)) m_17_149 (.inl 8) [some (am_r (am_a 254)), some (am_i (bI b)), u2, u3] [] (zS L, h) = pV L h1 ∧ mcB P g (csx K j) h1)
    ∨ (¬ cSg K V 44 j ∧ cSg K V 59 j ∧ ∃ h1, am_E (am_D (d + 3)) m_17_149 (.inl 8) [some (am_r (am_a 254)), some (am_i (bI b)), u2, u3] [] (zS L, h) = pV L h1 ∧ mcP K V P W Z (j + 1) g F tok (ps ++ [(i, num, b)]) h1) := by
  have cl16 : F.1.length + 1 ≤ 16 := by have := R.1.1.2; dsimp only at this; rw [List.length_append, List.length_singleton] at this; exact this
  have pl : h 254 125 = ((F.2.1 ++ ps).length : Int) := R.1.2.1.1
  have lp : (F.2.1 ++ ps).length < 192 := by rw [List.length_append]; omega
  have hps' : ∀ p ∈ ps ++ [(i, num, b)], p.1 ≤ Z ∧ K p.1 = 2 := fun p hp => by
    rcases List.mem_append.1 hp with y | y
    · exact hps p y
    · rw [List.mem_singleton] at y; rw [y]; exact hi
  have R1 := R.pin (p := (i, num, b)) hn lp
  dsimp only at R1
  rw [List.append_assoc] at R1
  have l1 : (ps ++ [(i, num, b)]).length ≤ 12 := by rw [List.length_append, List.length_singleton]; omega
  rw [q_17_149_8, pl, p_w (x := ((F.2.1 ++ ps).length : Int) + 1) (by omega) (by omega)]
  obtain ⟨h1, e1⟩ : ∃ h1, h1 = am_up h 254 125 (((F.2.1 ++ ps).length : Int) + 1) := ⟨_, rfl⟩
  rw [← e1] at R1 ⊢
  have N1 : mcN K V P W Z j g h1 := by rw [e1]; exact N.up (Or.inr rfl) (by omega)
  rw [mx_isSign (d := d + 2) N1 44 (by decide) (by decide), p_xI]
  by_cases c : cSg K V 44 j
  · left
    obtain ⟨r2, N2⟩ := mx_go (d := d + 2) (L := L) N1 (by rw [c.1]; omega)
    rw [pB_t c, if_neg (show ¬ (1 : Int) = 0 by decide), r2, p_xV]
    exact ⟨c, _, rfl, N2, R1.fr ((p_fr.refl _).upf _ _ _ rfl), hps', l1, lF⟩
  · right
    rw [pB_f c, if_pos rfl, q_17_149_1, if_pos rfl]
    rcases mx_needSign (d := d) (L := L) N1 R1.lim 59 (by decide) (by decide) with ⟨z, h', r3, b3, -⟩ | ⟨z, r3, N3⟩
    · left
      exact ⟨c, z, h', by rw [r3, p_xV], b3⟩
    · right
      rw [r3, p_xV]
      exact ⟨c, z, _, rfl, N3, R1.fr ((p_fr.refl _).upf _ _ _ rfl), hps', l1, lF⟩
theorem mx_pins {F : fM} {tok : Nat} {b : Bool} : ∀ (m : Nat) {i : Nat} {ps : List (Nat × Int × Bool)} {h : am_H} (u3 : Option am_V), mcP K V P W Z i g F tok ps h → Z < i + m → match c_pin K V m (ps.map fun p => (p.1, p.2.1)) i with
      | .inl e => ∃ h', am_E (am_D (d + 3)) m_17_149 (.inl 1) [some (am_r (am_a 254)), some (am_i (bI b)), some (am_i 1), u3] [] (zS L, h) = pV L h' ∧ mcB P g e h'
      | .inr w => ∃ h1 qs, am_E (am_D (d + 3)) m_17_149 (.inl 1) [some (am_r (am_a 254)), some (am_i (bI b)), some (am_i 1), u3] [] (zS L, h) = pV L h1 ∧ mcP K V P W Z w.2 g F tok (ps ++ qs) h1 ∧ w.1 = (ps ++ qs).map (fun p => (p.1, p.2.1)) ∧ ∀ q ∈ qs, q.2.2 = b
  | 0, i, ps, h, u3, S, hm => by have := S.1.2.2.1; omega
  | m + 1, i, ps, h, u3, S, hm => by
    obtain ⟨N, R, hps, l12, lF⟩ := S
    have ub := N.ub
    have z2 := N.1.1.1
    obtain ⟨a1, a2, a3, a4, a5⟩ := N.1.2.1 i N.2.2.1
    have kk := kmp_i a5
    have cl : h 254 122 = ((F.1.length + 1 : Nat) : Int) := by have := R.1.1.1; dsimp only at this; rw [List.length_append, List.length_singleton] at this; exact this
    have cl16 : F.1.length + 1 ≤ 16 := by have := R.1.1.2; dsimp only at this; rw [List.length_append, List.length_singleton] at this; exact this
    have pl : h 254 125 = ((F.2.1.length + ps.length : Nat) : Int) := by have := R.1.2.1.1; dsimp only at this; rw [List.length_append] at this; exact this
    have last : (F.1 ++ [(tok, F.2.1.length, F.2.2.1.length, F.2.2.2.2.length)])[F.1.length]? = some (tok, F.2.1.length, F.2.2.1.length, F.2.2.2.2.length) := by rw [List.getElem?_append_right (Nat.le_refl _), Nat.sub_self]; rfl
    obtain ⟨q1, q2, q3, q4⟩ := R.2.1 F.1.length _ last
    dsimp only at q2
    unfold c_pin
    rw [List.length_map, q_17_149_1, if_neg (show ¬ (1 : Int) = 0 by decide), N.2.2.2.1, if_pos (show (0 : Int) = 0 from rfl), N.2.1, p_idx (by omega) (by omega), Int.toNat_natCast, a1]
    by_cases c1 : K i = 2
    · rw [if_pos c1, if_pos (kk.2.1.2 c1), cl, p_w (x := ((F.1.length + 1 : Nat) : Int) - 1) (by omega) (by omega), p_idx (by omega) (by omega), show (((F.1.length + 1 : Nat) : Int) - 1).toNat = F.1.length by omega, q2, pl, p_w (x := ((F.2.1.length + ps.length : Nat) : Int) - (F.2.1.length : Int)) (by omega) (by omega)]
      rcases mx_room (d := d + 1) (L := L) N R.lim (((F.2.1.length + ps.length : Nat) : Int) - (F.2.1.length : Int)) 12 with ⟨y, r1⟩ | ⟨y, h', r1, b1⟩
      · rw [if_pos (show ps.length < 12 by omega), r1, p_xV, N.2.2.2.1, if_neg (show ¬ (0 : Int) < 0 by decide), pl, p_idx (by omega) (by omega), Int.toNat_natCast, p_bitb, p_idx (by omega) (by omega), p_idx (by omega) (by omega), p_idx (by omega) (by omega), Int.toNat_natCast, N.2.1]
        obtain ⟨n, hn⟩ : ∃ n, n = F.2.1.length + ps.length := ⟨_, rfl⟩
        have hn' : (F.2.1 ++ ps).length = n := by rw [List.length_append, hn]
        rw [← hn]
        obtain ⟨h1, e1⟩ : ∃ h1, h1 = am_up (am_up (am_up (am_up h 331 n (i : Int)) 330 n (bI b)) 333 n (-1)) 332 n 1 := ⟨_, rfl⟩
        rw [← e1]
        have N1 : mcN K V P W Z i g h1 := by rw [e1]; exact (((N.up (Or.inl rfl) (by omega)).up (Or.inl rfl) (by omega)).up (Or.inl rfl) (by omega)).up (Or.inl rfl) (by omega)
        have R1 : fR V (F.1 ++ [(tok, F.2.1.length, F.2.2.1.length, F.2.2.2.2.length)], F.2.1 ++ ps, F.2.2.1, F.2.2.2.1, F.2.2.2.2) h1 := by
          rw [e1]
          exact (((R.upx (Or.inr (Or.inl ⟨by decide, by dsimp only; omega⟩))).upx (Or.inr (Or.inl ⟨by decide, by dsimp only; omega⟩))).upx (Or.inr (Or.inl ⟨by decide, by dsimp only; omega⟩))).upx (Or.inr (Or.inl ⟨by decide, by dsimp only; omega⟩))
        have v1 : h1 331 n = (i : Int) ∧ h1 333 n = -1 ∧ h1 330 n = bI b ∧ h1 332 n = 1 := by
          rw [e1]
          refine ⟨?_, ?_, ?_, p_up_s _ _ _ _⟩
          · rw [p_up_c _ _ _ _ _ (by decide), p_up_c _ _ _ _ _ (by decide), p_up_c _ _ _ _ _ (by decide), p_up_s]
          · rw [p_up_c _ _ _ _ _ (by decide), p_up_s]
          · rw [p_up_c _ _ _ _ _ (by decide), p_up_c _ _ _ _ _ (by decide), p_up_s]
        obtain ⟨r2, N2⟩ := mx_go (d := d + 2) (L := L) N1 (by rw [c1]; omega)
        have R2 := R1.fr (h' := am_up h1 254 10 ((i + 1 : Nat) : Int)) ((p_fr.refl h1).upf _ _ _ rfl)
        obtain ⟨h2, e2⟩ : ∃ h2, h2 = am_up h1 254 10 ((i + 1 : Nat) : Int) := ⟨_, rfl⟩
        rw [← e2] at r2 N2 R2
        have c2 : ∀ c, c ≠ 254 → h2 c = h1 c := fun c hc => by rw [e2, p_up_c _ _ _ _ _ hc]
        have pl2 : h2 254 125 = (n : Int) := by rw [R2.1.2.1.1]; exact congrArg _ hn'
        rw [r2, p_xV, mx_isSign (d := d + 2) N2 91 (by decide) (by decide), p_xI]
        -- how it goes on behind the pin
        have fin : ∀ {j : Nat} {num : Int} {h' : am_H} (u2 u3' : Option am_V), mcN K V P W Z j g h' → i < j → fR V (F.1 ++ [(tok, F.2.1.length, F.2.2.1.length, F.2.2.2.2.length)], F.2.1 ++ ps, F.2.2.1, F.2.2.2.1, F.2.2.2.2) h' → (h' 331 n = (i : Int) ∧ h' 333 n = num ∧ h' 330 n = bI b ∧ h' 332 n = c_w V num) → match (if cSg K V 44 j then c_pin K V m (ps.map (fun p => (p.1, p.2.1)) ++ [(i, num)]) (j + 1) else if cSg K V 59 j then .inr (ps.map (fun p => (p.1, p.2.1)) ++ [(i, num)], j + 1) else .inl (csx K j) : cF ⊕ (List (Nat × Int) × Nat)) with
            | .inl e => ∃ h1, am_E (am_D (d + 3)) m_17_149 (.inl 8) [some (am_r (am_a 254)), some (am_i (bI b)), u2, u3'] [] (zS L, h') = pV L h1 ∧ mcB P g e h1
            | .inr w => ∃ h1 qs, am_E (am_D (d + 3)) m_17_149 (.inl 8) [some (am_r (am_a 254)), some (am_i (bI b)), u2, u3'] [] (zS L, h') = pV L h1 ∧ mcP K V P W Z w.2 g F tok (ps ++ qs) h1 ∧ w.1 = (ps ++ qs).map (fun p => (p.1, p.2.1)) ∧ ∀ q ∈ qs, q.2.2 = b := by
          intro j num h' u2 u3' Nj hij Rj vj
          have mp : ps.map (fun p => (p.1, p.2.1)) ++ [(i, num)] = (ps ++ [(i, num, b)]).map (fun p => (p.1, p.2.1)) := by rw [List.map_append]; rfl
          rw [mp]
          rcases mx_pin8 (d := d) (L := L) (b := b) (num := num) u2 u3' Nj Rj hps (by omega) lF ⟨N.2.2.1, c1⟩ (by rw [hn']; exact vj) with ⟨z, h1, r, S1⟩ | ⟨z, y, h1, r, B1⟩ | ⟨z, y, h1, r, S1⟩
          · rw [if_pos z, r]
            have ih := mx_pins (F := F) (tok := tok) (b := b) m u3' S1 (by omega)
            cases hc : c_pin K V m ((ps ++ [(i, num, b)]).map fun p => (p.1, p.2.1)) (j + 1) with
            | inl e => rw [hc] at ih; exact ih
            | inr w =>
              rw [hc] at ih
              obtain ⟨h2, qs, r', S2, e2, hq⟩ := ih
              rw [List.append_assoc] at S2 e2
              refine ⟨h2, _, r', S2, e2, fun q hq' => ?_⟩
              rcases List.mem_append.1 hq' with y | y
              · rw [List.mem_singleton] at y; rw [y]
              · exact hq q y
          · rw [if_neg z, if_neg y]
            exact ⟨h1, r, B1⟩
          · rw [if_neg z, if_pos y]
            refine ⟨h1, _, r, S1, rfl, fun q hq' => ?_⟩
            rw [List.mem_singleton] at hq'; rw [hq']
        unfold c_wid
        by_cases c3 : cSg K V 91 (i + 1)
        · rw [if_pos c3, pB_t c3, if_neg (show ¬ (1 : Int) = 0 by decide)]
          obtain ⟨r4, N4⟩ := mx_go (d := d + 2) (L := L) N2 (by rw [c3.1]; omega)
          have R4 := R2.fr (h' := am_up h2 254 10 ((i + 1 + 1 : Nat) : Int)) ((p_fr.refl h2).upf _ _ _ rfl)
          obtain ⟨h4, e4⟩ : ∃ h4, h4 = am_up h2 254 10 ((i + 1 + 1 : Nat) : Int) := ⟨_, rfl⟩
          rw [← e4] at r4 N4 R4
          have c4 : ∀ c, c ≠ 254 → h4 c = h1 c := fun c hc => by rw [e4, p_up_c _ _ _ _ _ hc, c2 c hc]
          have pl4 : h4 254 125 = (n : Int) := by rw [R4.1.2.1.1]; exact congrArg _ hn'
          rw [r4, p_xV]
          rcases mx_num (d := d) (L := L) N4 R4.lim with ⟨k5, r5, N5⟩ | ⟨k5, v, h', r5, b5, -⟩
          · have R5 := R4.fr (h' := am_up h4 254 10 ((i + 1 + 1 + 1 : Nat) : Int)) ((p_fr.refl h4).upf _ _ _ rfl)
            rw [if_pos (show K (i + 1 + 1) = 3 from k5), r5, p_xI, pl4, p_idx (by omega) (by omega), Int.toNat_natCast]
            obtain ⟨h5, e5⟩ : ∃ h5, h5 = am_up (am_up h4 254 10 ((i + 1 + 1 + 1 : Nat) : Int)) 333 n ((i + 1 + 1 : Nat) : Int) := ⟨_, rfl⟩
            rw [← e5]
            have N5' : mcN K V P W Z (i + 1 + 1 + 1) g h5 := by rw [e5]; exact N5.up (Or.inl rfl) (by omega)
            have R5' : fR V (F.1 ++ [(tok, F.2.1.length, F.2.2.1.length, F.2.2.2.2.length)], F.2.1 ++ ps, F.2.2.1, F.2.2.2.1, F.2.2.2.2) h5 := by rw [e5]; exact R5.upx (Or.inr (Or.inl ⟨by decide, by dsimp only; omega⟩))
            have c5 : ∀ c, c ≠ 254 → c ≠ 333 → h5 c = h1 c := fun c hc h3 => by rw [e5, p_up_c _ _ _ _ _ h3, p_up_c _ _ _ _ _ hc, c4 c hc]
            have s5 : h5 333 n = ((i + 1 + 1 : Nat) : Int) := by rw [e5, p_up_s]
            rcases mx_needSign (d := d) (L := L) N5' R5'.lim 93 (by decide) (by decide) with ⟨z, h', r6, b6, -⟩ | ⟨z, r6, N6⟩
            · rw [if_neg (show ¬ cSg K V 93 (i + 1 + 2) from z)]
              exact ⟨h', by rw [r6, p_xV, if_pos b6.pos], b6⟩
            · rw [if_pos (show cSg K V 93 (i + 1 + 2) from z), r6, p_xV]
              have R6 := R5'.fr (h' := am_up h5 254 10 ((i + 1 + 1 + 1 + 1 : Nat) : Int)) ((p_fr.refl h5).upf _ _ _ rfl)
              obtain ⟨h6, e6⟩ : ∃ h6, h6 = am_up h5 254 10 ((i + 1 + 1 + 1 + 1 : Nat) : Int) := ⟨_, rfl⟩
              rw [← e6] at N6 R6 ⊢
              have pl6 : h6 254 125 = (n : Int) := by rw [R6.1.2.1.1]; exact congrArg _ hn'
              have c6 : ∀ c, c ≠ 254 → c ≠ 333 → h6 c = h1 c := fun c hc h3 => by rw [e6, p_up_c _ _ _ _ _ hc, c5 c hc h3]
              have s6 : h6 333 n = ((i + 1 + 1 : Nat) : Int) := by rw [e6, p_up_c _ _ _ _ _ (by decide), s5]
              have l4 := N4.2.2.1
              have vv : h6 260 (i + 1 + 1) = V (i + 1 + 1) := (N6.1.2.1 (i + 1 + 1) N4.2.2.1).2.2.1 (Or.inr k5)
              rw [N6.2.2.2.1, if_neg (show ¬ (0 : Int) < 0 by decide), pl6, p_idx (by omega) (by omega), Int.toNat_natCast, s6, p_idx (by omega) (by omega), Int.toNat_natCast, vv, p_idx (by omega) (by omega), p_idx (by omega) (by omega), Int.toNat_natCast]
              have cw : c_w V ((i + 1 + 1 : Nat) : Int) = if V (i + 1 + 1) < 1 ∨ 16 < V (i + 1 + 1) then 1 else V (i + 1 + 1) := by
                unfold c_w; rw [if_neg (by omega), Int.toNat_natCast]
              have go : ∀ (w : Int) (u3' : Option am_V), w = c_w V ((i + 1 + 1 : Nat) : Int) → match (if cSg K V 44 (i + 1 + 3) then c_pin K V m (ps.map (fun p => (p.1, p.2.1)) ++ [(i, ((i + 1 + 1 : Nat) : Int))]) (i + 1 + 3 + 1) else if cSg K V 59 (i + 1 + 3) then .inr (ps.map (fun p => (p.1, p.2.1)) ++ [(i, ((i + 1 + 1 : Nat) : Int))], i + 1 + 3 + 1) else .inl (csx K (i + 1 + 3)) : cF ⊕ (List (Nat × Int) × Nat)) with
                  | .inl e => ∃ h1, am_E (am_D (d + 3)) m_17_149 (.inl 8) [some (am_r (am_a 254)), some (am_i (bI b)), some (am_i 1), u3'] [] (zS L, am_up h6 332 n w) = pV L h1 ∧ mcB P g e h1
                  | .inr w' => ∃ h1 qs, am_E (am_D (d + 3)) m_17_149 (.inl 8) [some (am_r (am_a 254)), some (am_i (bI b)), some (am_i 1), u3'] [] (zS L, am_up h6 332 n w) = pV L h1 ∧ mcP K V P W Z w'.2 g F tok (ps ++ qs) h1 ∧ w'.1 = (ps ++ qs).map (fun p => (p.1, p.2.1)) ∧ ∀ q ∈ qs, q.2.2 = b := by
                intro w u3' hw
                refine fin (num := ((i + 1 + 1 : Nat) : Int)) (some (am_i 1)) u3' (N6.up (Or.inl rfl) (by omega)) (by omega) (R6.upx (Or.inr (Or.inl ⟨by decide, by dsimp only; omega⟩))) ⟨?_, ?_, ?_, ?_⟩
                · rw [p_up_c _ _ _ _ _ (by decide), c6 331 (by decide) (by decide)]; exact v1.1
                · rw [p_up_c _ _ _ _ _ (by decide)]; exact s6
                · rw [p_up_c _ _ _ _ _ (by decide), c6 330 (by decide) (by decide)]; exact v1.2.2.1
                · rw [p_up_s]; exact hw
              dsimp only
              by_cases w1 : V (i + 1 + 1) < 1
              · rw [if_pos w1]
                exact go 1 _ (by rw [cw, if_pos (Or.inl w1)])
              · rw [if_neg w1]
                by_cases w2 : 16 < V (i + 1 + 1)
                · rw [if_pos w2]
                  exact go 1 _ (by rw [cw, if_pos (Or.inr w2)])
                · rw [if_neg w2]
                  exact go (V (i + 1 + 1)) _ (by rw [cw, if_neg (by omega)])
          · rw [if_neg (show ¬ K (i + 1 + 1) = 3 from k5)]
            have b5' := b5.up (c := 333) (k := n) (v := v) (Or.inl rfl) (Or.inl (by decide))
            exact ⟨_, by rw [r5, p_xI, pl4, p_idx (by omega) (by omega), Int.toNat_natCast, mz_needSign (d := d) b5', p_xV, if_pos b5'.pos], b5'⟩
        · rw [if_neg c3, pB_f c3, if_pos rfl]
          refine fin _ _ N2 (by omega) R2 ⟨?_, ?_, ?_, ?_⟩
          · rw [c2 331 (by decide)]; exact v1.1
          · rw [c2 333 (by decide)]; exact v1.2.1
          · rw [c2 330 (by decide)]; exact v1.2.2.1
          · rw [c2 332 (by decide), v1.2.2.2]; rfl
      · rw [if_neg (show ¬ ps.length < 12 by omega)]
        exact ⟨h', by rw [r1, p_xV, if_pos b1.pos], b1⟩
    · obtain ⟨h', r1, b1, -⟩ := mx_syntax (d := d + 1) (L := L) N R.lim
      rw [if_neg c1, if_neg (fun y => c1 (kk.2.1.1 y))]
      exact ⟨h', by rw [r1, p_xV], b1⟩
end
