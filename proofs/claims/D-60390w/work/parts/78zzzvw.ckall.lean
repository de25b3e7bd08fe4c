/-! CHIPS, 23: the component looks at all chips -/
section
variable {d L : Nat} {K V P : Nat → Int} {Z i b c0 k : Nat} {chs : List cCh} {ch : cCh} {g h h' : am_H}
theorem ky_pins (hc : chs[c0]? = some ch) (E : kEx K V Z) (S : kK K V P Z chs h) (F : kfy g h) (hp : ∀ p ∈ ch.2.1, pfc K V Z p) (ha : ∀ j p, ch.2.1[j]? = some p → h (56 + c0) j = (p.1 : Int)) (u2 : Option am_V) : ∀ (m j : Nat), j + m = ch.2.1.length →
    match pnS V (cNm V ch) (ch.2.1.drop j) j with
    | some e => ∃ h', am_E (am_D (d + 3)) m_4_20 (.inl 5) [some (am_r (am_a 36)), some (am_r (am_a (83 + 7 * c0))), u2, some (am_i (j : Int))] [] (zS L, h) = kT L h' ∧ kFt P g e h'
    | none => am_E (am_D (d + 3)) m_4_20 (.inl 5) [some (am_r (am_a 36)), some (am_r (am_a (83 + 7 * c0))), u2, some (am_i (j : Int))] [] (zS L, h) = am_E (am_D (d + 3)) m_4_20 (.inl 7) [some (am_r (am_a 36)), some (am_r (am_a (83 + 7 * c0))), u2, some (am_i 0)] [] (zS L, h)
  | 0, j, hm => by
    have hcl := (List.getElem?_eq_some_iff.1 hc).1
    have G16 := S.2.1.1.2
    have C0 := CB_c L c0 (by omega)
    have g1 := (S.2.1.2.1 (2 + c0) (by omega)).1.1
    rw [kb_c, (kNm_c (V := V) hc).1] at g1
    have cl : (cNm V ch).length = ch.2.1.length := by unfold cNm; rw [List.length_map]
    rw [List.drop_eq_nil_of_le (by omega)]
    show am_E _ _ _ _ _ _ = _
    rw [q_4_20_5, C0.ob, g1, if_neg (by omega)]
  | m + 1, j, hm => by
    have hcl := (List.getElem?_eq_some_iff.1 hc).1
    have G16 := S.2.1.1.2
    have C0 := CB_c L c0 (by omega)
    have g1 := (S.2.1.2.1 (2 + c0) (by omega)).1
    rw [kb_c, (kNm_c (V := V) hc).1] at g1
    have cl : (cNm V ch).length = ch.2.1.length := by unfold cNm; rw [List.length_map]
    have hj : j < ch.2.1.length := by omega
    obtain ⟨p, hpe⟩ : ∃ p, p = ch.2.1[j] := ⟨_, rfl⟩
    have hpj : ch.2.1[j]? = some p := by rw [hpe]; exact List.getElem?_eq_getElem hj
    rw [List.drop_eq_getElem_cons hj, ← hpe, q_4_20_5, C0.ob, g1.1, if_pos (by omega), p_w (by omega) (by omega)]
    unfold pnS
    rcases ky_headF (d := d) (L := L) hc E S F hp hpj (ha j p hpj) with ⟨y1, h', r1, r2⟩ | ⟨y1, y2, h', r1, r2⟩ | ⟨y1, y2, r1⟩
    · rw [if_neg y1]
      exact ⟨h', by rw [r1, kT_V], r2⟩
    · rw [if_pos y1, if_neg y2]
      exact ⟨h', by rw [r1, kT_V], r2⟩
    · rw [if_pos y1, if_pos y2, r1, p_xV]
      exact ky_pins hc E S F hp ha u2 m (j + 1) (by omega)
theorem ky_givesA (hc : chs[c0]? = some ch) (E : kEx K V Z) (T : cht K V Z ch) (u2 : Option am_V) : ∀ (m j : Nat) {W : Nat → Int} {h : am_H}, j + m = ch.2.2.2.1.length → kK K V P Z chs h → gR c0 ch W h → ∃ h', am_E (am_D (d + 4)) m_4_20 (.inl 7) [some (am_r (am_a 36)), some (am_r (am_a (83 + 7 * c0))), u2, some (am_i (j : Int))] [] (zS L, h) = am_E (am_D (d + 4)) m_4_20 (.inl 9) [some (am_r (am_a 36)), some (am_r (am_a (83 + 7 * c0))), u2, some (am_i 0)] [] (zS L, h') ∧ gR c0 ch (gvs K V chs ch (ch.2.2.2.1.drop j) W) h' ∧ kfx (83 + 7 * c0) h h'
  | 0, j, W, h, hm, S, H => by
    have hcl := (List.getElem?_eq_some_iff.1 hc).1
    have G16 := S.2.1.1.2
    have C0 := CB_c L c0 (by omega)
    obtain ⟨-, ⟨g1, g2⟩, -⟩ := S.2.1.2.2 c0 ch hc
    rw [q_4_20_7, C0.ob, g1, if_neg (by omega), List.drop_eq_nil_of_le (by omega)]
    exact ⟨h, rfl, H, kfx.refl _ h⟩
  | m + 1, j, W, h, hm, S, H => by
    have hcl := (List.getElem?_eq_some_iff.1 hc).1
    have G16 := S.2.1.1.2
    have C0 := CB_c L c0 (by omega)
    obtain ⟨-, ⟨g1, g2⟩, -, g3, -⟩ := S.2.1.2.2 c0 ch hc
    have hj : j < ch.2.2.2.1.length := by omega
    obtain ⟨q, hqe⟩ : ∃ q, q = ch.2.2.2.1[j] := ⟨_, rfl⟩
    have hqj : ch.2.2.2.1[j]? = some q := by rw [hqe]; exact List.getElem?_eq_getElem hj
    rw [q_4_20_7, C0.ob, g1, if_pos (by omega), C0.ob, CB.r8, C0.a3, p_idx (by omega) (by omega), Int.toNat_natCast, g3 j q hqj, p_w (by omega) (by omega)]
    obtain ⟨h1, r1, H1, f1⟩ := ky_gives (d := d) (L := L) hc E (T.2.2.2 q (List.mem_of_getElem? hqj)) S H
    rw [r1, p_xV]
    obtain ⟨h2, r2, H2, f2⟩ := ky_givesA hc E T u2 m (j + 1) (by omega) (S.fx f1) H1
    refine ⟨h2, r2, ?_, f1.trans f2⟩
    rw [List.drop_eq_getElem_cons hj, ← hqe]
    exact H2
theorem ky_z54 (hc : chs[c0]? = some ch) (u2 : Option am_V) : ∀ (m j : Nat) {h : am_H}, j + m = ch.2.1.length → kK K V P Z chs h → (∀ a, a < j → h 54 a = 0) → ∃ h', am_E (am_D d) m_4_20 (.inl 9) [some (am_r (am_a 36)), some (am_r (am_a (83 + 7 * c0))), u2, some (am_i (j : Int))] [] (zS L, h) = am_E (am_D d) m_4_20 (.inl 11) [some (am_r (am_a 36)), some (am_r (am_a (83 + 7 * c0))), u2, some (am_i 0)] [] (zS L, h') ∧ (∀ a, a < ch.2.1.length → h' 54 a = 0) ∧ p_fr [54] [] h h'
  | 0, j, h, hm, S, H => by
    have hcl := (List.getElem?_eq_some_iff.1 hc).1
    have G16 := S.2.1.1.2
    have C0 := CB_c L c0 (by omega)
    have g1 := (S.2.1.2.1 (2 + c0) (by omega)).1.1
    rw [kb_c, (kNm_c (V := V) hc).1] at g1
    have cl : (cNm V ch).length = ch.2.1.length := by unfold cNm; rw [List.length_map]
    rw [q_4_20_9, C0.ob, g1, if_neg (by omega)]
    exact ⟨h, rfl, fun a ha => H a (by omega), p_fr.refl h⟩
  | m + 1, j, h, hm, S, H => by
    have hcl := (List.getElem?_eq_some_iff.1 hc).1
    have G16 := S.2.1.1.2
    have C0 := CB_c L c0 (by omega)
    have g1 := (S.2.1.2.1 (2 + c0) (by omega)).1
    rw [kb_c, (kNm_c (V := V) hc).1] at g1
    have cl : (cNm V ch).length = ch.2.1.length := by unfold cNm; rw [List.length_map]
    rw [q_4_20_9, C0.ob, g1.1, if_pos (by omega), p_idx (by omega) (by omega), Int.toNat_natCast, p_w (by omega) (by omega)]
    have x : kfx (83 + 7 * c0) h (am_up h 54 j 0) := (kfx.refl _ h).up (by omega)
    obtain ⟨h1, r1, H1, f1⟩ := ky_z54 hc u2 m (j + 1) (h := am_up h 54 j 0) (by omega) (S.fx x) (fun a ha => by
      by_cases ea : a = j
      · rw [ea, p_up_s]
      · rw [p_up_n _ _ _ _ _ _ (Or.inr ea)]; exact H a (by omega))
    exact ⟨h1, r1, H1, ((p_fr.refl h).upc _ _ _ rfl).trans f1⟩
theorem ky_zgv (hc : chs[c0]? = some ch) (u2 : Option am_V) : ∀ (m j : Nat) {h : am_H}, j + m = ch.2.2.2.2.length → kK K V P Z chs h → (∀ a, a < j → h (83 + 7 * c0 + 6) a = 0) → ∃ h', am_E (am_D d) m_4_20 (.inl 11) [some (am_r (am_a 36)), some (am_r (am_a (83 + 7 * c0))), u2, some (am_i (j : Int))] [] (zS L, h) = am_E (am_D d) m_4_20 (.inl 13) [some (am_r (am_a 36)), some (am_r (am_a (83 + 7 * c0))), u2, some (am_i 0)] [] (zS L, h') ∧ (∀ a, a < ch.2.2.2.2.length → h' (83 + 7 * c0 + 6) a = 0) ∧ (∀ c k, c ≠ 83 + 7 * c0 + 6 → h' c k = h c k)
  | 0, j, h, hm, S, H => by
    have hcl := (List.getElem?_eq_some_iff.1 hc).1
    have G16 := S.2.1.1.2
    have C0 := CB_c L c0 (by omega)
    obtain ⟨-, -, ⟨g1, g2⟩, -⟩ := S.2.1.2.2 c0 ch hc
    rw [q_4_20_11, C0.ob, g1, if_neg (by omega)]
    exact ⟨h, rfl, fun a ha => H a (by omega), fun _ _ _ => rfl⟩
  | m + 1, j, h, hm, S, H => by
    have hcl := (List.getElem?_eq_some_iff.1 hc).1
    have G16 := S.2.1.1.2
    have C0 := CB_c L c0 (by omega)
    obtain ⟨-, -, ⟨g1, g2⟩, -⟩ := S.2.1.2.2 c0 ch hc
    rw [q_4_20_11, C0.ob, g1, if_pos (by omega), C0.ob, p_bit0, CB.r11, C0.a6, p_idx (by omega) (by omega), Int.toNat_natCast, beq_b 5, p_w (by omega) (by omega)]
    have x : kfx (83 + 7 * c0) h (am_up h (83 + 7 * c0 + 6) j 0) := (kfx.refl _ h).up (by omega)
    obtain ⟨h1, r1, H1, f1⟩ := ky_zgv hc u2 m (j + 1) (h := am_up h (83 + 7 * c0 + 6) j 0) (by omega) (S.fx x) (fun a ha => by
      by_cases ea : a = j
      · rw [ea, p_up_s]
      · rw [p_up_n _ _ _ _ _ _ (Or.inr ea)]; exact H a (by omega))
    exact ⟨h1, r1, H1, fun c k hc => by rw [f1 c k hc, p_up_c _ _ _ _ _ hc]⟩
theorem ky_linksA (hc : chs[c0]? = some ch) (E : kEx K V Z) (T : cht K V Z ch) {W : Nat → Int} (u2 : Option am_V) : ∀ (m j : Nat) {s : (Nat → Int) × (Nat → Int)} {h : am_H}, j + m = ch.2.2.2.1.length → kK K V P Z chs h → kfy g h → oR c0 ch W s h →
    match prsS K V chs ch W (ch.2.2.2.1.drop j) s with
    | .inl e => ∃ h', am_E (am_D (d + 6)) m_4_20 (.inl 13) [some (am_r (am_a 36)), some (am_r (am_a (83 + 7 * c0))), u2, some (am_i (j : Int))] [] (zS L, h) = kT L h' ∧ kFt P g e h'
    | .inr u => ∃ h', am_E (am_D (d + 6)) m_4_20 (.inl 13) [some (am_r (am_a 36)), some (am_r (am_a (83 + 7 * c0))), u2, some (am_i (j : Int))] [] (zS L, h) = pV L h' ∧ oR c0 ch W u h' ∧ kfx (83 + 7 * c0) h h'
  | 0, j, s, h, hm, S, F, H => by
    have hcl := (List.getElem?_eq_some_iff.1 hc).1
    have G16 := S.2.1.1.2
    have C0 := CB_c L c0 (by omega)
    obtain ⟨-, ⟨g1, g2⟩, -⟩ := S.2.1.2.2 c0 ch hc
    rw [q_4_20_13, C0.ob, g1, if_neg (by omega), List.drop_eq_nil_of_le (by omega)]
    exact ⟨h, rfl, H, kfx.refl _ h⟩
  | m + 1, j, s, h, hm, S, F, H => by
    have hcl := (List.getElem?_eq_some_iff.1 hc).1
    have G16 := S.2.1.1.2
    have hb : 83 ≤ 83 + 7 * c0 ∧ 83 + 7 * c0 ≤ 188 := by omega
    have C0 := CB_c L c0 (by omega)
    obtain ⟨-, ⟨g1, g2⟩, -, g3, -⟩ := S.2.1.2.2 c0 ch hc
    have hj : j < ch.2.2.2.1.length := by omega
    obtain ⟨q, hqe⟩ : ∃ q, q = ch.2.2.2.1[j] := ⟨_, rfl⟩
    have hqj : ch.2.2.2.1[j]? = some q := by rw [hqe]; exact List.getElem?_eq_getElem hj
    have hqm := List.mem_of_getElem? hqj
    rw [q_4_20_13, C0.ob, g1, if_pos (by omega), C0.ob, CB.r8, C0.a3, p_idx (by omega) (by omega), Int.toNat_natCast, g3 j q hqj, p_w (by omega) (by omega), List.drop_eq_getElem_cons hj, ← hqe]
    have lk := ky_links (d := d) (L := L) (g := g) hc E T.2.1 hqm (T.2.2.2 q hqm) S F H
    unfold prsS
    cases hx : prS K V chs ch W q s with
    | inl e =>
      rw [hx] at lk
      obtain ⟨h', r1, r2⟩ := lk
      exact ⟨h', by rw [r1, kT_V], r2⟩
    | inr u =>
      rw [hx] at lk
      obtain ⟨h1, r1, H1, f1⟩ := lk
      dsimp only
      rw [r1, p_xV]
      have ih := ky_linksA hc E T u2 m (j + 1) (by omega) (S.fx f1) (F.trans (f1.y hb)) H1
      cases hy : prsS K V chs ch W (ch.2.2.2.1.drop (j + 1)) u with
      | inl e => rw [hy] at ih; exact ih
      | inr v =>
        rw [hy] at ih
        obtain ⟨h2, r2, H2, f2⟩ := ih
        exact ⟨h2, r2, H2, f1.trans f2⟩
theorem kb_inj {a b : Nat} (h : kb a = kb b) : a = b := by
  unfold kb at h
  split at h <;> split at h <;> omega
theorem ky_look2 (hc : chs[c0]? = some ch) (E : kEx K V Z) (T : cht K V Z ch) (S : kK K V P Z chs h) (F : kfy g h) (ha : ∀ j p, ch.2.1[j]? = some p → h (56 + c0) j = (p.1 : Int)) (H : gR c0 ch (fun _ => 0) h) (u2 u3 : Option am_V) :
    match ckS K V chs c0 ch with
    | some e => ∃ h', am_E (am_D (d + 6)) m_4_20 (.inl 2) [some (am_r (am_a 36)), some (am_r (am_a (83 + 7 * c0))), u2, u3] [] (zS L, h) = kT L h' ∧ kFt P g e h'
    | none => ∃ h', am_E (am_D (d + 6)) m_4_20 (.inl 2) [some (am_r (am_a 36)), some (am_r (am_a (83 + 7 * c0))), u2, u3] [] (zS L, h) = pV L h' ∧ (∀ j, j < ch.2.2.2.2.length → h' (83 + 7 * c0 + 5) j = cIW K V chs ch j) ∧ kfx (83 + 7 * c0) h h' := by
  have hcl := (List.getElem?_eq_some_iff.1 hc).1
  have G16 := S.2.1.1.2
  have hb : 83 ≤ 83 + 7 * c0 ∧ 83 + 7 * c0 ≤ 188 := by omega
  have C0 := CB_c L c0 (by omega)
  obtain ⟨⟨n1, n2⟩, -⟩ := S.2.1.2.2 c0 ch hc
  rw [q_4_20_2, C0.ob, n1, ky_find (d := d + 5) S.2.1, p_xR]
  unfold ckS hdS
  have bad : kOf V chs (V ch.1) ≠ some (2 + c0) → ∀ (A B : Option am_O), (A = am_xV (zS L) (am_D (d + 6) 4 6 [am_r (am_a 36), am_i 0, am_i 3, am_i (h (83 + 7 * c0) 1)] (zS L, h)) (am_up1 (zS L)) fun h7 => am_E (am_D (d + 6)) m_4_20 (.inl 5) [some (am_r (am_a 36)), some (am_r (am_a (83 + 7 * c0))), u2, some (am_i 0)] [] (zS L, h7)) → ∃ h', am_acmp .ne (kref (kOf V chs (V ch.1))) (am_a (83 + 7 * c0)) A B = kT L h' ∧ kFt P g (3, ch.1) h' := by
    intro hne A B hAx
    obtain ⟨h', r1, r2⟩ := ky_no (d := d + 4) (L := L) (P := P) F 3 ch.1
    refine ⟨h', ?_, r2⟩
    have : am_acmp .ne (kref (kOf V chs (V ch.1))) (am_a (83 + 7 * c0)) A B = A := by
      cases ho : kOf V chs (V ch.1) with
      | none => rfl
      | some k =>
        rw [show kref (some k) = am_a (kb k) from rfl, acmp_n, if_neg]
        intro z
        rw [← kb_c c0] at z
        exact hne (by rw [ho, kb_inj z])
    rw [this, hAx, n2, r1, kT_V]
  by_cases y : kOf V chs (V ch.1) = some (2 + c0)
  · rw [if_pos y]
    rw [y, show kref (some (2 + c0)) = am_a (kb (2 + c0)) from rfl, kb_c, acmp_n, if_pos rfl, C0.ob, ky_ok, p_xV]
    have pn := ky_pins (d := d + 3) (L := L) (g := g) hc E S F T.2.2.1 ha u2 ch.2.1.length 0 (by omega)
    rw [List.drop_zero, show ((0 : Nat) : Int) = 0 from rfl] at pn
    cases hx : pnS V (cNm V ch) ch.2.1 0 with
    | some e => rw [hx] at pn; exact pn
    | none =>
      rw [hx] at pn
      dsimp only at pn ⊢
      rw [pn]
      obtain ⟨h1, r1, H1, f1⟩ := ky_givesA (d := d + 2) (L := L) hc E T u2 ch.2.2.2.1.length 0 (by omega) S H
      rw [List.drop_zero] at H1
      rw [show ((0 : Nat) : Int) = 0 from rfl] at r1
      rw [r1]
      have S1 := S.fx f1
      obtain ⟨h2, r2, H2, f2⟩ := ky_z54 (d := d + 6) (L := L) hc u2 ch.2.1.length 0 (by omega) S1 (fun a ha => by omega)
      rw [show ((0 : Nat) : Int) = 0 from rfl] at r2
      rw [r2]
      have x2 : kfx (83 + 7 * c0) h h2 := f1.trans (fun c k a1 a2 a3 a4 a5 => f2 c k (by simp; exact a2) rfl)
      have S2 := S.fx x2
      obtain ⟨h3, r3, H3, f3⟩ := ky_zgv (d := d + 6) (L := L) hc u2 ch.2.2.2.2.length 0 (by omega) S2 (fun a ha => by omega)
      rw [show ((0 : Nat) : Int) = 0 from rfl] at r3
      rw [r3]
      have x3 : kfx (83 + 7 * c0) h h3 := x2.trans (fun c k a1 a2 a3 a4 a5 => f3 c k a4)
      have O3 : oR c0 ch (cIW K V chs ch) (fun _ => 0, fun _ => 0) h3 := by
        refine ⟨fun j hj => ?_, fun j hj => H3 j hj, fun j hj => ?_⟩
        · rw [f3 54 j (by omega)]; exact H2 j hj
        · rw [f3 _ j (by omega), f2 _ j (by simp; omega) rfl]; exact (H1 j hj).1
      have ll := ky_linksA (d := d) (L := L) (g := g) hc E T u2 ch.2.2.2.1.length 0 (by omega) (S.fx x3) (F.trans (x3.y hb)) O3
      rw [List.drop_zero, show ((0 : Nat) : Int) = 0 from rfl] at ll
      cases hz : prsS K V chs ch (cIW K V chs ch) ch.2.2.2.1 (fun _ => 0, fun _ => 0) with
      | inl e => rw [hz] at ll; exact ll
      | inr v =>
        rw [hz] at ll
        obtain ⟨h4, r4, H4, f4⟩ := ll
        exact ⟨h4, r4, H4.2.2, x3.trans f4⟩
  · rw [if_neg y]
    exact bad y _ _ (by rw [C0.ob])
/-- the gates, as the constructor has made them -/
def gT (h : am_H) : Prop := (h 38 2 = 3 ∧ h 38 3 = 2 ∧ h 45 2 = 2 ∧ h 45 3 = 1) ∧ (h 39 0 = 8 ∧ h 39 1 = 9 ∧ h 39 2 = 11 ∧ h 46 0 = 10 ∧ h 46 1 = 11) ∧ h 40 0 = 1 ∧ h 40 1 = 1 ∧ h 40 2 = 1 ∧ h 47 0 = 1 ∧ h 47 1 = 1
theorem gT.fr (G : gT h) (e : ∀ c k, 38 ≤ c → c ≤ 47 → h' c k = h c k) : gT h' := by
  unfold gT
  rw [e 38 2 (by omega) (by omega), e 38 3 (by omega) (by omega), e 45 2 (by omega) (by omega), e 45 3 (by omega) (by omega), e 39 0 (by omega) (by omega), e 39 1 (by omega) (by omega), e 39 2 (by omega) (by omega), e 46 0 (by omega) (by omega), e 46 1 (by omega) (by omega), e 40 0 (by omega) (by omega), e 40 1 (by omega) (by omega), e 40 2 (by omega) (by omega), e 47 0 (by omega) (by omega), e 47 1 (by omega) (by omega)]
  exact G
theorem getE3 {a b c : Int} {j : Nat} {y : Int} (h : [a, b, c][j]? = some y) : j = 0 ∧ y = a ∨ j = 1 ∧ y = b ∨ j = 2 ∧ y = c := by
  rcases j with _ | _ | _ | j
  · exact Or.inl ⟨rfl, (Option.some.inj h).symm⟩
  · exact Or.inr (Or.inl ⟨rfl, (Option.some.inj h).symm⟩)
  · exact Or.inr (Or.inr ⟨rfl, (Option.some.inj h).symm⟩)
  · cases h
theorem getE2 {a b : Int} {j : Nat} {y : Int} (h : [a, b][j]? = some y) : j = 0 ∧ y = a ∨ j = 1 ∧ y = b := by
  rcases j with _ | _ | j
  · exact Or.inl ⟨rfl, (Option.some.inj h).symm⟩
  · exact Or.inr ⟨rfl, (Option.some.inj h).symm⟩
  · cases h
theorem kG_of (C : kCs V P chs h) (G : gT h) : kG V P chs h := by
  obtain ⟨c1, c2, c3⟩ := C
  obtain ⟨⟨a1, a2, a3, a4⟩, ⟨b1, b2, b3, b4, b5⟩, -⟩ := G
  refine ⟨⟨c1, c2⟩, fun k hk => ?_, fun c ch hc => ?_⟩
  · rcases k_cases hk with rfl | rfl | ⟨c, ch, rfl, hc⟩
    · refine ⟨⟨a1, Nat.le_of_ble_eq_true rfl⟩, a2, fun j y hy => ?_⟩
      rcases getE3 hy with ⟨rfl, rfl⟩ | ⟨rfl, rfl⟩ | ⟨rfl, rfl⟩
      · exact b1
      · exact b2
      · exact b3
    · refine ⟨⟨a3, Nat.le_of_ble_eq_true rfl⟩, a4, fun j y hy => ?_⟩
      rcases getE2 hy with ⟨rfl, rfl⟩ | ⟨rfl, rfl⟩
      · exact b4
      · exact b5
    · obtain ⟨-, d2, d3, -, -, d4, -⟩ := c3 c ch hc
      rw [kb_c, (kNm_c (V := V) hc).1, (kNm_c (V := V) hc).2.2]
      have cl : (cNm V ch).length = ch.2.1.length := by unfold cNm; rw [List.length_map]
      rw [cl]
      refine ⟨d2, d3, fun j y hy => ?_⟩
      unfold cNm at hy
      rw [List.getElem?_map] at hy
      cases hp : ch.2.1[j]? with
      | none => rw [hp] at hy; cases hy
      | some p => rw [hp] at hy; cases hy; exact (d4 j p hp).1
  · obtain ⟨d1, -, -, d2, d3, -, d4, d5⟩ := c3 c ch hc
    exact ⟨d1, d2, d3, d4, fun k t ht => (d5 k t ht).1⟩
/-- heads of the chips before c are done -/
def hAx (V : Nat → Int) (chs : List cCh) (c : Nat) (h : am_H) : Prop := ∀ c' ch, chs[c']? = some ch → hdR V c' ch (if c' < c then ch.2.1.length else 0) h
def hdA (h h' : am_H) : Prop := ∀ a k, (a < 56 ∨ 71 < a) → (a < 83 ∨ 194 < a ∨ (a - 83) % 7 ≠ 2) → h' a k = h a k
theorem kG.hd (G : kG V P chs h) (f : hdA h h') : kG V P chs h' := by
  obtain ⟨⟨g1, g2⟩, g3, g4⟩ := G
  refine ⟨⟨by rw [f 36 6 (by omega) (by omega)]; exact g1, g2⟩, fun k hk => ?_, fun c ch hc => ?_⟩
  · obtain ⟨a1, a2, a3⟩ := g3 k hk
    have e0 : ∀ j, h' (kb k) j = h (kb k) j := fun j => f _ _ (by rcases kb_lo k with z | z | ⟨c, z1, z2⟩ <;> omega) (by rcases kb_lo k with z | z | ⟨c, z1, z2⟩ <;> omega)
    have e1 : ∀ j, h' (kb k + 1) j = h (kb k + 1) j := fun j => f _ _ (by rcases kb_lo k with z | z | ⟨c, z1, z2⟩ <;> omega) (by rcases kb_lo k with z | z | ⟨c, z1, z2⟩ <;> omega)
    rw [e0, e0]
    exact ⟨a1, a2, fun j y hy => by rw [e1]; exact a3 j y hy⟩
  · obtain ⟨a1, a2, a3, a4, a5⟩ := g4 c ch hc
    have eb : ∀ k, h' (83 + 7 * c) k = h (83 + 7 * c) k := fun k => f _ _ (by omega) (by omega)
    have e3 : ∀ k, h' (83 + 7 * c + 3) k = h (83 + 7 * c + 3) k := fun k => f _ _ (by omega) (by omega)
    have e4 : ∀ k, h' (83 + 7 * c + 4) k = h (83 + 7 * c + 4) k := fun k => f _ _ (by omega) (by omega)
    rw [eb, eb, eb, eb]
    exact ⟨a1, a2, a3, fun k q hq => by rw [e3]; exact a4 k q hq, fun k t ht => by rw [e4]; exact a5 k t ht⟩
theorem hdf.A {c : Nat} (hc : c < 16) (f : hdf c h h') : hdA h h' := fun a k h1 h2 => f a k (by omega) (by omega)
theorem ky_heads (E : kEx K V Z) (T : ∀ ch ∈ chs, cht K V Z ch) (X1 : am_R) (u2 : Option am_V) : ∀ (m c : Nat) {h : am_H}, c + m = chs.length → kR K V P Z h → kG V P chs h → hAx V chs c h → ∃ h' u3, am_E (am_D (d + 2)) m_4_20 (.inl 1) [some (am_r (am_a 36)), some (am_r X1), u2, some (am_i (c : Int))] [] (zS L, h) = am_E (am_D (d + 2)) m_4_20 (.inl 2) [some (am_r (am_a 36)), some (am_r X1), u2, u3] [] (zS L, h') ∧ hAx V chs chs.length h' ∧ hdA h h'
  | 0, c, h, hm, R, G, H => by
    rw [q_4_20_1, G.1.1, if_neg (by omega)]
    exact ⟨h, _, rfl, by rw [show chs.length = c by omega]; exact H, fun _ _ _ _ => rfl⟩
  | m + 1, c, h, hm, R, G, H => by
    have G16 := G.1.2
    obtain ⟨ch, hce⟩ : ∃ ch, ch = chs[c] := ⟨_, rfl⟩
    have hc : chs[c]? = some ch := by rw [hce]; exact List.getElem?_eq_getElem (by omega)
    have hm' := List.mem_of_getElem? hc
    have Tc := T ch hm'
    have g1 := (G.2.1 (2 + c) (by omega)).1
    rw [kb_c, (kNm_c (V := V) hc).1] at g1
    have cl : (cNm V ch).length = ch.2.1.length := by unfold cNm; rw [List.length_map]
    rw [cl] at g1
    have H0 := H c ch hc
    rw [if_neg (by omega)] at H0
    rw [q_4_20_1, G.1.1, if_pos (by omega), p_idx (by omega) (by omega), Int.toNat_natCast, CHS_at c (by omega), D_4_21]
    obtain ⟨h1, r1, f1, H1⟩ := ky_heads_l (d := d) (L := L) (c := c) (by omega) E Tc.2.2.1 g1.2 ch.2.1.length 0 none (by omega) R g1.1 H0
    rw [show ((0 : Nat) : Int) = 0 from rfl] at r1
    rw [r1, p_xV, p_w (by omega) (by omega)]
    have HA : hAx V chs (c + 1) h1 := fun c' ch' hc' => by
      by_cases e : c' = c
      · subst e
        rw [hc] at hc'; cases hc'
        rw [if_pos (by omega)]; exact H1
      · have h0 := H c' ch' hc'
        have l' := (List.getElem?_eq_some_iff.1 hc').1
        have ee : ∀ j, h1 (56 + c') j = h (56 + c') j ∧ h1 (83 + 7 * c' + 2) j = h (83 + 7 * c' + 2) j := fun j => ⟨f1 _ _ (by omega) (by omega), f1 _ _ (by omega) (by omega)⟩
        intro j p hp
        have := h0 j p hp
        rw [(ee j).1, (ee j).2]
        by_cases lt : c' < c
        · rw [if_pos (by omega)]; rw [if_pos lt] at this; exact this
        · rw [if_neg (by omega)]; rw [if_neg lt] at this; exact this
    obtain ⟨h2, u3, r2, H2, f2⟩ := ky_heads E T X1 u2 m (c + 1) (by omega) (R.hd (by omega) f1) (G.hd (f1.A (by omega))) HA
    exact ⟨h2, u3, r2, H2, fun a k h1' h2' => (f2 a k h1' h2').trans ((f1.A (by omega)) a k h1' h2')⟩
theorem kGw_of (H : hAx V chs chs.length h) (G : gT h) : kGw V chs h := by
  obtain ⟨-, -, b1, b2, b3, b4, b5⟩ := G
  intro k hk j y hy
  rcases k_cases hk with rfl | rfl | ⟨c, ch, rfl, hc⟩
  · rcases getE3 hy with ⟨rfl, rfl⟩ | ⟨rfl, rfl⟩ | ⟨rfl, rfl⟩
    · exact b1
    · exact b2
    · exact b3
  · rcases getE2 hy with ⟨rfl, rfl⟩ | ⟨rfl, rfl⟩
    · exact b4
    · exact b5
  · rw [(kNm_c (V := V) hc).2.1] at hy
    unfold cWs at hy
    rw [List.getElem?_map] at hy
    cases hp : ch.2.1[j]? with
    | none => rw [hp] at hy; cases hy
    | some p =>
      rw [hp] at hy; cases hy
      have l' := (List.getElem?_eq_some_iff.1 hc).1
      have := H c ch hc j p hp
      rw [if_pos l'] at this
      rw [kb_c]
      exact (this.1 (List.getElem?_eq_some_iff.1 hp).1).2
/-- between the looks at chips -/
def lA (K V P : Nat → Int) (Z : Nat) (chs : List cCh) (c : Nat) (h : am_H) : Prop := kK K V P Z chs h ∧ (∀ c' ch, chs[c']? = some ch → ∀ j p, ch.2.1[j]? = some p → h (56 + c') j = (p.1 : Int)) ∧ (∀ c' ch, chs[c']? = some ch → c ≤ c' → gR c' ch (fun _ => 0) h) ∧ ∀ c' ch, chs[c']? = some ch → c' < c → ∀ j, j < ch.2.2.2.2.length → h (83 + 7 * c' + 5) j = cIW K V chs ch j
theorem lA.next {c : Nat} (H : lA K V P Z chs c h) (hc : chs[c]? = some ch) (f : kfx (83 + 7 * c) h h') (hw : ∀ j, j < ch.2.2.2.2.length → h' (83 + 7 * c + 5) j = cIW K V chs ch j) : lA K V P Z chs (c + 1) h' := by
  obtain ⟨h1, h2, h3, h4⟩ := H
  have G16 := h1.2.1.1.2
  refine ⟨h1.fx f, fun c' ch' hc' j p hp => ?_, fun c' ch' hc' hl j hj => ?_, fun c' ch' hc' hl j hj => ?_⟩
  · have l' := (List.getElem?_eq_some_iff.1 hc').1
    rw [f _ _ (by omega) (by omega) (by omega) (by omega) (by omega)]; exact h2 c' ch' hc' j p hp
  · rw [f _ _ (by omega) (by omega) (by omega) (by omega) (by omega), f _ _ (by omega) (by omega) (by omega) (by omega) (by omega)]
    exact h3 c' ch' hc' (by omega) j hj
  · by_cases e : c' = c
    · subst e
      rw [hc] at hc'; cases hc'
      exact hw j hj
    · rw [f _ _ (by omega) (by omega) (by omega) (by omega) (by omega)]
      exact h4 c' ch' hc' (by omega) j hj
theorem ky_looks (E : kEx K V Z) (T : ∀ ch ∈ chs, cht K V Z ch) (u1 : Option am_V) : ∀ (m c : Nat) {h : am_H}, c + m = chs.length → 1 ≤ c → lA K V P Z chs c h → kfy g h →
    match cksS K V chs (chs.drop c) c with
    | some e => ∃ h', am_E (am_D (d + 7)) m_4_13 (.inl 2) [some (am_r (am_a 36)), u1, some (am_i (c : Int))] [] (zS L, h) = pI L e.1 h' ∧ h' 36 8 = P e.2 ∧ h' 36 6 = 0 ∧ kfy g h'
    | none => ∃ h', am_E (am_D (d + 7)) m_4_13 (.inl 2) [some (am_r (am_a 36)), u1, some (am_i (c : Int))] [] (zS L, h) = am_E (am_D (d + 7)) m_4_13 (.inl 4) [some (am_r (am_a 36)), u1, some (am_i 0)] [] (zS L, h') ∧ lA K V P Z chs chs.length h' ∧ kfy g h' ∧ h' 36 8 = h 36 8
  | 0, c, h, hm, h1c, H, F => by
    rw [List.drop_eq_nil_of_le (by omega), q_4_13_2, H.1.2.1.1.1, if_neg (by omega)]
    exact ⟨h, rfl, by rw [show chs.length = c by omega]; exact H, F, rfl⟩
  | m + 1, c, h, hm, h1c, H, F => by
    have G16 := H.1.2.1.1.2
    obtain ⟨ch, hce⟩ : ∃ ch, ch = chs[c] := ⟨_, rfl⟩
    have hc : chs[c]? = some ch := by rw [hce]; exact List.getElem?_eq_getElem (by omega)
    have Tc := T ch (List.mem_of_getElem? hc)
    rw [List.drop_eq_getElem_cons (by omega : c < chs.length), ← hce, q_4_13_2, H.1.2.1.1.1, if_pos (by omega), p_idx (by omega) (by omega), Int.toNat_natCast, CHS_at c (by omega), D_4_20, if_neg (by omega)]
    have lk := ky_look2 (d := d) (L := L) (g := g) hc E Tc H.1 F (H.2.1 c ch hc) (H.2.2.1 c ch hc (Nat.le_refl _)) (some (am_i (c : Int))) none
    unfold cksS
    cases hx : ckS K V chs c ch with
    | some e =>
      rw [hx] at lk
      obtain ⟨h', r1, r2⟩ := lk
      refine ⟨am_up h' 36 6 0, ?_, ?_, p_up_s _ _ _ _, r2.2.2.up (by omega)⟩
      · rw [r1, p_xVt, p_obj (show (zS L)[52]? = some (0, 20, []) from rfl), q_4_13_8, r2.1]
      · rw [p_up_n _ _ _ _ _ _ (Or.inr (by decide))]; exact r2.2.1
    | none =>
      rw [hx] at lk
      obtain ⟨h1, r1, w1, f1⟩ := lk
      dsimp only
      rw [r1, p_xV, p_w (by omega) (by omega)]
      have hb : 83 ≤ 83 + 7 * c ∧ 83 + 7 * c ≤ 188 := by omega
      have ih := ky_looks E T u1 m (c + 1) (by omega) (by omega) (H.next hc f1 w1) (F.trans (f1.y hb))
      cases hy : cksS K V chs (chs.drop (c + 1)) (c + 1) with
      | some e => rw [hy] at ih; exact ih
      | none =>
        rw [hy] at ih
        obtain ⟨h2, r2, H2, F2, e8⟩ := ih
        exact ⟨h2, r2, H2, F2, by rw [e8, f1 36 8 (by decide) (by decide) (by omega) (by omega) (by omega)]⟩
theorem ky_all (E : kEx K V Z) (T : ∀ ch ∈ chs, cht K V Z ch) (h1 : 1 ≤ chs.length) (R : kR K V P Z h) (C : kCs V P chs h) (G : gT h) (u1 : Option am_V) :
    match cksS K V chs chs 0 with
    | some e => ∃ h', am_E (am_D (d + 7)) m_4_13 (.inl 2) [some (am_r (am_a 36)), u1, some (am_i 0)] [] (zS L, h) = pI L e.1 h' ∧ h' 36 8 = P e.2 ∧ h' 36 6 = 0 ∧ kfy h h'
    | none => ∃ h', am_E (am_D (d + 7)) m_4_13 (.inl 2) [some (am_r (am_a 36)), u1, some (am_i 0)] [] (zS L, h) = am_E (am_D (d + 7)) m_4_13 (.inl 4) [some (am_r (am_a 36)), u1, some (am_i 0)] [] (zS L, h') ∧ lA K V P Z chs chs.length h' ∧ kfy h h' ∧ h' 36 8 = h 36 8 := by
  have G16 := C.2.1
  have KG := kG_of C G
  obtain ⟨ch, hce⟩ : ∃ ch, ch = chs[0] := ⟨_, rfl⟩
  have hc : chs[0]? = some ch := by rw [hce]; exact List.getElem?_eq_getElem (by omega)
  have Tc := T ch (List.mem_of_getElem? hc)
  have H0 : hAx V chs 0 h := fun c' ch' hc' => by
    rw [if_neg (by omega)]
    intro j p hp
    refine ⟨fun hk => by omega, fun _ => ?_⟩
    exact ((C.2.2 c' ch' hc').2.2.2.2.2.1 j p hp).2
  obtain ⟨h2, u3, r2, H2, f2⟩ := ky_heads (d := d + 4) (L := L) E T (am_a (83 + 7 * 0)) (some (am_i 0)) chs.length 0 (by omega) R KG H0
  have G2 : gT h2 := G.fr (fun c k a b => f2 c k (by omega) (by omega))
  have R2 : kR K V P Z h2 := R.fr (funext fun k => f2 78 k (by omega) (by omega)) (funext fun k => f2 79 k (by omega) (by omega)) (funext fun k => f2 80 k (by omega) (by omega))
  have S2 : kK K V P Z chs h2 := ⟨R2, KG.hd f2, kGw_of H2 G2⟩
  have L2 : lA K V P Z chs 0 h2 := by
    refine ⟨S2, fun c' ch' hc' j p hp => ?_, fun c' ch' hc' _ j hj => ?_, fun c' ch' hc' hl => by omega⟩
    · have := H2 c' ch' hc' j p hp
      rw [if_pos (List.getElem?_eq_some_iff.1 hc').1] at this
      exact (this.1 (List.getElem?_eq_some_iff.1 hp).1).1
    · obtain ⟨t, ht⟩ : ∃ t, ch'.2.2.2.2[j]? = some t := ⟨_, List.getElem?_eq_getElem hj⟩
      obtain ⟨-, z1, z2⟩ := (C.2.2 c' ch' hc').2.2.2.2.2.2.2 j t ht
      rw [f2 _ _ (by omega) (by omega), f2 _ _ (by omega) (by omega), z1, z2]
      exact ⟨rfl, rfl⟩
  have F2 : kfy h h2 := fun c k a1 a2 a3 a4 a5 => f2 c k (by omega) (by omega)
  rw [q_4_13_2, C.1, if_pos (by omega), p_idx (by omega) (by omega), show (0 : Int).toNat = 0 from rfl, CHS_at 0 (by omega), D_4_20, if_pos rfl]
  rw [show ((0 : Nat) : Int) = 0 from rfl] at r2
  rw [r2]
  have lk := ky_look2 (d := d) (L := L) (g := h) hc E Tc S2 F2 (L2.2.1 0 ch hc) (L2.2.2.1 0 ch hc (Nat.le_refl _)) (some (am_i 0)) u3
  have dr : chs = ch :: chs.drop 1 := by
    have := List.drop_eq_getElem_cons (by omega : 0 < chs.length)
    rw [List.drop_zero] at this
    rw [hce]; exact this
  have ce : cksS K V chs chs 0 = match ckS K V chs 0 ch with
      | some e => some e
      | none => cksS K V chs (chs.drop 1) 1 := by
    conv => lhs; rw [show cksS K V chs chs 0 = cksS K V chs (ch :: chs.drop 1) 0 from congrArg (fun l => cksS K V chs l 0) dr]
    rfl
  rw [ce]
  cases hx : ckS K V chs 0 ch with
  | some e =>
    rw [hx] at lk
    obtain ⟨h', r1, r3⟩ := lk
    refine ⟨am_up h' 36 6 0, ?_, ?_, p_up_s _ _ _ _, r3.2.2.up (by omega)⟩
    · rw [r1, p_xVt, p_obj (show (zS L)[52]? = some (0, 20, []) from rfl), q_4_13_8, r3.1]
    · rw [p_up_n _ _ _ _ _ _ (Or.inr (by decide))]; exact r3.2.1
  | none =>
    rw [hx] at lk
    obtain ⟨h3, r1, w1, f1⟩ := lk
    dsimp only
    rw [r1, p_xV, p_w (by decide) (by decide)]
    have ih := ky_looks (d := d) (L := L) (g := h) E T u1 (chs.length - 1) 1 (by omega) (by omega) (L2.next hc f1 w1) (F2.trans (f1.y (by omega)))
    rw [show ((1 : Nat) : Int) = 0 + 1 from rfl] at ih
    cases hy : cksS K V chs (chs.drop 1) 1 with
    | some e => rw [hy] at ih; exact ih
    | none =>
      rw [hy] at ih
      obtain ⟨h4, r4, H4, F4, e8⟩ := ih
      exact ⟨h4, r4, H4, F4, by rw [e8, f1 36 8 (by decide) (by decide) (by omega) (by omega) (by omega), f2 36 8 (by omega) (by omega)]⟩
end
