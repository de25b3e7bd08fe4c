/-! CHIPS, 56: the board: the component's order -/
noncomputable def pOf (G : Nat) (nd : Nat → Prop) (o : Nat → Nat) (w : Nat) : Option Nat := @dite _ (∃ i, i < G ∧ nd i ∧ o i = w) (Classical.propDecidable _) (fun h => some (Classical.choose h)) (fun _ => none)
theorem pOf_some {G : Nat} {nd : Nat → Prop} {o : Nat → Nat} {w i : Nat} (h : pOf G nd o w = some i) : i < G ∧ nd i ∧ o i = w := by
  unfold pOf at h
  by_cases z : ∃ i, i < G ∧ nd i ∧ o i = w
  · rw [dif_pos z] at h
    injection h with h
    rw [← h]
    exact Classical.choose_spec z
  · rw [dif_neg z] at h; cases h
theorem pOf_none {G : Nat} {nd : Nat → Prop} {o : Nat → Nat} {w : Nat} (h : pOf G nd o w = none) : ∀ i, i < G → nd i → w ≠ o i := fun i h1 h2 e => by
  unfold pOf at h
  rw [dif_pos ⟨i, h1, h2, e.symm⟩] at h
  cases h
/-- rows of gates: outputs, roots of inputs -/
def cGt (G W : Nat) (S A B O D : Nat → Int) (o ra rb : Nat → Nat) : Prop := (G ≤ 1500 ∧ W ≤ 40002) ∧ (∀ i, i < G → (O i = (o i : Int) ∧ o i < W) ∧ (D i = 0 ∨ D i = 1) ∧ (∃ a N, A i = ((a : Nat) : Int) ∧ FD S W N a (ra i)) ∧ ∃ b N, B i = ((b : Nat) : Int) ∧ FD S W N b (rb i)) ∧ ∀ i i', i < G → i' < G → o i = o i' → i = i'
/-- the greatest -/
def MXL (ord : List Nat) (lev : Nat → Int) (v : Int) : Prop := 0 ≤ v ∧ (∀ i ∈ ord, lev i ≤ v) ∧ (v = 0 ∨ ∃ i ∈ ord, lev i = v)
section
variable {d L : Nat} {G W : Nat} {S A B O D : Nat → Int} {o ra rb : Nat → Nat} {h hs : am_H}
theorem cs_1 (hW : W ≤ 40002) (u2 : Option am_V) (e3 : h 195 3 = (W : Int)) : ∀ (m j : Nat) {h1 : am_H}, j + m = W → (∀ x, x < j → h1 205 x = (if h 196 x = (x : Int) then 1 else 0) ∧ h1 204 x = 0) → p_fr [204, 205] [] h h1 → ∃ h', am_E (am_D d) m_2_11 (.inl 1) [some (am_r (am_a 195)), some (am_i (j : Int)), u2] [] (zS L, h1) = am_E (am_D d) m_2_11 (.inl 5) [some (am_r (am_a 195)), some (am_i 0), u2] [] (zS L, h') ∧ (∀ x, x < W → h' 205 x = (if h 196 x = (x : Int) then 1 else 0) ∧ h' 204 x = 0) ∧ p_fr [204, 205] [] h h'
  | 0, j, h1, hm, H, f => by
    rw [q_2_11_1, f 195 3 rfl rfl, e3, if_neg (by omega)]
    exact ⟨h1, rfl, fun x hx => H x (by omega), f⟩
  | m + 1, j, h1, hm, H, f => by
    have go : ∀ v : Int, v = (if h 196 j = (j : Int) then 1 else 0) → ∃ h', am_E (am_D d) m_2_11 (.inl 1) [some (am_r (am_a 195)), some (am_i ((j : Int) + 1)), u2] [] (zS L, am_up (am_up h1 205 j v) 204 j 0) = am_E (am_D d) m_2_11 (.inl 5) [some (am_r (am_a 195)), some (am_i 0), u2] [] (zS L, h') ∧ (∀ x, x < W → h' 205 x = (if h 196 x = (x : Int) then 1 else 0) ∧ h' 204 x = 0) ∧ p_fr [204, 205] [] h h' := fun v hv => by
      refine cs_1 hW u2 e3 m (j + 1) (by omega) (fun x hx => ?_) ((f.upc _ _ _ rfl).upc _ _ _ rfl)
      rw [p_up_c _ _ _ _ _ (by decide), p_up_f, p_up_f, p_up_c _ _ _ _ _ (by decide)]
      unfold p_set
      by_cases e : x = j
      · rw [if_pos e, if_pos e, e]; exact ⟨hv, rfl⟩
      · rw [if_neg e, if_neg e]; exact H x (by omega)
    rw [q_2_11_1, f 195 3 rfl rfl, e3, if_pos (by omega), p_idx (by omega) (by omega), Int.toNat_natCast, f.cell 196 rfl rfl, p_w (by omega) (by omega)]
    by_cases c : h 196 j = (j : Int)
    · rw [if_pos c, p_bit1, p_idx (by omega) (by omega), p_idx (by omega) (by omega), Int.toNat_natCast]
      exact go 1 (by rw [if_pos c])
    · rw [if_neg c, p_bit0, p_idx (by omega) (by omega), p_idx (by omega) (by omega), Int.toNat_natCast]
      exact go 0 (by rw [if_neg c])
theorem cs_5 (H : cGt G W S A B O D o ra rb) (u2 : Option am_V) (hS : h 196 = S) (hAx : h 198 = A) (hB : h 199 = B) (hO : h 200 = O) (hD : h 201 = D) (e9 : h 195 9 = (G : Int)) : ∀ (m j : Nat) {h1 : am_H}, j + m = G → (∀ x, x < j → h1 198 x = (ra x : Int) ∧ h1 199 x = (rb x : Int) ∧ h1 205 (o x) = D x) → (∀ x, j ≤ x → h1 198 x = A x ∧ h1 199 x = B x) → (∀ w, (∀ x, x < j → w ≠ o x) → h1 205 w = h 205 w) → p_fr [198, 199, 202, 205] [] h h1 → ∃ h', am_E (am_D (d + 1)) m_2_11 (.inl 5) [some (am_r (am_a 195)), some (am_i (j : Int)), u2] [] (zS L, h1) = am_E (am_D (d + 1)) m_2_11 (.inl 7) [some (am_r (am_a 195)), some (am_i 1), u2] [] (zS L, am_up (am_up h' 195 15 0) 195 16 0) ∧ (∀ x, x < G → h' 198 x = (ra x : Int) ∧ h' 199 x = (rb x : Int) ∧ h' 205 (o x) = D x) ∧ (∀ w, (∀ x, x < G → w ≠ o x) → h' 205 w = h 205 w) ∧ p_fr [198, 199, 202, 205] [] h h'
  | 0, j, h1, hm, X1, X2, X3, f => by
    rw [q_2_11_5, f 195 9 rfl rfl, e9, if_neg (by omega)]
    exact ⟨h1, rfl, fun x hx => X1 x (by omega), fun w hw => X3 w (fun x hx => hw x (by omega)), f⟩
  | m + 1, j, h1, hm, X1, X2, X3, f => by
    obtain ⟨⟨hG, hW⟩, H2, H3⟩ := H
    obtain ⟨⟨o1, o2⟩, d1, ⟨a, N, a1, a2⟩, b, N', b1, b2⟩ := H2 j (by omega)
    have F1 := cf_find (d := d) (L := L) (h := h1) hW (by rw [f.cell 196 rfl rfl, hS]; exact a2)
    have F2 := cf_find (d := d) (L := L) (h := am_up h1 198 j (ra j : Int)) hW (by rw [p_up_c _ _ _ _ _ (by decide), f.cell 196 rfl rfl, hS]; exact b2)
    have bt : ∀ x : Option am_O, am_bit (D j) x = x := fun x => by rcases d1 with z | z <;> rw [z] <;> first | exact p_bit0 | exact p_bit1
    have e199 : h1 199 j = (b : Int) := by rw [(X2 j (Nat.le_refl _)).2, b1]
    have e201 : am_up h1 198 j (ra j : Int) 201 j = D j := by rw [p_up_c _ _ _ _ _ (by decide), f.cell 201 rfl rfl, hD]
    have e200 : am_up h1 198 j (ra j : Int) 200 j = (o j : Int) := by rw [p_up_c _ _ _ _ _ (by decide), f.cell 200 rfl rfl, hO, o1]
    rw [q_2_11_5, f 195 9 rfl rfl, e9, if_pos (by omega), p_idx (by omega) (by omega), Int.toNat_natCast, (X2 j (Nat.le_refl _)).1, a1, F1, p_xI, p_idx (by omega) (by omega), p_idx (by omega) (by omega), Int.toNat_natCast, e199, F2, p_xI, p_idx (by omega) (by omega), p_idx (by omega) (by omega), p_idx (by omega) (by omega), Int.toNat_natCast, e201, bt, e200, p_idx (by omega) (by omega), p_bit0, p_idx (by omega) (by omega), Int.toNat_natCast, Int.toNat_natCast, p_w (by omega) (by omega)]
    obtain ⟨h2, e2⟩ : ∃ h2, h2 = am_up (am_up (am_up (am_up h1 198 j (ra j : Int)) 199 j (rb j : Int)) 205 (o j) (D j)) 202 j 0 := ⟨_, rfl⟩
    rw [← e2]
    have g198 : h2 198 = p_set (h1 198) j (ra j : Int) := by rw [e2, p_up_c _ _ _ _ _ (by decide), p_up_c _ _ _ _ _ (by decide), p_up_c _ _ _ _ _ (by decide), p_up_f]
    have g199 : h2 199 = p_set (h1 199) j (rb j : Int) := by rw [e2, p_up_c _ _ _ _ _ (by decide), p_up_c _ _ _ _ _ (by decide), p_up_f, p_up_c _ _ _ _ _ (by decide)]
    have g205 : h2 205 = p_set (h1 205) (o j) (D j) := by rw [e2, p_up_c _ _ _ _ _ (by decide), p_up_f, p_up_c _ _ _ _ _ (by decide), p_up_c _ _ _ _ _ (by decide)]
    refine cs_5 ⟨⟨hG, hW⟩, H2, H3⟩ u2 hS hAx hB hO hD e9 m (j + 1) (h1 := h2) (by omega) (fun x hx => ?_) (fun x hx => ?_) (fun w hw => ?_) (by rw [e2]; exact (((f.upc _ _ _ rfl).upc _ _ _ rfl).upc _ _ _ rfl).upc _ _ _ rfl)
    · rw [g198, g199, g205]
      unfold p_set
      by_cases e : x = j
      · rw [if_pos e, if_pos e, e, if_pos rfl]; exact ⟨rfl, rfl, rfl⟩
      · rw [if_neg e, if_neg e, if_neg (fun z => e (H3 x j (by omega) (by omega) z))]; exact X1 x (by omega)
    · rw [g198, g199]
      unfold p_set
      rw [if_neg (by omega), if_neg (by omega)]
      exact X2 x (by omega)
    · rw [g205]
      unfold p_set
      rw [if_neg (hw j (by omega))]
      exact X3 w (fun x hx => hw x (by omega))
/-- the state of the search -/
def cSo (G W : Nat) (D : Nat → Int) (o ra rb : Nat → Nat) (hs : am_H) (ord : List Nat) (lev : Nat → Int) (h : am_H) : Prop := OD G (fun i => D i = 0) (fun i => pOf G (fun i => D i = 0) o (ra i)) (fun i => pOf G (fun i => D i = 0) o (rb i)) ord lev ∧ (h 195 15 = (ord.length : Int) ∧ ∀ (t i : Nat), ord[t]? = some i → h 203 t = (i : Int)) ∧ (∀ i, i < G → D i = 0 → h 205 (o i) = (if lev i = -1 then 0 else 1) ∧ (lev i ≠ -1 → h 204 (o i) = lev i)) ∧ (∀ w, w < W → (∀ i, i < G → D i = 0 → w ≠ o i) → h 205 w = hs 205 w ∧ h 204 w = 0) ∧ MXL ord lev (h 195 16) ∧ p_fr [203, 204, 205] [(195, 15), (195, 16)] hs h
theorem cs_in {ord : List Nat} {lev : Nat → Int} (I : cSo G W D o ra rb hs ord lev h) {w : Nat} (hw : w < W) (hk : (∀ i, i < G → D i = 0 → w ≠ o i) → hs 205 w = 1) : (h 205 w = 0 ↔ lvo lev (pOf G (fun i => D i = 0) o w) = -1) ∧ (lvo lev (pOf G (fun i => D i = 0) o w) ≠ -1 → h 204 w = lvo lev (pOf G (fun i => D i = 0) o w)) := by
  obtain ⟨-, -, I3, I4, -⟩ := I
  cases e : pOf G (fun i => D i = 0) o w with
  | none =>
    have n := pOf_none e
    obtain ⟨z1, z2⟩ := I4 w hw n
    rw [z1, z2, hk n]
    exact ⟨⟨fun z => absurd z (by decide), fun z => absurd (show (0 : Int) = -1 from z) (by decide)⟩, fun _ => rfl⟩
  | some i =>
    obtain ⟨s1, s2, s3⟩ := pOf_some e
    obtain ⟨z1, z2⟩ := I3 i s1 s2
    rw [s3] at z1 z2
    refine ⟨?_, z2⟩
    show h 205 w = 0 ↔ lev i = -1
    rw [z1]
    by_cases c : lev i = -1
    · rw [if_pos c]; exact ⟨fun _ => c, fun _ => rfl⟩
    · rw [if_neg c]; exact ⟨fun z => absurd z (by decide), fun z => absurd z c⟩
theorem cs_8 (H : cGt G W S A B O D o ra rb) (hO : hs 200 = O) (hD : hs 201 = D) (e9 : hs 195 9 = (G : Int)) (hab : ∀ i, i < G → (hs 198 i = (ra i : Int) ∧ hs 199 i = (rb i : Int)) ∧ (ra i < W ∧ ((∀ x, x < G → D x = 0 → ra i ≠ o x) → hs 205 (ra i) = 1)) ∧ rb i < W ∧ ((∀ x, x < G → D x = 0 → rb i ≠ o x) → hs 205 (rb i) = 1)) : ∀ (m j : Nat) {x1 : Int} {ord : List Nat} {lev : Nat → Int} {h : am_H}, j + m = G → cSo G W D o ra rb hs ord lev h → ∃ h' ord' lev' x1' w2, am_E (am_D d) m_2_11 (.inl 8) [some (am_r (am_a 195)), some (am_i x1), some (am_i (j : Int))] [] (zS L, h) = am_E (am_D d) m_2_11 (.inl 7) [some (am_r (am_a 195)), some (am_i x1'), w2] [] (zS L, h') ∧ cSo G W D o ra rb hs ord' lev' h' ∧ ord.length ≤ ord'.length ∧ (x1' = x1 ∧ lev' = lev ∧ ord' = ord ∧ (∀ i, j ≤ i → i < G → D i = 0 → lvo lev (pOf G (fun i => D i = 0) o (ra i)) ≠ -1 → lvo lev (pOf G (fun i => D i = 0) o (rb i)) ≠ -1 → lev i ≠ -1) ∨ x1' = 1 ∧ ord.length < ord'.length)
  | 0, j, x1, ord, lev, h, hm, I => by
    rw [q_2_11_8, I.2.2.2.2.2 195 9 rfl rfl, e9, if_neg (by omega)]
    exact ⟨h, ord, lev, x1, _, rfl, I, Nat.le_refl _, Or.inl ⟨rfl, rfl, rfl, fun i h1 h2 => by omega⟩⟩
  | m + 1, j, x1, ord, lev, h, hm, I => by
    have I' := I
    obtain ⟨I1, ⟨I2, I2'⟩, I3, I4, I5, FR⟩ := I
    obtain ⟨⟨hG, hW⟩, H2, H3⟩ := H
    obtain ⟨⟨o1, o2⟩, d1, -, -⟩ := H2 j (by omega)
    obtain ⟨⟨ab1, ab2⟩, ⟨ra1, ra2⟩, rb1, rb2⟩ := hab j (by omega)
    have c200 : h 200 j = (o j : Int) := by rw [FR.cell 200 rfl rfl, hO, o1]
    have c198 : h 198 j = (ra j : Int) := by rw [FR.cell 198 rfl rfl, ab1]
    have c199 : h 199 j = (rb j : Int) := by rw [FR.cell 199 rfl rfl, ab2]
    have skip : (D j = 0 → lvo lev (pOf G (fun i => D i = 0) o (ra j)) ≠ -1 → lvo lev (pOf G (fun i => D i = 0) o (rb j)) ≠ -1 → lev j ≠ -1) → ∃ h' ord' lev' x1' w2, am_E (am_D d) m_2_11 (.inl 8) [some (am_r (am_a 195)), some (am_i x1), some (am_i ((j : Int) + 1))] [] (zS L, h) = am_E (am_D d) m_2_11 (.inl 7) [some (am_r (am_a 195)), some (am_i x1'), w2] [] (zS L, h') ∧ cSo G W D o ra rb hs ord' lev' h' ∧ ord.length ≤ ord'.length ∧ (x1' = x1 ∧ lev' = lev ∧ ord' = ord ∧ (∀ i, j ≤ i → i < G → D i = 0 → lvo lev (pOf G (fun i => D i = 0) o (ra i)) ≠ -1 → lvo lev (pOf G (fun i => D i = 0) o (rb i)) ≠ -1 → lev i ≠ -1) ∨ x1' = 1 ∧ ord.length < ord'.length) := fun nj => by
      obtain ⟨h', ord', lev', x1', w2, r, J, jl, je⟩ := cs_8 ⟨⟨hG, hW⟩, H2, H3⟩ hO hD e9 hab m (j + 1) (x1 := x1) (by omega) I'
      refine ⟨h', ord', lev', x1', w2, r, J, jl, je.imp (fun z => ⟨z.1, z.2.1, z.2.2.1, fun i h1 h2 h3 => ?_⟩) id⟩
      by_cases e : i = j
      · rw [e]; rw [e] at h3; exact nj h3
      · exact z.2.2.2 i (by omega) h2 h3
    have iA := cs_in I' ra1 ra2
    have iB := cs_in I' rb1 rb2
    rw [q_2_11_8, FR 195 9 rfl rfl, e9, if_pos (by omega), p_idx (by omega) (by omega), Int.toNat_natCast, FR.cell 201 rfl rfl, hD, p_w (x := (j : Int) + 1) (by omega) (by omega)]
    by_cases dj : D j = 0
    · rw [if_pos dj, p_idx (by omega) (by omega), Int.toNat_natCast, c200, p_idx (by omega) (by omega), Int.toNat_natCast]
      obtain ⟨kj1, kj2⟩ := I3 j (by omega) dj
      by_cases lj : lev j = -1
      · rw [if_pos lj] at kj1
        rw [if_pos kj1, p_idx (by omega) (by omega), Int.toNat_natCast, c198, p_idx (by omega) (by omega), Int.toNat_natCast]
        by_cases ka : h 205 (ra j) = 0
        · rw [if_pos ka]
          exact skip (fun _ z => absurd (iA.1.1 ka) z)
        · rw [if_neg ka, p_idx (by omega) (by omega), Int.toNat_natCast, c199, p_idx (by omega) (by omega), Int.toNat_natCast]
          by_cases kb : h 205 (rb j) = 0
          · rw [if_pos kb]
            exact skip (fun _ _ z => absurd (iB.1.1 kb) z)
          · have la : lvo lev (pOf G (fun i => D i = 0) o (ra j)) ≠ -1 := fun z => ka (iA.1.2 z)
            have lb : lvo lev (pOf G (fun i => D i = 0) o (rb j)) ≠ -1 := fun z => kb (iB.1.2 z)
            have da := iA.2 la
            have db := iB.2 lb
            have ra' := (I1.lv (pOf G (fun i => D i = 0) o (ra j))).resolve_left la
            have rb' := (I1.lv (pOf G (fun i => D i = 0) o (rb j))).resolve_left lb
            have st := I1.step (i := j) (by omega) dj lj la lb
            have ol := st.len
            rw [List.length_append, List.length_singleton] at ol
            have mr := mx_rg ra' rb'
            have mxe : (if (h 204 (rb j) : Int) ≤ h 204 (ra j) then h 204 (ra j) else h 204 (rb j)) = mxi (lvo lev (pOf G (fun i => D i = 0) o (ra j))) (lvo lev (pOf G (fun i => D i = 0) o (rb j))) := by
              rw [da, db]; unfold mxi
              by_cases z : lvo lev (pOf G (fun i => D i = 0) o (ra j)) ≤ lvo lev (pOf G (fun i => D i = 0) o (rb j))
              · rw [if_pos z]
                by_cases w : lvo lev (pOf G (fun i => D i = 0) o (rb j)) ≤ lvo lev (pOf G (fun i => D i = 0) o (ra j))
                · rw [if_pos w]; omega
                · rw [if_neg w]
              · rw [if_neg z, if_pos (by omega)]
            obtain ⟨M, hM⟩ : ∃ M, M = mxi (lvo lev (pOf G (fun i => D i = 0) o (ra j))) (lvo lev (pOf G (fun i => D i = 0) o (rb j))) := ⟨_, rfl⟩
            rw [← hM] at mxe st mr
            have u204 : am_up (am_up h 205 (o j) 1) 204 (o j) (1 + M) 204 (o j) = 1 + M := p_up_s ..
            rw [if_neg kb, p_idx (by omega) (by omega), p_bit1, Int.toNat_natCast, c200, p_idx (by omega) (by omega), p_idx (by omega) (by omega), p_idx (by omega) (by omega), Int.toNat_natCast, Int.toNat_natCast, c198, p_idx (by omega) (by omega), Int.toNat_natCast, p_idx (by omega) (by omega), Int.toNat_natCast, c199, p_idx (by omega) (by omega), Int.toNat_natCast, c200, p_idx (by omega) (by omega), Int.toNat_natCast, p_idx (by omega) (by omega), Int.toNat_natCast, c200, p_idx (by omega) (by omega), Int.toNat_natCast, I2, p_idx (by omega) (by omega), Int.toNat_natCast, mxe, p_w (x := 1 + M) (by omega) (by omega), u204, p_w (x := (ord.length : Int) + 1) (by omega) (by omega)]
            obtain ⟨h2, e2⟩ : ∃ h2, h2 = am_up (am_up (am_up (am_up (am_up h 205 (o j) 1) 204 (o j) (1 + M)) 195 16 (if 1 + M ≤ h 195 16 then h 195 16 else 1 + M)) 203 ord.length (j : Int)) 195 15 ((ord.length : Int) + 1) := ⟨_, rfl⟩
            rw [← e2]
            have g205 : h2 205 = p_set (h 205) (o j) 1 := by rw [e2, p_up_c _ _ _ _ _ (by decide), p_up_c _ _ _ _ _ (by decide), p_up_c _ _ _ _ _ (by decide), p_up_c _ _ _ _ _ (by decide), p_up_f]
            have g204 : h2 204 = p_set (h 204) (o j) (1 + M) := by rw [e2, p_up_c _ _ _ _ _ (by decide), p_up_c _ _ _ _ _ (by decide), p_up_c _ _ _ _ _ (by decide), p_up_f, p_up_c _ _ _ _ _ (by decide)]
            have g203 : h2 203 = p_set (h 203) ord.length (j : Int) := by rw [e2, p_up_c _ _ _ _ _ (by decide), p_up_f, p_up_c _ _ _ _ _ (by decide), p_up_c _ _ _ _ _ (by decide), p_up_c _ _ _ _ _ (by decide)]
            have g15 : h2 195 15 = ((ord.length + 1 : Nat) : Int) := by rw [e2, p_up_s]; omega
            have g16 : h2 195 16 = (if 1 + M ≤ h 195 16 then h 195 16 else 1 + M) := by rw [e2, p_up_n _ _ _ _ _ _ (Or.inr (by decide)), p_up_c _ _ _ _ _ (by decide), p_up_s]
            have I9 : cSo G W D o ra rb hs (ord ++ [j]) (p_set lev j (1 + M)) h2 := by
              refine ⟨st, ⟨by rw [g15, List.length_append, List.length_singleton], fun t i ht => ?_⟩, fun i hi hd => ?_, fun w hw hn => ?_, ⟨?_, fun i hi => ?_, ?_⟩, by rw [e2]; exact ((((FR.upc _ _ _ rfl).upc _ _ _ rfl).upf _ _ _ rfl).upc _ _ _ rfl).upf _ _ _ rfl⟩
              · rw [g203]
                unfold p_set
                by_cases tl : t < ord.length
                · rw [if_neg (by omega)]
                  rw [List.getElem?_append_left tl] at ht
                  exact I2' t i ht
                · rw [List.getElem?_append_right (by omega)] at ht
                  have te : t - ord.length = 0 := by
                    rcases Nat.eq_zero_or_pos (t - ord.length) with z | z
                    · exact z
                    · rw [List.getElem?_eq_none (by show 1 ≤ _; omega)] at ht; cases ht
                  rw [te] at ht
                  injection ht with ht
                  rw [if_pos (by omega), ht]
              · rw [g205, g204]
                unfold p_set
                by_cases e : i = j
                · rw [e, if_pos rfl, if_pos rfl, if_pos rfl, if_neg (by omega)]
                  exact ⟨rfl, fun _ => rfl⟩
                · have ne : ¬ o i = o j := fun z => e (H3 i j hi (by omega) z)
                  rw [if_neg ne, if_neg ne, if_neg e]
                  exact I3 i hi hd
              · have ne := hn j (by omega) dj
                rw [g205, g204]
                unfold p_set
                rw [if_neg ne, if_neg ne]
                exact I4 w hw hn
              · rw [g16]; have := I5.1; split <;> omega
              · rw [g16]
                have keep : 1 + M ≤ (if 1 + M ≤ h 195 16 then h 195 16 else 1 + M) ∧ h 195 16 ≤ (if 1 + M ≤ h 195 16 then h 195 16 else 1 + M) := by split <;> omega
                unfold p_set
                by_cases e : i = j
                · rw [if_pos e]; exact keep.1
                · rw [if_neg e]
                  rcases List.mem_append.1 hi with z | z
                  · have := I5.2.1 i z; omega
                  · rw [List.mem_singleton] at z; exact absurd z e
              · rw [g16]
                by_cases c : 1 + M ≤ h 195 16
                · rw [if_pos c]
                  rcases I5.2.2 with z | ⟨i, z1, z2⟩
                  · exact Or.inl z
                  · refine Or.inr ⟨i, List.mem_append.2 (Or.inl z1), ?_⟩
                    unfold p_set
                    rw [if_neg (fun (e : i = j) => (I1.2.2.1 j).2 (e ▸ z1) lj)]
                    exact z2
                · rw [if_neg c]
                  refine Or.inr ⟨j, List.mem_append.2 (Or.inr (List.mem_singleton.2 rfl)), ?_⟩
                  unfold p_set
                  rw [if_pos rfl]
            obtain ⟨h', ord', lev', x1', w2, r, J, jl, je⟩ := cs_8 ⟨⟨hG, hW⟩, H2, H3⟩ hO hD e9 hab m (j + 1) (x1 := 1) (by omega) I9
            rw [List.length_append, List.length_singleton] at jl je
            refine ⟨h', ord', lev', x1', w2, r, J, by omega, Or.inr ⟨?_, by omega⟩⟩
            rcases je with z | z
            · exact z.1
            · exact z.1
      · rw [if_neg lj] at kj1
        rw [if_neg (by rw [kj1]; decide)]
        exact skip (fun _ _ _ => lj)
    · rw [if_neg dj]
      exact skip (fun z => absurd z dj)
theorem cs_7 (H : cGt G W S A B O D o ra rb) (hO : hs 200 = O) (hD : hs 201 = D) (e9 : hs 195 9 = (G : Int)) (hab : ∀ i, i < G → (hs 198 i = (ra i : Int) ∧ hs 199 i = (rb i : Int)) ∧ (ra i < W ∧ ((∀ x, x < G → D x = 0 → ra i ≠ o x) → hs 205 (ra i) = 1)) ∧ rb i < W ∧ ((∀ x, x < G → D x = 0 → rb i ≠ o x) → hs 205 (rb i) = 1)) : ∀ (N : Nat) {ord : List Nat} {lev : Nat → Int} {h : am_H} (u2 : Option am_V), G < N + ord.length → cSo G W D o ra rb hs ord lev h → ∃ h' ord' lev', am_E (am_D d) m_2_11 (.inl 7) [some (am_r (am_a 195)), some (am_i 1), u2] [] (zS L, h) = pI L (if (ord'.length : Int) = hs 195 10 then 1 else 0) h' ∧ cSo G W D o ra rb hs ord' lev' h' ∧ CLO G (fun i => D i = 0) (fun i => pOf G (fun i => D i = 0) o (ra i)) (fun i => pOf G (fun i => D i = 0) o (rb i)) lev'
  | 0, ord, lev, h, u2, hN, I => by
    have := I.1.len
    omega
  | N + 1, ord, lev, h, u2, hN, I => by
    obtain ⟨h', ord', lev', x1', w2, r, J, jl, je⟩ := cs_8 (d := d) (L := L) H hO hD e9 hab G 0 (x1 := 0) (by omega) I
    rw [show ((0 : Nat) : Int) = 0 from rfl] at r
    rw [q_2_11_7, if_neg (by decide), r]
    rcases je with ⟨z1, z2, z3, z4⟩ | ⟨z1, z2⟩
    · rw [z1, q_2_11_7, if_pos rfl, J.2.1.1, J.2.2.2.2.2 195 10 rfl rfl]
      refine ⟨h', ord', lev', ?_, J, fun i hi hn a b => by subst z2; exact z4 i (Nat.zero_le _) hi hn a b⟩
      by_cases c : (ord'.length : Int) = hs 195 10
      · rw [if_pos c, if_pos c, p_bit1]
      · rw [if_neg c, if_neg c, p_bit0]
    · rw [z1]
      exact cs_7 H hO hD e9 hab N w2 (by omega) J
/-- sort -/
theorem cs_sort (H : cGt G W (h 196) (h 198) (h 199) (h 200) (h 201) o ra rb) (e3 : h 195 3 = (W : Int)) (e9 : h 195 9 = (G : Int)) : ∃ h' ord lev, am_D (d + 2) 2 11 [am_r (am_a 195)] (zS L, h) = pI L (if (ord.length : Int) = h 195 10 then 1 else 0) h' ∧ OD G (fun i => h 201 i = 0) (fun i => pOf G (fun i => h 201 i = 0) o (ra i)) (fun i => pOf G (fun i => h 201 i = 0) o (rb i)) ord lev ∧ CLO G (fun i => h 201 i = 0) (fun i => pOf G (fun i => h 201 i = 0) o (ra i)) (fun i => pOf G (fun i => h 201 i = 0) o (rb i)) lev ∧ (h' 195 15 = (ord.length : Int) ∧ ∀ (t i : Nat), ord[t]? = some i → h' 203 t = (i : Int)) ∧ (∀ i, i < G → h' 198 i = (ra i : Int) ∧ h' 199 i = (rb i : Int)) ∧ MXL ord lev (h' 195 16) ∧ p_fr [198, 199, 202, 203, 204, 205] [(195, 15), (195, 16)] h h' := by
  have hG := H.1.1
  have hW := H.1.2
  obtain ⟨h1, r1, a1, f1⟩ := cs_1 (d := d + 1) (L := L) hW none e3 W 0 (h1 := h) (by omega) (fun x hx => absurd hx (Nat.not_lt_zero _)) (p_fr.refl h)
  obtain ⟨h2, r2, b1, b2, f2⟩ := cs_5 (d := d) (L := L) (h := h1) H none (f1.cell 196 rfl rfl) (f1.cell 198 rfl rfl) (f1.cell 199 rfl rfl) (f1.cell 200 rfl rfl) (f1.cell 201 rfl rfl) (by rw [f1 195 9 rfl rfl]; exact e9) G 0 (h1 := h1) (by omega) (fun x hx => absurd hx (Nat.not_lt_zero _)) (fun x hx => by rw [f1.cell 198 rfl rfl, f1.cell 199 rfl rfl]; exact ⟨rfl, rfl⟩) (fun w hw => rfl) (p_fr.refl h1)
  rw [show ((0 : Nat) : Int) = 0 from rfl] at r1 r2
  rw [D_2_11, r1, r2]
  obtain ⟨h3, e3'⟩ : ∃ h3, h3 = am_up (am_up h2 195 15 0) 195 16 0 := ⟨_, rfl⟩
  rw [← e3']
  have c3 : ∀ x, x ≠ 195 → h3 x = h2 x := fun x hx => by rw [e3', p_up_c _ _ _ _ _ hx, p_up_c _ _ _ _ _ hx]
  have f23 : p_fr [] [(195, 15), (195, 16)] h2 h3 := by rw [e3']; exact ((p_fr.refl h2).upf _ _ _ rfl).upf _ _ _ rfl
  have FT : p_fr [198, 199, 202, 203, 204, 205] [(195, 15), (195, 16)] h h3 := ((f1.mono rfl rfl).trans (f2.mono rfl rfl)).trans (f23.mono rfl rfl)
  have root : ∀ w, w < W → h 196 w = (w : Int) → (∀ x, x < G → h 201 x = 0 → w ≠ o x) → h3 205 w = 1 := fun w hw hr hn => by
    rw [c3 205 (by decide)]
    by_cases z : ∃ x, x < G ∧ w = o x
    · obtain ⟨x, x1, x2⟩ := z
      rw [x2, (b1 x x1).2.2]
      rcases (H.2.1 x x1).2.1 with q | q
      · exact absurd x2 (hn x x1 q)
      · exact q
    · rw [b2 w (fun x hx e => z ⟨x, hx, e⟩), (a1 w hw).1, if_pos hr]
  have hab : ∀ i, i < G → (h3 198 i = (ra i : Int) ∧ h3 199 i = (rb i : Int)) ∧ (ra i < W ∧ ((∀ x, x < G → h 201 x = 0 → ra i ≠ o x) → h3 205 (ra i) = 1)) ∧ rb i < W ∧ ((∀ x, x < G → h 201 x = 0 → rb i ≠ o x) → h3 205 (rb i) = 1) := fun i hi => by
    obtain ⟨-, -, ⟨a, N, -, q1⟩, b, N', -, q2⟩ := H.2.1 i hi
    obtain ⟨w1, w2⟩ := FD_rt N a q1
    obtain ⟨v1, v2⟩ := FD_rt N' b q2
    refine ⟨by rw [c3 198 (by decide), c3 199 (by decide)]; exact ⟨(b1 i hi).1, (b1 i hi).2.1⟩, ⟨w1, root _ w1 w2⟩, v1, root _ v1 v2⟩
  have I0 : cSo G W (h 201) o ra rb h3 [] (fun _ => -1) h3 := by
    refine ⟨OD_0, ⟨by rw [e3', p_up_n _ _ _ _ _ _ (Or.inr (by decide)), p_up_s]; rfl, fun t i ht => by cases ht⟩, fun i hi hd => ⟨?_, fun z => absurd rfl z⟩, fun w hw _ => ⟨rfl, ?_⟩, ⟨by rw [e3', p_up_s]; exact Int.le_refl _, fun i hi => (by cases hi), Or.inl (by rw [e3', p_up_s])⟩, p_fr.refl h3⟩
    · rw [if_pos rfl, c3 205 (by decide), (b1 i hi).2.2]; exact hd
    · rw [c3 204 (by decide), f2.cell 204 rfl rfl]; exact (a1 w hw).2
  obtain ⟨h', ord, lev, r, J, C⟩ := cs_7 (d := d + 1) (L := L) (hs := h3) H (FT.cell 200 rfl rfl) (FT.cell 201 rfl rfl) (by rw [FT 195 9 rfl rfl]; exact e9) hab (G + 1) none (by rw [List.length_nil]; omega) I0
  rw [FT 195 10 rfl rfl] at r
  obtain ⟨J1, J2, -, -, J5, J6⟩ := J
  refine ⟨h', ord, lev, r, J1, C, J2, fun i hi => ?_, J5, FT.trans (J6.mono rfl rfl)⟩
  rw [J6.cell 198 rfl rfl, J6.cell 199 rfl rfl]
  exact (hab i hi).1
end
