/-! CHIPS, 32: rings: the component -/
/-- chip b is a part of chip a -/
def ed (V : Nat → Int) (chs : List cCh) (a b : Nat) : Prop := ∃ ch q, chs[a]? = some ch ∧ q ∈ ch.2.2.2.1 ∧ kOf V chs (V q.1) = some (2 + b)
/-- at whatever depth -/
def rch (V : Nat → Int) (chs : List cCh) (a b : Nat) : Prop := ∀ S : Nat → Prop, (∀ x, ed V chs a x → S x) → (∀ x y, S x → ed V chs x y → S y) → S b
theorem ed_rg {V : Nat → Int} {chs : List cCh} {a b : Nat} (h : ed V chs a b) : a < chs.length ∧ b < chs.length := by
  obtain ⟨ch, q, h1, -, h2⟩ := h
  have := kOf_rg h2
  exact ⟨(List.getElem?_eq_some_iff.1 h1).1, by omega⟩
def cz (g : Nat → Int) : Nat → Nat
  | 0 => 0
  | n + 1 => cz g n + (if g n = 0 then 1 else 0)
theorem cz_le {g g' : Nat → Int} : ∀ (n : Nat), (∀ b, b < n → g' b = 0 → g b = 0) → cz g' n ≤ cz g n
  | 0, _ => Nat.le_refl _
  | n + 1, h => by
    have := cz_le n (fun b hb => h b (by omega))
    unfold cz
    by_cases y : g' n = 0
    · rw [if_pos y, if_pos (h n (by omega) y)]; omega
    · rw [if_neg y]; omega
theorem cz_lt {g g' : Nat → Int} : ∀ (n : Nat), (∀ b, b < n → g' b = 0 → g b = 0) → (∃ b, b < n ∧ g b = 0 ∧ g' b ≠ 0) → cz g' n < cz g n
  | 0, _, ⟨b, hb, _⟩ => by omega
  | n + 1, h, ⟨b, hb, h1, h2⟩ => by
    unfold cz
    by_cases e : b = n
    · subst e
      have := cz_le b (fun x hx => h x (by omega))
      rw [if_neg h2, if_pos h1]; omega
    · have := cz_lt n (fun x hx => h x (by omega)) ⟨b, by omega, h1, h2⟩
      by_cases y : g' n = 0
      · rw [if_pos y, if_pos (h n (by omega) y)]; omega
      · rw [if_neg y]; omega
section
variable {d L : Nat} {K V P : Nat → Int} {Z c0 : Nat} {chs : List cCh} {ch : cCh} {h h' : am_H}
def rB (n : Nat) (h : am_H) : Prop := ∀ b, b < n → h 72 b = 0 ∨ h 72 b = 1
/-- more is reached -/
def rM (n : Nat) (h h' : am_H) : Prop := rB n h' ∧ ∀ b, b < n → h 72 b = 1 → h' 72 b = 1
theorem kG.r72 (G : kG V P chs h) (f : p_fr [72] [] h h') : kG V P chs h' := by
  have e : ∀ c k, c ≠ 72 → h' c k = h c k := fun c k hc => f c k (by simp; exact hc) rfl
  obtain ⟨⟨g1, g2⟩, g3, g4⟩ := G
  refine ⟨⟨by rw [e 36 6 (by decide)]; exact g1, g2⟩, fun k hk => ?_, fun c ch hc => ?_⟩
  · obtain ⟨a1, a2, a3⟩ := g3 k hk
    have hb : kb k ≠ 72 ∧ kb k + 1 ≠ 72 := by rcases kb_lo k with z | z | ⟨c, z1, z2⟩ <;> omega
    rw [e _ _ hb.1, e _ _ hb.1]
    exact ⟨a1, a2, fun j y hy => by rw [e _ _ hb.2]; exact a3 j y hy⟩
  · obtain ⟨a1, a2, a3, a4, a5⟩ := g4 c ch hc
    rw [e _ _ (by omega), e _ _ (by omega), e _ _ (by omega), e _ _ (by omega)]
    exact ⟨a1, a2, a3, fun k q hq => by rw [e _ _ (by omega)]; exact a4 k q hq, fun k t ht => by rw [e _ _ (by omega)]; exact a5 k t ht⟩
theorem kR.r72 (R : kR K V P Z h) (f : p_fr [72] [] h h') : kR K V P Z h' := R.fr (f.cell 78 rfl rfl) (f.cell 79 rfl rfl) (f.cell 80 rfl rfl)
theorem ky_mark_l (hc : chs[c0]? = some ch) (hq : ∀ q ∈ ch.2.2.2.1, q.1 ≤ Z ∧ kOf V chs (V q.1) ≠ none) : ∀ (m p : Nat) (x : Int) {h : am_H} (u4 u5 : Option am_V), p + m = ch.2.2.2.1.length → (x = 0 ∨ x = 1) → kR K V P Z h → kG V P chs h → rB chs.length h → ∃ h' y, am_E (am_D (d + 1)) m_4_34 (.inl 1) [some (am_r (am_a 36)), some (am_r (am_a (83 + 7 * c0))), some (am_i x), some (am_i (p : Int)), u4, u5] [] (zS L, h) = pI L y h' ∧ (y = 0 ∨ y = 1) ∧ p_fr [72] [] h h' ∧ rM chs.length h h' ∧ (∀ b, b < chs.length → (h' 72 b = 1 → h 72 b = 1 ∨ ∃ q ∈ ch.2.2.2.1.drop p, kOf V chs (V q.1) = some (2 + b)) ∧ ((∃ q ∈ ch.2.2.2.1.drop p, kOf V chs (V q.1) = some (2 + b)) → h' 72 b = 1)) ∧ (y = 0 → x = 0 ∧ ∀ b, b < chs.length → h' 72 b = h 72 b) ∧ (y = 1 → x = 1 ∨ ∃ b, b < chs.length ∧ h 72 b = 0 ∧ h' 72 b ≠ 0)
  | 0, p, x, h, u4, u5, hm, hx, R, G, B => by
    have hcl := (List.getElem?_eq_some_iff.1 hc).1
    have G16 := G.1.2
    have C0 := CB_c L c0 (by omega)
    obtain ⟨-, ⟨g1, g2⟩, -⟩ := G.2.2 c0 ch hc
    have bt : am_bit x (pI L x h) = pI L x h := by rcases hx with rfl | rfl; exact p_bit0; exact p_bit1
    rw [q_4_34_1, C0.ob, g1, if_neg (by omega), List.drop_eq_nil_of_le (by omega)]
    exact ⟨h, x, bt, hx, p_fr.refl h, ⟨B, fun _ _ z => z⟩, fun b hb => ⟨fun z => Or.inl z, fun ⟨q, z, _⟩ => absurd z List.not_mem_nil⟩, fun z => ⟨z, fun _ _ => rfl⟩, fun z => Or.inl z⟩
  | m + 1, p, x, h, u4, u5, hm, hx, R, G, B => by
    have z2 := R.1.1
    have hcl := (List.getElem?_eq_some_iff.1 hc).1
    have G16 := G.1.2
    have C0 := CB_c L c0 (by omega)
    obtain ⟨-, ⟨g1, g2⟩, -, g3, -⟩ := G.2.2 c0 ch hc
    have hpl : p < ch.2.2.2.1.length := by omega
    obtain ⟨q, hqe⟩ : ∃ q, q = ch.2.2.2.1[p] := ⟨_, rfl⟩
    have hqp : ch.2.2.2.1[p]? = some q := by rw [hqe]; exact List.getElem?_eq_getElem hpl
    obtain ⟨qz, qn⟩ := hq q (List.mem_of_getElem? hqp)
    rw [q_4_34_1, C0.ob, g1, if_pos (by omega), C0.ob, CB.r8, C0.a3, p_idx (by omega) (by omega), Int.toNat_natCast, g3 p q hqp, p_idx (by omega) (by omega), Int.toNat_natCast, (R.2 q.1 qz).2.2.1, ky_find (d := d) G, p_xR, p_w (x := (p : Int) + 1) (by omega) (by omega)]
    rw [List.drop_eq_getElem_cons hpl, ← hqe]
    cases hk : kOf V chs (V q.1) with
    | none => exact absurd hk qn
    | some k =>
      have hkl := kOf_rg hk
      rw [show kref (some k) = am_a (kb k) from rfl, acmp_e, acmp_n]
      -- a gate
      have skip : k < 2 → ∀ u4, ∃ h' y, am_E (am_D (d + 1)) m_4_34 (.inl 1) [some (am_r (am_a 36)), some (am_r (am_a (83 + 7 * c0))), some (am_i x), some (am_i ((p + 1 : Nat) : Int)), u4, u5] [] (zS L, h) = pI L y h' ∧ (y = 0 ∨ y = 1) ∧ p_fr [72] [] h h' ∧ rM chs.length h h' ∧ (∀ b, b < chs.length → (h' 72 b = 1 → h 72 b = 1 ∨ ∃ q' ∈ q :: ch.2.2.2.1.drop (p + 1), kOf V chs (V q'.1) = some (2 + b)) ∧ ((∃ q' ∈ q :: ch.2.2.2.1.drop (p + 1), kOf V chs (V q'.1) = some (2 + b)) → h' 72 b = 1)) ∧ (y = 0 → x = 0 ∧ ∀ b, b < chs.length → h' 72 b = h 72 b) ∧ (y = 1 → x = 1 ∨ ∃ b, b < chs.length ∧ h 72 b = 0 ∧ h' 72 b ≠ 0) := by
        intro hk2 u4
        obtain ⟨h', y, r1, r2, r3, r4, r5, r6, r7⟩ := ky_mark_l hc hq m (p + 1) x u4 u5 (by omega) hx R G B
        refine ⟨h', y, r1, r2, r3, r4, fun b hb => ⟨fun z => ?_, fun ⟨q', hq', e'⟩ => ?_⟩, r6, r7⟩
        · rcases (r5 b hb).1 z with w | ⟨q', w1, w2⟩
          · exact Or.inl w
          · exact Or.inr ⟨q', List.mem_cons_of_mem _ w1, w2⟩
        · rcases List.mem_cons.1 hq' with w | w
          · subst w; rw [hk] at e'; have := Option.some.inj e'; omega
          · exact (r5 b hb).2 ⟨q', w, e'⟩
      by_cases k0 : kb k = 38
      · rw [if_pos k0]
        exact skip (by rcases kb_lo k with z | z | ⟨c, z1, z2⟩; unfold kb at z; split at z <;> omega; omega; omega) _
      rw [if_neg k0]
      by_cases k1 : kb k = 45
      · rw [if_pos k1]
        exact skip (by rcases kb_lo k with z | z | ⟨c, z1, z2⟩; omega; unfold kb at z; split at z <;> omega; omega) _
      rw [if_neg k1]
      obtain ⟨b, hkb, hkb2⟩ : ∃ b, k = 2 + b ∧ kb k = 83 + 7 * b := by
        rcases kb_lo k with z | z | ⟨c, z1, z3⟩
        · exact absurd z k0
        · exact absurd z k1
        · exact ⟨c, z1, z3⟩
      have bl : b < chs.length := by omega
      rw [hkb2, ky_index (show b < 16 by omega), p_xI]
      -- one more is reached
      have nx : ∀ (x' : Int) (u4 u5 : Option am_V), (x' = 0 ∨ x' = 1) → (x' = 0 → x = 0 ∧ h 72 b = 1) → (x' = 1 → x = 1 ∨ h 72 b = 0) → ∃ h' y, am_E (am_D (d + 1)) m_4_34 (.inl 1) [some (am_r (am_a 36)), some (am_r (am_a (83 + 7 * c0))), some (am_i x'), some (am_i ((p + 1 : Nat) : Int)), u4, u5] [] (zS L, am_up h 72 b 1) = pI L y h' ∧ (y = 0 ∨ y = 1) ∧ p_fr [72] [] h h' ∧ rM chs.length h h' ∧ (∀ b, b < chs.length → (h' 72 b = 1 → h 72 b = 1 ∨ ∃ q' ∈ q :: ch.2.2.2.1.drop (p + 1), kOf V chs (V q'.1) = some (2 + b)) ∧ ((∃ q' ∈ q :: ch.2.2.2.1.drop (p + 1), kOf V chs (V q'.1) = some (2 + b)) → h' 72 b = 1)) ∧ (y = 0 → x = 0 ∧ ∀ b, b < chs.length → h' 72 b = h 72 b) ∧ (y = 1 → x = 1 ∨ ∃ b, b < chs.length ∧ h 72 b = 0 ∧ h' 72 b ≠ 0) := by
        intro x' u4 u5 hx' hx0 hx1
        have f1 : p_fr [72] [] h (am_up h 72 b 1) := (p_fr.refl h).upc _ _ _ rfl
        have v : ∀ b', am_up h 72 b 1 72 b' = if b' = b then 1 else h 72 b' := fun b' => by
          by_cases e : b' = b
          · rw [if_pos e, e, p_up_s]
          · rw [if_neg e, p_up_n _ _ _ _ _ _ (Or.inr e)]
        have B1 : rB chs.length (am_up h 72 b 1) := fun b' hb' => by
          rw [v]; split
          · exact Or.inr rfl
          · exact B b' hb'
        obtain ⟨h', y, r1, r2, r3, r4, r5, r6, r7⟩ := ky_mark_l hc hq m (p + 1) x' u4 u5 (by omega) hx' (R.r72 f1) (G.r72 f1) B1
        have b1 : h' 72 b = 1 := r4.2 b bl (by rw [v, if_pos rfl])
        refine ⟨h', y, r1, r2, f1.trans r3, ⟨r4.1, fun b' hb' z => r4.2 b' hb' (by rw [v]; split; rfl; exact z)⟩, fun b' hb' => ⟨fun z => ?_, fun ⟨q', hq', e'⟩ => ?_⟩, fun z => ?_, fun z => ?_⟩
        · rcases (r5 b' hb').1 z with w | ⟨q', w1, w2⟩
          · rw [v] at w
            by_cases e : b' = b
            · subst e; exact Or.inr ⟨q, List.mem_cons_self .., by rw [hk, hkb]⟩
            · rw [if_neg e] at w; exact Or.inl w
          · exact Or.inr ⟨q', List.mem_cons_of_mem _ w1, w2⟩
        · rcases List.mem_cons.1 hq' with w | w
          · subst w; rw [hk, hkb] at e'; have := Option.some.inj e'; rw [show b' = b by omega]; exact b1
          · exact (r5 b' hb').2 ⟨q', w, e'⟩
        · obtain ⟨z1, z3⟩ := r6 z
          obtain ⟨z4, z5⟩ := hx0 z1
          refine ⟨z4, fun b' hb' => ?_⟩
          rw [z3 b' hb', v]
          split
          · rename_i e; rw [e, z5]
          · rfl
        · rcases r7 z with w | ⟨b', w1, w2, w3⟩
          · rcases hx1 w with v1 | v1
            · exact Or.inl v1
            · exact Or.inr ⟨b, bl, v1, by rw [b1]; decide⟩
          · rw [v] at w2
            by_cases e : b' = b
            · rw [if_pos e] at w2; exact absurd w2 (by decide)
            · rw [if_neg e] at w2; exact Or.inr ⟨b', w1, w2, w3⟩
      have hb01 := B b bl
      rw [p_idx (by omega) (by omega), p_idx (by omega) (by omega), p_idx (by omega) (by omega), Int.toNat_natCast, p_bit1, p_bit1]
      by_cases x0 : x = 0
      · rw [if_pos x0]
        by_cases y0 : h 72 b = 0
        · rw [if_pos y0]
          exact nx 1 _ _ (Or.inr rfl) (fun z => absurd z (by decide)) (fun _ => Or.inr y0)
        · rw [if_neg y0]
          exact nx 0 _ _ (Or.inl rfl) (fun _ => ⟨x0, by omega⟩) (fun z => absurd z (by decide))
      · rw [if_neg x0]
        exact nx 1 _ _ (Or.inr rfl) (fun z => absurd z (by decide)) (fun _ => Or.inl (by omega))
theorem ky_mark (hc : chs[c0]? = some ch) (hq : ∀ q ∈ ch.2.2.2.1, q.1 ≤ Z ∧ kOf V chs (V q.1) ≠ none) (R : kR K V P Z h) (G : kG V P chs h) (B : rB chs.length h) : ∃ h' y, am_D (d + 2) 4 34 [am_r (am_a 36), am_r (am_a (83 + 7 * c0))] (zS L, h) = pI L y h' ∧ (y = 0 ∨ y = 1) ∧ p_fr [72] [] h h' ∧ rM chs.length h h' ∧ (∀ b, b < chs.length → (h' 72 b = 1 → h 72 b = 1 ∨ ed V chs c0 b) ∧ (ed V chs c0 b → h' 72 b = 1)) ∧ (y = 0 → ∀ b, b < chs.length → h' 72 b = h 72 b) ∧ (y = 1 → ∃ b, b < chs.length ∧ h 72 b = 0 ∧ h' 72 b ≠ 0) := by
  obtain ⟨h', y, r1, r2, r3, r4, r5, r6, r7⟩ := ky_mark_l (d := d) (L := L) hc hq ch.2.2.2.1.length 0 0 none none (by omega) (Or.inl rfl) R G B
  rw [List.drop_zero] at r5
  refine ⟨h', y, by rw [D_4_34]; exact r1, r2, r3, r4, fun b hb => ⟨fun z => ?_, fun ⟨ch', q, e1, e2, e3⟩ => ?_⟩, fun z => (r6 z).2, fun z => ?_⟩
  · rcases (r5 b hb).1 z with w | ⟨q, w1, w2⟩
    · exact Or.inl w
    · exact Or.inr ⟨ch, q, hc, w1, w2⟩
  · rw [hc] at e1; cases e1
    exact (r5 b hb).2 ⟨q, e2, e3⟩
  · rcases r7 z with w | w
    · exact absurd w (by decide)
    · exact w
/-- one round -/
theorem ky_round (hq : ∀ ch ∈ chs, ∀ q ∈ ch.2.2.2.1, q.1 ≤ Z ∧ kOf V chs (V q.1) ≠ none) (x1 : Int) : ∀ (m i : Nat) (x : Int) {h : am_H}, i + m = chs.length → (x = 0 ∨ x = 1) → kR K V P Z h → kG V P chs h → rB chs.length h → ∃ h' y u3, am_E (am_D (d + 2)) m_4_33 (.inl 4) [some (am_r (am_a 36)), some (am_i x1), some (am_i x), some (am_i (i : Int))] [] (zS L, h) = am_E (am_D (d + 2)) m_4_33 (.inl 3) [some (am_r (am_a 36)), some (am_i x1), some (am_i y), u3] [] (zS L, h') ∧ (y = 0 ∨ y = 1) ∧ p_fr [72] [] h h' ∧ rM chs.length h h' ∧ (∀ S : Nat → Prop, (∀ b, b < chs.length → h 72 b = 1 → S b) → (∀ a b, S a → ed V chs a b → S b) → ∀ b, b < chs.length → h' 72 b = 1 → S b) ∧ (y = 0 → x = 0 ∧ (∀ b, b < chs.length → h' 72 b = h 72 b) ∧ ∀ a b, i ≤ a → a < chs.length → h 72 a = 1 → ed V chs a b → h 72 b = 1) ∧ (y = 1 → x = 1 ∨ ∃ b, b < chs.length ∧ h 72 b = 0 ∧ h' 72 b ≠ 0)
  | 0, i, x, h, hm, hx, R, G, B => by
    rw [q_4_33_4, G.1.1, if_neg (by omega)]
    exact ⟨h, x, _, rfl, hx, p_fr.refl h, ⟨B, fun _ _ z => z⟩, fun S s1 s2 => s1, fun z => ⟨z, fun _ _ => rfl, fun a b h1 h2 => by omega⟩, fun z => Or.inl z⟩
  | m + 1, i, x, h, hm, hx, R, G, B => by
    have G16 := G.1.2
    have hi : chs[i]? = some chs[i] := List.getElem?_eq_getElem (by omega)
    rw [q_4_33_4, G.1.1, if_pos (by omega), p_idx (by omega) (by omega), Int.toNat_natCast, p_w (x := (i : Int) + 1) (by omega) (by omega)]
    by_cases y0 : h 72 i = 0
    · rw [if_pos y0]
      obtain ⟨h', y, u3, r1, r2, r3, r4, r5, r6, r7⟩ := ky_round hq x1 m (i + 1) x (by omega) hx R G B
      refine ⟨h', y, u3, r1, r2, r3, r4, r5, fun z => ⟨(r6 z).1, (r6 z).2.1, fun a b h1 h2 h3 h4 => ?_⟩, r7⟩
      by_cases e : a = i
      · subst e; rw [y0] at h3; exact absurd h3 (by decide)
      · exact (r6 z).2.2 a b (by omega) h2 h3 h4
    rw [if_neg y0, p_idx (by omega) (by omega), Int.toNat_natCast, CHS_at i (by omega)]
    have y1 : h 72 i = 1 := by have := B i (by omega); omega
    obtain ⟨h1, v, q1, q2, q3, q4, q5, q6, q7⟩ := ky_mark (d := d) (L := L) hi (hq _ (List.mem_of_getElem? hi)) R G B
    rw [q1, p_xI]
    have sound : ∀ S : Nat → Prop, (∀ b, b < chs.length → h 72 b = 1 → S b) → (∀ a b, S a → ed V chs a b → S b) → ∀ b, b < chs.length → h1 72 b = 1 → S b := fun S s1 s2 b hb z => by
      rcases (q5 b hb).1 z with w | w
      · exact s1 b hb w
      · exact s2 i b (s1 i (by omega) y1) w
    have go : ∀ x' : Int, (x' = 0 ∨ x' = 1) → (x' = 0 → x = 0 ∧ v = 0) → (x' = 1 → x = 1 ∨ v = 1) → ∃ h' y u3, am_E (am_D (d + 2)) m_4_33 (.inl 4) [some (am_r (am_a 36)), some (am_i x1), some (am_i x'), some (am_i ((i + 1 : Nat) : Int))] [] (zS L, h1) = am_E (am_D (d + 2)) m_4_33 (.inl 3) [some (am_r (am_a 36)), some (am_i x1), some (am_i y), u3] [] (zS L, h') ∧ (y = 0 ∨ y = 1) ∧ p_fr [72] [] h h' ∧ rM chs.length h h' ∧ (∀ S : Nat → Prop, (∀ b, b < chs.length → h 72 b = 1 → S b) → (∀ a b, S a → ed V chs a b → S b) → ∀ b, b < chs.length → h' 72 b = 1 → S b) ∧ (y = 0 → x = 0 ∧ (∀ b, b < chs.length → h' 72 b = h 72 b) ∧ ∀ a b, i ≤ a → a < chs.length → h 72 a = 1 → ed V chs a b → h 72 b = 1) ∧ (y = 1 → x = 1 ∨ ∃ b, b < chs.length ∧ h 72 b = 0 ∧ h' 72 b ≠ 0) := by
      intro x' hx' h0 h1'
      obtain ⟨h', y, u3, r1, r2, r3, r4, r5, r6, r7⟩ := ky_round hq x1 m (i + 1) x' (by omega) hx' (R.r72 q3) (G.r72 q3) q4.1
      refine ⟨h', y, u3, r1, r2, q3.trans r3, ⟨r4.1, fun b hb z => r4.2 b hb (q4.2 b hb z)⟩, fun S s1 s2 => r5 S (sound S s1 s2) s2, fun z => ?_, fun z => ?_⟩
      · obtain ⟨z1, z3, z4⟩ := r6 z
        obtain ⟨z5, z6⟩ := h0 z1
        have e1 := q6 z6
        refine ⟨z5, fun b hb => by rw [z3 b hb, e1 b hb], fun a b ha1 ha2 ha3 ha4 => ?_⟩
        have bl := (ed_rg ha4).2
        rw [← e1 b bl]
        by_cases e : a = i
        · subst e; exact (q5 b bl).2 ha4
        · exact z4 a b (by omega) ha2 (by rw [e1 a ha2]; exact ha3) ha4
      · rcases r7 z with w | ⟨b, w1, w2, w3⟩
        · rcases h1' w with u | u
          · exact Or.inl u
          · obtain ⟨b, w1, w2, w3⟩ := q7 u
            refine Or.inr ⟨b, w1, w2, ?_⟩
            have := q4.1 b w1
            have := r4.2 b w1 (by omega)
            omega
        · refine Or.inr ⟨b, w1, ?_, w3⟩
          have := B b w1
          rcases this with u | u
          · exact u
          · have := q4.2 b w1 u; omega
    by_cases v0 : v = 0
    · rw [if_pos v0]
      by_cases x0 : x = 0
      · rw [if_pos x0]
        exact go 0 (Or.inl rfl) (fun _ => ⟨x0, v0⟩) (fun z => absurd z (by decide))
      · rw [if_neg x0]
        exact go 1 (Or.inr rfl) (fun z => absurd z (by decide)) (fun _ => Or.inl (hx.resolve_left x0))
    · rw [if_neg v0]
      exact go 1 (Or.inr rfl) (fun z => absurd z (by decide)) (fun _ => Or.inr (q2.resolve_left v0))
/-- till nothing changes -/
theorem ky_while (hq : ∀ ch ∈ chs, ∀ q ∈ ch.2.2.2.1, q.1 ≤ Z ∧ kOf V chs (V q.1) ≠ none) {k : Nat} (hk : k < chs.length) : ∀ (m : Nat) {h : am_H} (u3 : Option am_V), cz (h 72) chs.length ≤ m → kR K V P Z h → kG V P chs h → rB chs.length h → (∀ b, ed V chs k b → h 72 b = 1) → (∀ b, b < chs.length → h 72 b = 1 → rch V chs k b) → ∃ h' v, am_E (am_D (d + 2)) m_4_33 (.inl 3) [some (am_r (am_a 36)), some (am_i (k : Int)), some (am_i 1), u3] [] (zS L, h) = pI L v h' ∧ (v = 0 ∨ v = 1) ∧ (v = 1 ↔ rch V chs k k) ∧ p_fr [72] [] h h' := fun m => by
  induction m with
  | zero =>
    intro h u3 hm R G B h1 h2
    have G16 := G.1.2
    rw [q_4_33_3, if_neg (by decide)]
    obtain ⟨h', y, u3, r1, r2, r3, r4, r5, r6, r7⟩ := ky_round (d := d) (L := L) hq (k : Int) chs.length 0 0 (by omega) (Or.inl rfl) R G B
    rw [show ((0 : Nat) : Int) = 0 from rfl] at r1
    rw [r1]
    rcases r2 with z | z
    · obtain ⟨-, z3, z4⟩ := r6 z
      have b1 := r4.1 k hk
      have bt : am_bit (h' 72 k) (pI L (h' 72 k) h') = pI L (h' 72 k) h' := by rcases b1 with w | w; rw [w]; exact p_bit0; rw [w]; exact p_bit1
      rw [z, q_4_33_3, if_pos rfl, p_idx (by omega) (by omega), Int.toNat_natCast]
      refine ⟨h', _, bt, b1, ⟨fun w => h2 k hk (by rw [← z3 k hk]; exact w), fun w => ?_⟩, r3⟩
      rw [z3 k hk]
      exact w (fun b => h 72 b = 1) h1 (fun a b ha hab => z4 a b (Nat.zero_le _) (ed_rg hab).1 ha hab)
    · rcases r7 z with w | ⟨b, w1, w2, w3⟩
      · exact absurd w (by decide)
      · have := cz_lt (g := h 72) (g' := fun _ => 1) chs.length (fun b hb hz => absurd hz (by decide)) ⟨b, w1, w2, by decide⟩
        omega
  | succ m ih =>
    intro h u3 hm R G B h1 h2
    have G16 := G.1.2
    rw [q_4_33_3, if_neg (by decide)]
    obtain ⟨h', y, u3, r1, r2, r3, r4, r5, r6, r7⟩ := ky_round (d := d) (L := L) hq (k : Int) chs.length 0 0 (by omega) (Or.inl rfl) R G B
    rw [show ((0 : Nat) : Int) = 0 from rfl] at r1
    rw [r1]
    rcases r2 with z | z
    · obtain ⟨-, z3, z4⟩ := r6 z
      have b1 := r4.1 k hk
      have bt : am_bit (h' 72 k) (pI L (h' 72 k) h') = pI L (h' 72 k) h' := by rcases b1 with w | w; rw [w]; exact p_bit0; rw [w]; exact p_bit1
      rw [z, q_4_33_3, if_pos rfl, p_idx (by omega) (by omega), Int.toNat_natCast]
      refine ⟨h', _, bt, b1, ⟨fun w => h2 k hk (by rw [← z3 k hk]; exact w), fun w => ?_⟩, r3⟩
      rw [z3 k hk]
      exact w (fun b => h 72 b = 1) h1 (fun a b ha hab => z4 a b (Nat.zero_le _) (ed_rg hab).1 ha hab)
    · have lt : cz (h' 72) chs.length < cz (h 72) chs.length := by
        rcases r7 z with w | w
        · exact absurd w (by decide)
        · refine cz_lt chs.length (fun b hb hz => ?_) w
          rcases B b hb with u | u
          · exact u
          · have := r4.2 b hb u; omega
      rw [z]
      obtain ⟨h'', v, q1, q2, q3, q4⟩ := ih u3 (by omega) (R.r72 r3) (G.r72 r3) r4.1 (fun b hb => r4.2 b (ed_rg hb).2 (h1 b hb)) (fun b hb w => r5 (fun b => rch V chs k b) h2 (fun a b ha hab S s1 s2 => s2 a b (ha S s1 s2) hab) b hb w)
      exact ⟨h'', v, q1, q2, q3, r3.trans q4⟩
theorem ky_z72 (x1 : Int) (u3 : Option am_V) : ∀ (m j : Nat) {h : am_H}, j + m = chs.length → kG V P chs h → (∀ b, b < j → h 72 b = 0) → ∃ h', am_E (am_D d) m_4_33 (.inl 1) [some (am_r (am_a 36)), some (am_i x1), some (am_i (j : Int)), u3] [] (zS L, h) = am_E (am_D d) m_4_33 (.inl 1) [some (am_r (am_a 36)), some (am_i x1), some (am_i (chs.length : Int)), u3] [] (zS L, h') ∧ (∀ b, b < chs.length → h' 72 b = 0) ∧ p_fr [72] [] h h'
  | 0, j, h, hm, G, H => ⟨h, by rw [show j = chs.length by omega], fun b hb => H b (by omega), p_fr.refl h⟩
  | m + 1, j, h, hm, G, H => by
    have G16 := G.1.2
    rw [q_4_33_1, G.1.1, if_pos (by omega), p_bit0, p_idx (by omega) (by omega), Int.toNat_natCast, p_w (by omega) (by omega)]
    have f1 : p_fr [72] [] h (am_up h 72 j 0) := (p_fr.refl h).upc _ _ _ rfl
    obtain ⟨h', r1, r2, r3⟩ := ky_z72 x1 u3 m (j + 1) (h := am_up h 72 j 0) (by omega) (G.r72 f1) (fun b hb => by
      by_cases e : b = j
      · rw [e, p_up_s]
      · rw [p_up_n _ _ _ _ _ _ (Or.inr e)]; exact H b (by omega))
    exact ⟨h', r1, r2, f1.trans r3⟩
theorem ky_isIn (hq : ∀ ch ∈ chs, ∀ q ∈ ch.2.2.2.1, q.1 ≤ Z ∧ kOf V chs (V q.1) ≠ none) {k : Nat} (hk : k < chs.length) (R : kR K V P Z h) (G : kG V P chs h) : ∃ h' v, am_D (d + 3) 4 33 [am_r (am_a 36), am_i (k : Int)] (zS L, h) = pI L v h' ∧ (v = 0 ∨ v = 1) ∧ (v = 1 ↔ rch V chs k k) ∧ p_fr [72] [] h h' := by
  have G16 := G.1.2
  have hkc : chs[k]? = some chs[k] := List.getElem?_eq_getElem hk
  obtain ⟨h1, r1, z1, f1⟩ := ky_z72 (d := d + 2) (L := L) (k : Int) none chs.length 0 (by omega) G (fun b hb => by omega)
  rw [show ((0 : Nat) : Int) = 0 from rfl] at r1
  have G1 := G.r72 f1
  have R1 := R.r72 f1
  obtain ⟨h2, y, q1, q2, q3, q4, q5, q6, q7⟩ := ky_mark (d := d) (L := L) hkc (hq _ (List.mem_of_getElem? hkc)) R1 G1 (fun b hb => Or.inl (z1 b hb))
  rw [D_4_33, r1, q_4_33_1, G1.1.1, if_neg (by omega), p_idx (by omega) (by omega), Int.toNat_natCast, CHS_at k (by omega), q1, p_xI]
  obtain ⟨h3, v, s1, s2, s3, s4⟩ := ky_while (d := d) (L := L) hq hk _ none (Nat.le_refl _) (R1.r72 q3) (G1.r72 q3) q4.1 (fun b hb => (q5 b (ed_rg hb).2).2 hb) (fun b hb w => by
    rcases (q5 b hb).1 w with u | u
    · rw [z1 b hb] at u; exact absurd u (by decide)
    · exact fun S s1 s2 => s1 b u)
  exact ⟨h3, v, s1, s2, s3, (f1.trans q3).trans s4⟩
/-- rings: the first chip that is a part of itself -/
theorem ky_rings (hq : ∀ ch ∈ chs, ∀ q ∈ ch.2.2.2.1, q.1 ≤ Z ∧ kOf V chs (V q.1) ≠ none) (u1 : Option am_V) : ∀ (m c : Nat) {h : am_H}, c + m = chs.length → kR K V P Z h → kG V P chs h → (∀ c', c' < c → ¬ rch V chs c' c') → (∃ c ch h', chs[c]? = some ch ∧ rch V chs c c ∧ (∀ c', c' < c → ¬ rch V chs c' c') ∧ am_E (am_D (d + 3)) m_4_13 (.inl 4) [some (am_r (am_a 36)), u1, some (am_i ((chs.length - m : Nat) : Int))] [] (zS L, h) = pI L 6 h' ∧ h' 36 8 = P ch.1 ∧ h' 36 6 = 0 ∧ kfy h h') ∨ ((∀ c, c < chs.length → ¬ rch V chs c c) ∧ ∃ h', am_E (am_D (d + 3)) m_4_13 (.inl 4) [some (am_r (am_a 36)), u1, some (am_i ((chs.length - m : Nat) : Int))] [] (zS L, h) = pI L 0 h' ∧ p_fr [72] [] h h')
  | 0, c, h, hm, R, G, H => by
    right
    refine ⟨fun c' hc' => H c' (by omega), h, ?_, p_fr.refl h⟩
    rw [q_4_13_4, G.1.1, if_neg (by omega)]
  | m + 1, c, h, hm, R, G, H => by
    have G16 := G.1.2
    have hc : chs[c]? = some chs[c] := List.getElem?_eq_getElem (by omega)
    obtain ⟨h1, v, r1, r2, r3, r4⟩ := ky_isIn (d := d) (L := L) hq (show c < chs.length by omega) R G
    have G1 := G.r72 r4
    have C0 := CB_c L c (by omega)
    have y4 : kfy h h1 := fun a k a1 a2 a3 a4 a5 => r4 a k (by simp; omega) rfl
    rw [show chs.length - (m + 1) = c by omega, q_4_13_4, G.1.1, if_pos (by omega), r1, p_xI]
    by_cases v0 : v = 0
    · have nr : ¬ rch V chs c c := fun w => by have := r3.2 w; omega
      rw [if_pos v0, p_idx (by omega) (by omega), Int.toNat_natCast, CHS_at c (by omega), C0.ob, ky_ok, p_xV, p_w (by omega) (by omega)]
      have ih := ky_rings hq u1 m (c + 1) (by omega) (R.r72 r4) G1 (fun c' hc' => by
        by_cases e : c' = c
        · rw [e]; exact nr
        · exact H c' (by omega))
      rw [show chs.length - m = c + 1 by omega] at ih
      rcases ih with ⟨c', ch', h', i1, i2, i3, i4, i5, i6, i7⟩ | ⟨i1, h', i2, i3⟩
      · exact Or.inl ⟨c', ch', h', i1, i2, i3, i4, i5, i6, y4.trans i7⟩
      · exact Or.inr ⟨i1, h', i2, r4.trans i3⟩
    · have rc : rch V chs c c := r3.1 (by omega)
      have pl := (G1.2.2 c _ hc).1.2
      obtain ⟨h', x1, x2⟩ := ky_no (d := d + 1) (L := L) (P := P) (kfy.refl h1) 6 chs[c].1
      left
      refine ⟨c, _, am_up h' 36 6 0, hc, rc, H, ?_, ?_, p_up_s _ _ _ _, y4.trans (x2.2.2.up (by omega))⟩
      · rw [if_neg v0, p_idx (by omega) (by omega), Int.toNat_natCast, CHS_at c (by omega), C0.ob, pl, x1, p_xVt, p_obj (show (zS L)[52]? = some (0, 20, []) from rfl), q_4_13_8, x2.1]
      · rw [p_up_n _ _ _ _ _ _ (Or.inr (by decide))]; exact x2.2.1
end
