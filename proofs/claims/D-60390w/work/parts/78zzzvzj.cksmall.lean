/-! CHIPS, 36: sizes: the component's rounds -/
section
variable {d L : Nat} {K V P : Nat → Int} {Z c0 : Nat} {chs : List cCh} {ch : cCh} {h h' : am_H}
/-- what is known of chips that have passed all checks -/
def kY (K V : Nat → Int) (Z : Nat) (chs : List cCh) : Prop := (∀ c, c < chs.length → ¬ rch V chs c c) ∧ (∀ ch ∈ chs, ∀ q ∈ ch.2.2.2.1, q.1 ≤ Z ∧ kOf V chs (V q.1) ≠ none) ∧ (∀ ch ∈ chs, ∀ j, 0 ≤ cIW K V chs ch j ∧ cIW K V chs ch j ≤ 16) ∧ (∀ ch ∈ chs, ch.2.1.length ≤ 12 ∧ ch.2.2.2.2.length ≤ 100) ∧ 1 ≤ chs.length ∧ chs.length ≤ 16
theorem own_rg (Y : kY K V Z chs) (hc : ch ∈ chs) : ownx K V chs ch ≤ 1800 := by
  have a := wsm_rg (V := V) ch.2.1
  have b := ism_rg (X := cIW K V chs ch) (fun j => (Y.2.2.1 ch hc j).2) ch.2.2.2.2.length
  have := Y.2.2.2.1 ch hc
  unfold ownx
  omega
theorem ky_sum (Y : kY K V Z chs) (hc : chs[c0]? = some ch) (H : kZ K V P Z chs h) (S : SZ K V chs h) : ((∃ b, ed V chs c0 b ∧ h 208 b = -1) ∧ am_D (d + 3) 2 7 [am_r (am_a 195), am_i (c0 : Int)] (zS L, h) = pV L h) ∨ am_D (d + 3) 2 7 [am_r (am_a 195), am_i (c0 : Int)] (zS L, h) = pV L (am_up (am_up h 208 c0 ((min 1501 (gAll V chs c0) : Nat) : Int)) 209 c0 ((min 40001 (bAll K V chs c0) : Nat) : Int)) := by
  have hcl := (List.getElem?_eq_some_iff.1 hc).1
  have hcm := List.mem_of_getElem? hc
  have G16 := H.1.2.1.1.2
  have wr := wsm_rg (V := V) ch.2.1
  have wl := (Y.2.2.2.1 ch hcm).1
  have or := own_rg Y hcm
  have e1 := ky_s1 (d := d + 2) (L := L) hc H (c0 : Int) 0 none none ch.2.1.length 0 (by omega)
  have e3 := ky_s3 (d := d + 2) (L := L) hc H (Y.2.2.1 ch hcm) (c0 : Int) 0 (w0 := wsm V ch.2.1) (by omega) none none ch.2.2.2.2.length 0 (by omega)
  have e5 := ky_s5 (d := d) (L := L) hc H S (Y.2.1 ch hcm) (o := ownx K V chs ch) (by omega) Y.1 rfl ch.2.2.2.1.length 0 none none (by omega)
  rw [List.take_zero] at e1 e5
  rw [show ((wsm V [] : Nat) : Int) = 0 from rfl, show ((0 : Nat) : Int) = 0 from rfl] at e1
  rw [show wsm V ch.2.1 + ism (cIW K V chs ch) 0 = wsm V ch.2.1 from rfl, show ((0 : Nat) : Int) = 0 from rfl] at e3
  rw [show ((min 1501 (gsm V chs (gAll V chs) []) : Nat) : Int) = 0 from rfl, show ((min 40001 (ownx K V chs ch + bsm V chs (bAll K V chs) []) : Nat) : Int) = ((ownx K V chs ch : Nat) : Int) by show ((min 40001 (ownx K V chs ch + 0) : Nat) : Int) = _; omega, show ((0 : Nat) : Int) = 0 from rfl] at e5
  rw [D_2_7, p_idx (by omega) (by omega), Int.toNat_natCast, CHS_at c0 (by omega), e1, e3]
  rcases e5 with ⟨z1, z2⟩ | ⟨h', z1, z2⟩
  · exact Or.inl ⟨z1, z2⟩
  · right; rw [← z2]; exact z1
/-- a round over all chips -/
theorem ky_srnd (Y : kY K V Z chs) (x1 : Int) (r : Nat) : ∀ (m k : Nat) {h : am_H}, k + m = chs.length → kZ K V P Z chs h → SZ K V chs h → (∀ c, c < chs.length → rkx V chs c < r → h 208 c ≠ -1) → (∀ c, c < k → rkx V chs c < r + 1 → h 208 c ≠ -1) → ∃ h' u2, am_E (am_D (d + 3)) m_2_4 (.inl 4) [some (am_r (am_a 195)), some (am_i x1), some (am_i (k : Int))] [] (zS L, h) = am_E (am_D (d + 3)) m_2_4 (.inl 3) [some (am_r (am_a 195)), some (am_i x1), u2] [] (zS L, h') ∧ p_fr [208, 209] [] h h' ∧ SZ K V chs h' ∧ ∀ c, c < chs.length → rkx V chs c < r + 1 → h' 208 c ≠ -1
  | 0, k, h, hm, H, S, h1, h2 => by
    rw [q_2_4_4, H.1.2.1.1.1, if_neg (by omega)]
    exact ⟨h, _, rfl, p_fr.refl h, S, fun c hc => h2 c (by omega)⟩
  | m + 1, k, h, hm, H, S, h1, h2 => by
    have G16 := H.1.2.1.1.2
    have hk : chs[k]? = some chs[k] := List.getElem?_eq_getElem (by omega)
    rw [q_2_4_4, H.1.2.1.1.1, if_pos (by omega), p_idx (by omega) (by omega), Int.toNat_natCast, p_w (by omega) (by omega)]
    by_cases un : h 208 k = -1
    · rw [if_pos un]
      rcases ky_sum (d := d) (L := L) Y hk H S with ⟨⟨b, z1, z2⟩, z3⟩ | z3
      · rw [z3, p_xV]
        refine ky_srnd Y x1 r m (k + 1) (by omega) H S h1 (fun c hc hr => ?_)
        by_cases e : c = k
        · subst e
          exact absurd z2 (h1 b (ed_rg z1).2 (by have := rk_lt Y.1 z1; omega))
        · exact h2 c (by omega) hr
      · rw [z3, p_xV]
        have f1 : p_fr [208, 209] [] h (am_up (am_up h 208 k ((min 1501 (gAll V chs k) : Nat) : Int)) 209 k ((min 40001 (bAll K V chs k) : Nat) : Int)) := ((p_fr.refl h).upc _ _ _ rfl).upc _ _ _ rfl
        have v8 : ∀ c, c ≠ k → am_up (am_up h 208 k ((min 1501 (gAll V chs k) : Nat) : Int)) 209 k ((min 40001 (bAll K V chs k) : Nat) : Int) 208 c = h 208 c ∧ am_up (am_up h 208 k ((min 1501 (gAll V chs k) : Nat) : Int)) 209 k ((min 40001 (bAll K V chs k) : Nat) : Int) 209 c = h 209 c := fun c hc => ⟨by rw [p_up_c _ _ _ _ _ (by decide), p_up_n _ _ _ _ _ _ (Or.inr hc)], by rw [p_up_n _ _ _ _ _ _ (Or.inr hc), p_up_c _ _ _ _ _ (by decide)]⟩
        have vk : am_up (am_up h 208 k ((min 1501 (gAll V chs k) : Nat) : Int)) 209 k ((min 40001 (bAll K V chs k) : Nat) : Int) 208 k = ((min 1501 (gAll V chs k) : Nat) : Int) := by rw [p_up_c _ _ _ _ _ (by decide), p_up_s]
        obtain ⟨h', u2, r1, r2, r3, r4⟩ := ky_srnd Y x1 r m (k + 1) (by omega) (H.fr (z208 f1)) (fun c hc => by
          by_cases e : c = k
          · subst e; right; exact ⟨vk, p_up_s _ _ _ _⟩
          · rw [(v8 c e).1, (v8 c e).2]; exact S c hc) (fun c hc hr => by
          by_cases e : c = k
          · subst e; rw [vk]; omega
          · rw [(v8 c e).1]; exact h1 c hc hr) (fun c hc hr => by
          by_cases e : c = k
          · subst e; rw [vk]; omega
          · rw [(v8 c e).1]; exact h2 c (by omega) hr)
        exact ⟨h', u2, r1, f1.trans r2, r3, r4⟩
    · rw [if_neg un]
      refine ky_srnd Y x1 r m (k + 1) (by omega) H S h1 (fun c hc hr => ?_)
      by_cases e : c = k
      · subst e; exact un
      · exact h2 c (by omega) hr
theorem ky_swh (Y : kY K V Z chs) : ∀ (m r : Nat) {h : am_H} (u2 : Option am_V), r + m = chs.length → kZ K V P Z chs h → SZ K V chs h → (∀ c, c < chs.length → rkx V chs c < r → h 208 c ≠ -1) → ∃ h', am_E (am_D (d + 3)) m_2_4 (.inl 3) [some (am_r (am_a 195)), some (am_i ((chs.length - 1 : Nat) : Int)), u2] [] (zS L, h) = pI L (pB (gAll V chs (chs.length - 1) ≤ 1500 ∧ bAll K V chs (chs.length - 1) ≤ 40000)) h' ∧ p_fr [208, 209] [] h h' := fun m => by
  have l1 := Y.2.2.2.2.1
  have l16 := Y.2.2.2.2.2
  have fin : ∀ {h : am_H} (u2 : Option am_V), SZ K V chs h → h 208 (chs.length - 1) ≠ -1 → am_E (am_D (d + 3)) m_2_4 (.inl 3) [some (am_r (am_a 195)), some (am_i ((chs.length - 1 : Nat) : Int)), u2] [] (zS L, h) = pI L (pB (gAll V chs (chs.length - 1) ≤ 1500 ∧ bAll K V chs (chs.length - 1) ≤ 40000)) h := fun {h} u2 S hn => by
    obtain ⟨s1, s2⟩ := (S (chs.length - 1) (by omega)).resolve_left hn
    rw [q_2_4_3, p_idx (by omega) (by omega), Int.toNat_natCast, if_neg hn, p_idx (by omega) (by omega), Int.toNat_natCast, s1]
    by_cases y1 : (1500 : Int) < ((min 1501 (gAll V chs (chs.length - 1)) : Nat) : Int)
    · rw [if_pos y1, p_bit0, pB_f (by omega)]
    · rw [if_neg y1, p_idx (by omega) (by omega), Int.toNat_natCast, s2]
      by_cases y2 : (40000 : Int) < ((min 40001 (bAll K V chs (chs.length - 1)) : Nat) : Int)
      · rw [if_pos y2, p_bit0, pB_f (by omega)]
      · rw [if_neg y2, p_bit1, pB_t (by omega)]
  induction m with
  | zero =>
    intro r h u2 hm H S hr
    exact ⟨h, fin u2 S (hr _ (by omega) (by have := rk_rg Y.1 (show chs.length - 1 < chs.length by omega); omega)), p_fr.refl h⟩
  | succ m ih =>
    intro r h u2 hm H S hr
    by_cases un : h 208 (chs.length - 1) = -1
    · rw [q_2_4_3, p_idx (by omega) (by omega), Int.toNat_natCast, if_pos un]
      obtain ⟨h1, w2, r1, r2, r3, r4⟩ := ky_srnd (d := d) (L := L) Y ((chs.length - 1 : Nat) : Int) r chs.length 0 (by omega) H S hr (fun c hc => by omega)
      rw [show ((0 : Nat) : Int) = 0 from rfl] at r1
      rw [r1]
      obtain ⟨h2, s1, s2⟩ := ih (r + 1) w2 (by omega) (H.fr (z208 r2)) r3 r4
      exact ⟨h2, s1, r2.trans s2⟩
    · exact ⟨h, fin u2 S un, p_fr.refl h⟩
theorem ky_sinit (u2 : Option am_V) : ∀ (m k : Nat) {h : am_H}, k + m = chs.length → kZ K V P Z chs h → (∀ c, c < k → h 208 c = -1) → ∃ h', am_E (am_D d) m_2_4 (.inl 1) [some (am_r (am_a 195)), some (am_i (k : Int)), u2] [] (zS L, h) = am_E (am_D d) m_2_4 (.inl 1) [some (am_r (am_a 195)), some (am_i (chs.length : Int)), u2] [] (zS L, h') ∧ (∀ c, c < chs.length → h' 208 c = -1) ∧ p_fr [208, 209] [] h h'
  | 0, k, h, hm, H, h1 => ⟨h, by rw [show k = chs.length by omega], fun c hc => h1 c (by omega), p_fr.refl h⟩
  | m + 1, k, h, hm, H, h1 => by
    have G16 := H.1.2.1.1.2
    rw [q_2_4_1, H.1.2.1.1.1, if_pos (by omega), p_idx (by omega) (by omega), Int.toNat_natCast, p_w (by omega) (by omega)]
    have f1 : p_fr [208, 209] [] h (am_up h 208 k (-1)) := (p_fr.refl h).upc _ _ _ rfl
    obtain ⟨h', r1, r2, r3⟩ := ky_sinit u2 m (k + 1) (h := am_up h 208 k (-1)) (by omega) (H.fr (z208 f1)) (fun c hc => by
      by_cases e : c = k
      · rw [e, p_up_s]
      · rw [p_up_n _ _ _ _ _ _ (Or.inr e)]; exact h1 c (by omega))
    exact ⟨h', r1, r2, f1.trans r3⟩
/-- isSmall -/
theorem ky_small (Y : kY K V Z chs) (H : kZ K V P Z chs h) : ∃ h', am_D (d + 4) 2 4 [am_r (am_a 195)] (zS L, h) = pI L (pB (gAll V chs (chs.length - 1) ≤ 1500 ∧ bAll K V chs (chs.length - 1) ≤ 40000)) h' ∧ p_fr [208, 209] [] h h' := by
  have l1 := Y.2.2.2.2.1
  have l16 := Y.2.2.2.2.2
  obtain ⟨h1, r1, r2, r3⟩ := ky_sinit (d := d + 3) (L := L) none chs.length 0 (by omega) H (fun c hc => by omega)
  have H1 := H.fr (z208 r3)
  obtain ⟨h2, s1, s2⟩ := ky_swh (d := d) (L := L) Y chs.length 0 none (by omega) H1 (fun c hc => Or.inl (r2 c hc)) (fun c hc hr => by omega)
  rw [show ((0 : Nat) : Int) = 0 from rfl] at r1
  rw [D_2_4, r1, q_2_4_1, H1.1.2.1.1.1, if_neg (by omega), p_w (by omega) (by omega), show (chs.length : Int) - 1 = ((chs.length - 1 : Nat) : Int) by omega, s1]
  exact ⟨h2, rfl, r3.trans s2⟩
end
