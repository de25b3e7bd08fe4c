/-! CHIPS, 35: sizes: the component -/
section
variable {d L : Nat} {K V P : Nat → Int} {Z c0 : Nat} {chs : List cCh} {ch : cCh} {h h' : am_H}
/-- chips that have passed all checks -/
def kZ (K V P : Nat → Int) (Z : Nat) (chs : List cCh) (h : am_H) : Prop := kK K V P Z chs h ∧ ∀ c ch, chs[c]? = some ch → ∀ j, j < ch.2.2.2.2.length → h (83 + 7 * c + 5) j = cIW K V chs ch j
/-- frames that leave chips and tokens alone -/
def zfr (h h' : am_H) : Prop := ∀ c k, (c ≤ 194 ∧ (c = 36 → k = 6) ∧ c ≠ 53 ∧ c ≠ 54) → h' c k = h c k
theorem kZ.fr (H : kZ K V P Z chs h) (f : zfr h h') : kZ K V P Z chs h' := by
  have x : kfx (83 + 7 * 200) h h' → kZ K V P Z chs h' := fun x => by
    refine ⟨H.1.fx x, fun c ch hc j hj => ?_⟩
    have := (List.getElem?_eq_some_iff.1 hc).1
    have := H.1.2.1.1.2
    rw [f _ _ ⟨by omega, by omega, by omega, by omega⟩]
    exact H.2 c ch hc j hj
  obtain ⟨⟨R, ⟨⟨g1, g2⟩, g3, g4⟩, gw⟩, hw⟩ := H
  refine ⟨⟨R.fr (funext fun k => f 78 k (by omega)) (funext fun k => f 79 k (by omega)) (funext fun k => f 80 k (by omega)), ⟨⟨by rw [f 36 6 (by omega)]; exact g1, g2⟩, fun k hk => ?_, fun c ch hc => ?_⟩, fun k hk j y hy => ?_⟩, fun c ch hc j hj => ?_⟩
  · obtain ⟨a1, a2, a3⟩ := g3 k hk
    have e0 : ∀ j, h' (kb k) j = h (kb k) j := fun j => f _ _ (by rcases kb_lo k with z | z | ⟨c, z1, z2⟩ <;> omega)
    have e1 : ∀ j, h' (kb k + 1) j = h (kb k + 1) j := fun j => f _ _ (by rcases kb_lo k with z | z | ⟨c, z1, z2⟩ <;> omega)
    rw [e0, e0]
    exact ⟨a1, a2, fun j y hy => by rw [e1]; exact a3 j y hy⟩
  · have := (List.getElem?_eq_some_iff.1 hc).1
    obtain ⟨a1, a2, a3, a4, a5⟩ := g4 c ch hc
    have eb : ∀ k, h' (83 + 7 * c) k = h (83 + 7 * c) k := fun k => f _ _ (by omega)
    have e3 : ∀ k, h' (83 + 7 * c + 3) k = h (83 + 7 * c + 3) k := fun k => f _ _ (by omega)
    have e4 : ∀ k, h' (83 + 7 * c + 4) k = h (83 + 7 * c + 4) k := fun k => f _ _ (by omega)
    rw [eb, eb, eb, eb]
    exact ⟨a1, a2, a3, fun k q hq => by rw [e3]; exact a4 k q hq, fun k t ht => by rw [e4]; exact a5 k t ht⟩
  · rw [f _ _ (by rcases kb_lo k with z | z | ⟨c, z1, z2⟩ <;> omega)]; exact gw k hk j y hy
  · have := (List.getElem?_eq_some_iff.1 hc).1
    rw [f _ _ (by omega)]; exact hw c ch hc j hj
theorem z208 (f : p_fr [208, 209] [] h h') : zfr h h' := fun c k hc => f c k (by simp; omega) rfl
/-- known sizes -/
def SZ (K V : Nat → Int) (chs : List cCh) (h : am_H) : Prop := ∀ c, c < chs.length → h 208 c = -1 ∨ (h 208 c = ((min 1501 (gAll V chs c) : Nat) : Int) ∧ h 209 c = ((min 40001 (bAll K V chs c) : Nat) : Int))
theorem ky_s1 (hc : chs[c0]? = some ch) (H : kZ K V P Z chs h) (x1 x3 : Int) (u6 u7 : Option am_V) : ∀ (m p : Nat), p + m = ch.2.1.length → am_E (am_D d) m_2_7 (.inl 1) [some (am_r (am_a 195)), some (am_i x1), some (am_r (am_a (83 + 7 * c0))), some (am_i x3), some (am_i ((wsm V (ch.2.1.take p) : Nat) : Int)), some (am_i (p : Int)), u6, u7] [] (zS L, h) = am_E (am_D d) m_2_7 (.inl 3) [some (am_r (am_a 195)), some (am_i x1), some (am_r (am_a (83 + 7 * c0))), some (am_i x3), some (am_i ((wsm V ch.2.1 : Nat) : Int)), some (am_i 0), u6, u7] [] (zS L, h)
  | 0, p, hm => by
    have hcl := (List.getElem?_eq_some_iff.1 hc).1
    have G16 := H.1.2.1.1.2
    have C0 := CB_c L c0 (by omega)
    have g1 := (H.1.2.1.2.1 (2 + c0) (by omega)).1.1
    rw [kb_c, (kNm_c (V := V) hc).1, show (cNm V ch).length = ch.2.1.length by unfold cNm; rw [List.length_map]] at g1
    rw [q_2_7_1, C0.ob, g1, if_neg (by omega), List.take_of_length_le (by omega)]
  | m + 1, p, hm => by
    have hcl := (List.getElem?_eq_some_iff.1 hc).1
    have G16 := H.1.2.1.1.2
    have C0 := CB_c L c0 (by omega)
    have g1 := (H.1.2.1.2.1 (2 + c0) (by omega)).1
    rw [kb_c, (kNm_c (V := V) hc).1, show (cNm V ch).length = ch.2.1.length by unfold cNm; rw [List.length_map]] at g1
    have hp : p < ch.2.1.length := by omega
    have gw := H.1.2.2 (2 + c0) (by omega) p (c_w V ch.2.1[p].2) (by rw [(kNm_c (V := V) hc).2.1]; unfold cWs; rw [List.getElem?_map, List.getElem?_eq_getElem hp]; rfl)
    rw [kb_c] at gw
    have wr := c_w_rg V ch.2.1[p].2
    have wb := wsm_rg (V := V) (ch.2.1.take p)
    have tl : (ch.2.1.take p).length ≤ 12 := by rw [List.length_take]; omega
    have ws : wsm V (ch.2.1.take (p + 1)) = wsm V (ch.2.1.take p) + (c_w V ch.2.1[p].2).toNat := by
      rw [List.take_succ_eq_append_getElem hp, wsm_app]; rfl
    rw [q_2_7_1, C0.ob, g1.1, if_pos (by omega), C0.ob, CB.r7, C0.a2, p_idx (by omega) (by omega), Int.toNat_natCast, gw, p_w (by omega) (by omega), p_w (by omega) (by omega), show ((wsm V (ch.2.1.take p) : Nat) : Int) + c_w V ch.2.1[p].2 = ((wsm V (ch.2.1.take (p + 1)) : Nat) : Int) by rw [ws]; omega]
    exact ky_s1 hc H x1 x3 u6 u7 m (p + 1) (by omega)
theorem ism_rg {X : Nat → Int} (hX : ∀ j, X j ≤ 16) : ∀ n, ism X n ≤ 16 * n
  | 0 => Nat.le_refl _
  | n + 1 => by
    have := ism_rg hX n
    have := hX n
    unfold ism
    omega
theorem ky_s3 (hc : chs[c0]? = some ch) (H : kZ K V P Z chs h) (hw : ∀ j, 0 ≤ cIW K V chs ch j ∧ cIW K V chs ch j ≤ 16) (x1 x3 : Int) {w0 : Nat} (hw0 : w0 ≤ 200) (u6 u7 : Option am_V) : ∀ (m p : Nat), p + m = ch.2.2.2.2.length → am_E (am_D d) m_2_7 (.inl 3) [some (am_r (am_a 195)), some (am_i x1), some (am_r (am_a (83 + 7 * c0))), some (am_i x3), some (am_i ((w0 + ism (cIW K V chs ch) p : Nat) : Int)), some (am_i (p : Int)), u6, u7] [] (zS L, h) = am_E (am_D d) m_2_7 (.inl 5) [some (am_r (am_a 195)), some (am_i x1), some (am_r (am_a (83 + 7 * c0))), some (am_i x3), some (am_i ((w0 + ism (cIW K V chs ch) ch.2.2.2.2.length : Nat) : Int)), some (am_i 0), u6, u7] [] (zS L, h)
  | 0, p, hm => by
    have hcl := (List.getElem?_eq_some_iff.1 hc).1
    have G16 := H.1.2.1.1.2
    have C0 := CB_c L c0 (by omega)
    obtain ⟨-, -, ⟨g1, g2⟩, -⟩ := H.1.2.1.2.2 c0 ch hc
    rw [q_2_7_3, C0.ob, g1, if_neg (by omega), show p = ch.2.2.2.2.length by omega]
  | m + 1, p, hm => by
    have hcl := (List.getElem?_eq_some_iff.1 hc).1
    have G16 := H.1.2.1.1.2
    have C0 := CB_c L c0 (by omega)
    obtain ⟨-, -, ⟨g1, g2⟩, -⟩ := H.1.2.1.2.2 c0 ch hc
    have hp : p < ch.2.2.2.2.length := by omega
    have wr := hw p
    have wb := ism_rg (X := cIW K V chs ch) (fun j => (hw j).2) p
    rw [q_2_7_3, C0.ob, g1, if_pos (by omega), C0.ob, CB.r10, C0.a5, p_idx (by omega) (by omega), Int.toNat_natCast, H.2 c0 ch hc p hp, p_w (by omega) (by omega), p_w (by omega) (by omega), show ((w0 + ism (cIW K V chs ch) p : Nat) : Int) + cIW K V chs ch p = ((w0 + ism (cIW K V chs ch) (p + 1) : Nat) : Int) by
      show _ = ((w0 + (ism (cIW K V chs ch) p + (cIW K V chs ch p).toNat) : Nat) : Int)
      omega]
    exact ky_s3 hc H hw x1 x3 hw0 u6 u7 m (p + 1) (by omega)
/-- the parts -/
theorem ky_s5 (hc : chs[c0]? = some ch) (H : kZ K V P Z chs h) (S : SZ K V chs h) (hq : ∀ q ∈ ch.2.2.2.1, q.1 ≤ Z ∧ kOf V chs (V q.1) ≠ none) {o : Nat} (ho : o ≤ 3000) (R : ∀ c, c < chs.length → ¬ rch V chs c c) (hoe : o = ownx K V chs ch) : ∀ (m p : Nat) (u6 u7 : Option am_V), p + m = ch.2.2.2.1.length → ((∃ b, ed V chs c0 b ∧ h 208 b = -1) ∧ am_E (am_D (d + 2)) m_2_7 (.inl 5) [some (am_r (am_a 195)), some (am_i (c0 : Int)), some (am_r (am_a (83 + 7 * c0))), some (am_i ((min 1501 (gsm V chs (gAll V chs) (ch.2.2.2.1.take p)) : Nat) : Int)), some (am_i ((min 40001 (o + bsm V chs (bAll K V chs) (ch.2.2.2.1.take p)) : Nat) : Int)), some (am_i (p : Int)), u6, u7] [] (zS L, h) = pV L h) ∨ (∃ h', am_E (am_D (d + 2)) m_2_7 (.inl 5) [some (am_r (am_a 195)), some (am_i (c0 : Int)), some (am_r (am_a (83 + 7 * c0))), some (am_i ((min 1501 (gsm V chs (gAll V chs) (ch.2.2.2.1.take p)) : Nat) : Int)), some (am_i ((min 40001 (o + bsm V chs (bAll K V chs) (ch.2.2.2.1.take p)) : Nat) : Int)), some (am_i (p : Int)), u6, u7] [] (zS L, h) = pV L h' ∧ h' = am_up (am_up h 208 c0 ((min 1501 (gAll V chs c0) : Nat) : Int)) 209 c0 ((min 40001 (bAll K V chs c0) : Nat) : Int))
  | 0, p, u6, u7, hm => by
    have hcl := (List.getElem?_eq_some_iff.1 hc).1
    have G16 := H.1.2.1.1.2
    have C0 := CB_c L c0 (by omega)
    obtain ⟨-, ⟨g1, g2⟩, -⟩ := H.1.2.1.2.2 c0 ch hc
    right
    refine ⟨_, ?_, rfl⟩
    rw [q_2_7_5, C0.ob, g1, if_neg (by omega), p_idx (by omega) (by omega), p_idx (by omega) (by omega), Int.toNat_natCast, List.take_of_length_le (by omega), ← gAll_eq R hc, hoe, ← bAll_eq R hc]
    congr 3
    congr 1
    by_cases y : (40001 : Int) ≤ ((min 40001 (bAll K V chs c0) : Nat) : Int)
    · rw [if_pos y]; omega
    · rw [if_neg y]
  | m + 1, p, u6, u7, hm => by
    have z2 := H.1.1.1.1
    have hcl := (List.getElem?_eq_some_iff.1 hc).1
    have G16 := H.1.2.1.1.2
    have C0 := CB_c L c0 (by omega)
    obtain ⟨-, ⟨g1, g2⟩, -, g3, -⟩ := H.1.2.1.2.2 c0 ch hc
    have hp : p < ch.2.2.2.1.length := by omega
    obtain ⟨q, hqe⟩ : ∃ q, q = ch.2.2.2.1[p] := ⟨_, rfl⟩
    have hqp : ch.2.2.2.1[p]? = some q := by rw [hqe]; exact List.getElem?_eq_getElem hp
    obtain ⟨qz, qn⟩ := hq q (List.mem_of_getElem? hqp)
    have tg : gsm V chs (gAll V chs) (ch.2.2.2.1.take (p + 1)) = gsm V chs (gAll V chs) (ch.2.2.2.1.take p) + (match kOf V chs (V q.1) with | some k => if k < 2 then 1 else gAll V chs (k - 2) | none => 1) := by
      rw [List.take_succ_eq_append_getElem hp, gsm_app, ← hqe]; rfl
    have tb : bsm V chs (bAll K V chs) (ch.2.2.2.1.take (p + 1)) = bsm V chs (bAll K V chs) (ch.2.2.2.1.take p) + (match kOf V chs (V q.1) with | some k => if k = 0 then 3 else if k = 1 then 2 else bAll K V chs (k - 2) | none => 2) := by
      rw [List.take_succ_eq_append_getElem hp, bsm_app, ← hqe]; rfl
    rw [q_2_7_5, C0.ob, g1, if_pos (by omega), D_2_5, C0.ob, CB.r8, C0.a3, p_idx (by omega) (by omega), Int.toNat_natCast, g3 p q hqp, p_idx (by omega) (by omega), Int.toNat_natCast, (H.1.1.2 q.1 qz).2.2.1, ky_find (d := d) H.1.2.1, p_xR, p_xR, D_2_6]
    cases hk : kOf V chs (V q.1) with
    | none => exact absurd hk qn
    | some k =>
      rw [hk] at tg tb
      have hkl := kOf_rg hk
      rw [show kref (some k) = am_a (kb k) from rfl, acmp_e, acmp_n]
      have nx : ∀ (a b : Int) (u6 u7 : Option am_V), a = ((min 1501 (gsm V chs (gAll V chs) (ch.2.2.2.1.take (p + 1))) : Nat) : Int) → b = ((min 40001 (o + bsm V chs (bAll K V chs) (ch.2.2.2.1.take (p + 1))) : Nat) : Int) → ((∃ b, ed V chs c0 b ∧ h 208 b = -1) ∧ am_E (am_D (d + 2)) m_2_7 (.inl 5) [some (am_r (am_a 195)), some (am_i (c0 : Int)), some (am_r (am_a (83 + 7 * c0))), some (am_i a), some (am_i b), some (am_i (am_w ((p : Int) + 1))), u6, u7] [] (zS L, h) = pV L h) ∨ (∃ h', am_E (am_D (d + 2)) m_2_7 (.inl 5) [some (am_r (am_a 195)), some (am_i (c0 : Int)), some (am_r (am_a (83 + 7 * c0))), some (am_i a), some (am_i b), some (am_i (am_w ((p : Int) + 1))), u6, u7] [] (zS L, h) = pV L h' ∧ h' = am_up (am_up h 208 c0 ((min 1501 (gAll V chs c0) : Nat) : Int)) 209 c0 ((min 40001 (bAll K V chs c0) : Nat) : Int)) := by
        intro a b u6 u7 ha hb
        rw [ha, hb, p_w (by omega) (by omega)]
        exact ky_s5 hc H S hq ho R hoe m (p + 1) u6 u7 (by omega)
      have Ck := CB_k L (show k < 18 by omega)
      have pk := (H.1.2.1.2.1 k hkl).1.1
      -- a gate
      have gate : k < 2 → ((∃ b, ed V chs c0 b ∧ h 208 b = -1) ∧ am_E (am_D (d + 2)) m_2_7 (.inl 7) [some (am_r (am_a 195)), some (am_i (c0 : Int)), some (am_r (am_a (83 + 7 * c0))), some (am_i ((min 1501 (gsm V chs (gAll V chs) (ch.2.2.2.1.take p)) : Nat) : Int)), some (am_i ((min 40001 (o + bsm V chs (bAll K V chs) (ch.2.2.2.1.take p)) : Nat) : Int)), some (am_i (p : Int)), some (am_r (am_a (kb k))), u7] [am_i (-1)] (zS L, h) = pV L h) ∨ (∃ h', am_E (am_D (d + 2)) m_2_7 (.inl 7) [some (am_r (am_a 195)), some (am_i (c0 : Int)), some (am_r (am_a (83 + 7 * c0))), some (am_i ((min 1501 (gsm V chs (gAll V chs) (ch.2.2.2.1.take p)) : Nat) : Int)), some (am_i ((min 40001 (o + bsm V chs (bAll K V chs) (ch.2.2.2.1.take p)) : Nat) : Int)), some (am_i (p : Int)), some (am_r (am_a (kb k))), u7] [am_i (-1)] (zS L, h) = pV L h' ∧ h' = am_up (am_up h 208 c0 ((min 1501 (gAll V chs c0) : Nat) : Int)) 209 c0 ((min 40001 (bAll K V chs c0) : Nat) : Int)) := by
        intro hk2
        have ln : (kNm V chs k).length = (if k = 0 then 3 else 2) := by
          rcases (show k = 0 ∨ k = 1 by omega) with rfl | rfl <;> rfl
        rw [q_2_7_7, if_pos rfl, if_pos rfl, q_2_7_10, if_pos rfl, Ck.ob, pk, ln]
        have e1 : (match some k with | some k => if k < 2 then 1 else gAll V chs (k - 2) | none => 1 : Nat) = 1 := by show (if k < 2 then 1 else _) = 1; rw [if_pos hk2]
        have e2 : (match some k with | some k => if k = 0 then 3 else if k = 1 then 2 else bAll K V chs (k - 2) | none => 2 : Nat) = (if k = 0 then 3 else 2) := by
          show (if k = 0 then 3 else if k = 1 then 2 else _) = _
          by_cases z : k = 0
          · rw [if_pos z, if_pos z]
          · rw [if_neg z, if_neg z, if_pos (by omega)]
        rw [e1] at tg
        rw [e2] at tb
        refine nx _ _ _ _ ?_ ?_
        · rw [tg, p_w (by omega) (by omega)]
          by_cases y : (1501 : Int) ≤ ((min 1501 (gsm V chs (gAll V chs) (ch.2.2.2.1.take p)) : Nat) : Int) + 1
          · rw [if_pos y]; omega
          · rw [if_neg y]; omega
        · rw [tb]
          obtain ⟨w, hw, hw2⟩ : ∃ w, w = (if k = 0 then 3 else 2) ∧ w ≤ 3 := ⟨_, rfl, by split <;> omega⟩
          rw [← hw, p_w (by omega) (by omega)]
          by_cases y : (40001 : Int) ≤ ((min 40001 (o + bsm V chs (bAll K V chs) (ch.2.2.2.1.take p)) : Nat) : Int) + (w : Int)
          · rw [if_pos y]; omega
          · rw [if_neg y]; omega
      by_cases k0 : kb k = 38
      · rw [if_pos k0, p_bit1, p_xI, if_neg (by decide)]
        exact gate (by rcases kb_lo k with z | z | ⟨c, z1, z2⟩; unfold kb at z; split at z <;> omega; omega; omega)
      rw [if_neg k0]
      by_cases k1 : kb k = 45
      · rw [if_pos k1, p_bit1, p_xI, if_neg (by decide)]
        exact gate (by rcases kb_lo k with z | z | ⟨c, z1, z2⟩; omega; unfold kb at z; split at z <;> omega; omega)
      obtain ⟨b, hkb, hkb2⟩ : ∃ b, k = 2 + b ∧ kb k = 83 + 7 * b := by
        rcases kb_lo k with z | z | ⟨c, z1, z3⟩
        · exact absurd z k0
        · exact absurd z k1
        · exact ⟨c, z1, z3⟩
      have bl : b < chs.length := by omega
      have e1 : (match some k with | some k => if k < 2 then 1 else gAll V chs (k - 2) | none => 1 : Nat) = gAll V chs b := by show (if k < 2 then 1 else _) = _; rw [if_neg (by omega), show k - 2 = b by omega]
      have e2 : (match some k with | some k => if k = 0 then 3 else if k = 1 then 2 else bAll K V chs (k - 2) | none => 2 : Nat) = bAll K V chs b := by
        show (if k = 0 then 3 else if k = 1 then 2 else _) = _
        rw [if_neg (by omega), if_neg (by omega), show k - 2 = b by omega]
      rw [e1] at tg
      rw [e2] at tb
      rw [if_neg k1, p_bit0, p_xI, if_pos rfl, hkb2, ky_index (show b < 16 by omega), p_xI, q_2_7_7, if_neg (by omega), p_idx (by omega) (by omega), Int.toNat_natCast]
      by_cases un : h 208 b = -1
      · left
        rw [if_pos un]
        exact ⟨⟨b, ⟨ch, q, hc, List.mem_of_getElem? hqp, by rw [hk, hkb]⟩, un⟩, rfl⟩
      · obtain ⟨s1, s2⟩ := (S b bl).resolve_left un
        rw [if_neg un, if_neg (by omega), p_idx (by omega) (by omega), Int.toNat_natCast, q_2_7_10, if_neg (by omega), p_idx (by omega) (by omega), Int.toNat_natCast, s1, s2]
        refine nx _ _ _ _ ?_ ?_
        · rw [tg, p_w (by omega) (by omega)]
          by_cases y : (1501 : Int) ≤ ((min 1501 (gsm V chs (gAll V chs) (ch.2.2.2.1.take p)) : Nat) : Int) + ((min 1501 (gAll V chs b) : Nat) : Int)
          · rw [if_pos y]; omega
          · rw [if_neg y]; omega
        · rw [tb, p_w (by omega) (by omega)]
          by_cases y : (40001 : Int) ≤ ((min 40001 (o + bsm V chs (bAll K V chs) (ch.2.2.2.1.take p)) : Nat) : Int) + ((min 40001 (bAll K V chs b) : Nat) : Int)
          · rw [if_pos y]; omega
          · rw [if_neg y]; omega
end
