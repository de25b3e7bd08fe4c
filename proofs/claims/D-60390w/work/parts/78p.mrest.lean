/-! PURE LAYER, 147: the rest of the model's load() -/
theorem tV_tU {α : Type} (hd it : Nat → List α) (fi : Nat → Int) (N n3 : Nat) : ∀ (m s : Nat), s + m = n3 → tU hd it fi s (if s < n3 then (fi s).toNat else N) ++ tV hd it fi N n3 m s = tU hd it fi n3 N
  | 0, s, h => by
    have : s = n3 := by omega
    subst this
    rw [if_neg (Nat.lt_irrefl _)]
    show _ ++ [] = _
    rw [List.append_nil]
  | m + 1, s, h => by
    have e : tU hd it fi (s + 1) (if s + 1 < n3 then (fi (s + 1)).toNat else N) = tU hd it fi s (fi s).toNat ++ hd s ++ rgn it (fi s).toNat ((if s + 1 < n3 then (fi (s + 1)).toNat else N) - (fi s).toNat) := rfl
    rw [← tV_tU hd it fi N n3 m (s + 1) (by omega), e, if_pos (show s < n3 by omega)]
    show _ ++ (hd s ++ (rgn it (fi s).toNat _ ++ tV hd it fi N n3 m (s + 1))) = _
    rw [List.append_assoc, List.append_assoc]
section
variable {L d : Nat}
theorem mr_7 {u1 : Option am_V} {n : Nat} (hn : n ≤ 4000) : ∀ (j i : Nat) {h : am_H}, i + j = n → h 254 3 = (n : Int) → ∃ h', am_E (am_D d) m_17_68 (.inl 7) [some (am_r (am_a 254)), u1, some (am_i (i : Int))] [] (zS L, h) = am_E (am_D d) m_17_68 (.inl 9) [some (am_r (am_a 254)), u1, some (am_i 0)] [] (zS L, h') ∧ (∀ c, c ≠ 304 → h' c = h c) ∧ (∀ k, i ≤ k → k < n → h' 304 k = h 256 k) ∧ ∀ k, k < i → h' 304 k = h 304 k
  | 0, i, h, hj, e => ⟨h, by rw [q_17_68_7, e, if_neg (by omega)], fun _ _ => rfl, fun k h1 h2 => by omega, fun _ _ => rfl⟩
  | j + 1, i, h, hj, e => by
    obtain ⟨h', r1, r2, r3, r4⟩ := mr_7 (u1 := u1) hn j (i + 1) (h := am_up h 304 i (h 256 i)) (by omega) (by rw [p_up_c _ _ _ _ _ (by decide)]; exact e)
    refine ⟨h', ?_, fun c hc => by rw [r2 c hc, p_up_c _ _ _ _ _ hc], fun k h1 h2 => ?_, fun k hk => by rw [r4 k (by omega), p_up_n _ _ _ _ _ _ (Or.inr (by omega))]⟩
    · rw [q_17_68_7, e, if_pos (by omega), p_idx (by omega) (by omega), p_idx (by omega) (by omega), Int.toNat_natCast, p_w (by omega) (by omega)]
      exact r1
    · by_cases z : k = i
      · rw [z, r4 i (by omega), p_up_s]
      · rw [r3 k (by omega) h2, p_up_c _ _ _ _ _ (by decide)]
theorem mr_9 {u1 : Option am_V} {N : Nat} (hN : N ≤ 5000) : ∀ (j i : Nat) {h : am_H}, i + j = N → h 254 33 = (N : Int) → (∀ k, k < N → 0 ≤ h 280 k ∧ h 280 k < 2002) → ∃ h', am_E (am_D d) m_17_68 (.inl 9) [some (am_r (am_a 254)), u1, some (am_i (i : Int))] [] (zS L, h) = am_E (am_D d) m_17_68 (.inl 11) [some (am_r (am_a 254)), u1, some (am_i 0)] [] (zS L, h') ∧ (∀ c, c ≠ 303 → h' c = h c) ∧ (∀ k, i ≤ k → k < N → h' 303 k = h 258 (h 280 k).toNat) ∧ ∀ k, k < i → h' 303 k = h 303 k
  | 0, i, h, hj, e, hb => ⟨h, by rw [q_17_68_9, e, if_neg (by omega)], fun _ _ => rfl, fun k h1 h2 => by omega, fun _ _ => rfl⟩
  | j + 1, i, h, hj, e, hb => by
    have b := hb i (by omega)
    obtain ⟨h', r1, r2, r3, r4⟩ := mr_9 (u1 := u1) hN j (i + 1) (h := am_up h 303 i (h 258 (h 280 i).toNat)) (by omega) (by rw [p_up_c _ _ _ _ _ (by decide)]; exact e) (by rw [p_up_c _ _ _ _ _ (by decide)]; exact hb)
    refine ⟨h', ?_, fun c hc => by rw [r2 c hc, p_up_c _ _ _ _ _ hc], fun k h1 h2 => ?_, fun k hk => by rw [r4 k (by omega), p_up_n _ _ _ _ _ _ (Or.inr (by omega))]⟩
    · rw [q_17_68_9, e, if_pos (by omega), p_idx (by omega) (by omega), Int.toNat_natCast, p_idx b.1 b.2, p_idx (by omega) (by omega), Int.toNat_natCast, p_w (by omega) (by omega)]
      exact r1
    · by_cases z : k = i
      · rw [z, r4 i (by omega), p_up_s]
      · rw [r3 k (by omega) h2, p_up_c _ _ _ _ _ (by decide), p_up_c _ _ _ _ _ (by decide)]
theorem mr_11 {u1 : Option am_V} {N : Nat} (hN : N ≤ 5000) : ∀ (j i : Nat) {h : am_H}, i + j = N → h 254 33 = (N : Int) → (∀ k, k < N → 0 ≤ h 280 k ∧ h 280 k < 2002) → (∀ k, k < N → h 277 k = 1 → 0 ≤ h 259 (h 280 k).toNat ∧ h 259 (h 280 k).toNat ≤ 32767) → ∃ h', am_E (am_D d) m_17_68 (.inl 11) [some (am_r (am_a 254)), u1, some (am_i (i : Int))] [] (zS L, h) = am_E (am_D d) m_17_68 (.inl 11) [some (am_r (am_a 254)), u1, some (am_i (N : Int))] [] (zS L, h') ∧ (∀ c, c ≠ 279 → h' c = h c) ∧ (∀ k, i ≤ k → k < N → h' 279 k = if h 277 k = 1 then h 259 (h 280 k).toNat - 2 else h 279 k) ∧ ∀ k, k < i → h' 279 k = h 279 k
  | 0, i, h, hj, e, hb, hb2 => by
    have : i = N := by omega
    subst this
    exact ⟨h, rfl, fun _ _ => rfl, fun k h1 h2 => by omega, fun _ _ => rfl⟩
  | j + 1, i, h, hj, e, hb, hb2 => by
    have b := hb i (by omega)
    obtain ⟨h', r1, r2, r3, r4⟩ := mr_11 (u1 := u1) hN j (i + 1) (h := am_up h 279 i (if h 277 i = 1 then h 259 (h 280 i).toNat - 2 else h 279 i)) (by omega) (by rw [p_up_c _ _ _ _ _ (by decide)]; exact e) (by rw [p_up_c _ _ _ _ _ (by decide)]; exact hb) (by rw [p_up_c _ _ _ _ _ (by decide), p_up_c _ _ _ _ _ (by decide), p_up_c _ _ _ _ _ (by decide)]; exact hb2)
    refine ⟨h', ?_, fun c hc => by rw [r2 c hc, p_up_c _ _ _ _ _ hc], fun k h1 h2 => ?_, fun k hk => by rw [r4 k (by omega), p_up_n _ _ _ _ _ _ (Or.inr (by omega))]⟩
    · rw [q_17_68_11, e, if_pos (by omega), p_idx (by omega) (by omega), Int.toNat_natCast, p_w (x := (i : Int) + 1) (by omega) (by omega)]
      by_cases z : h 277 i = 1
      · have := hb2 i (by omega) z
        rw [if_pos z, p_idx (by omega) (by omega), Int.toNat_natCast, p_idx b.1 b.2, p_idx (by omega) (by omega), Int.toNat_natCast, p_w (by omega) (by omega)]
        rw [if_pos z] at r1
        exact r1
      · rw [if_neg z, p_idx (by omega) (by omega), Int.toNat_natCast, p_idx (by omega) (by omega), Int.toNat_natCast]
        rw [if_neg z] at r1
        exact r1
    · by_cases z : k = i
      · rw [z, r4 i (by omega), p_up_s]
      · rw [r3 k (by omega) h2, p_up_c _ _ _ _ _ (by decide), p_up_c _ _ _ _ _ (by decide), p_up_c _ _ _ _ _ (by decide), p_up_n _ _ _ _ _ _ (Or.inr z)]
/-- copies that load() keeps -/
def mCp (h g : am_H) (n N : Nat) : Prop := (∀ c, c ≠ 279 → c ≠ 303 → c ≠ 304 → g c = h c) ∧ (∀ k, k < n → g 304 k = h 256 k) ∧ (∀ k, k < N → g 303 k = h 258 (h 280 k).toNat) ∧ ∀ k, k < N → g 279 k = if h 277 k = 1 then h 259 (h 280 k).toNat - 2 else h 279 k
theorem m_rest {u1 : Option am_V} {n N n3 : Nat} {h : am_H} (hn : n ≤ 4000) (hN : N ≤ 5000) (e3 : h 254 3 = (n : Int)) (e33 : h 254 33 = (N : Int)) (hb : ∀ k, k < N → 0 ≤ h 280 k ∧ h 280 k < 2002) (hb2 : ∀ k, k < N → h 277 k = 1 → 0 ≤ h 259 (h 280 k).toNat ∧ h 259 (h 280 k).toNat ≤ 32767) (B : ∀ g, mCp h g n N → sbM g N n3 ∧ (tU (hM g) (lM g) (g 269) n3 N).length ≤ 12000) : ∃ g h', mCp h g n N ∧ am_E (am_D (d + 4)) m_17_68 (.inl 7) [some (am_r (am_a 254)), u1, some (am_i 0)] [] (zS L, h) = pI L 0 h' ∧ CM (am_up g 254 76 0) h' (tU (hM g) (lM g) (g 269) n3 N) := by
  obtain ⟨g1, r1, a1, a2, -⟩ := mr_7 (L := L) (d := d + 4) (u1 := u1) hn n 0 (h := h) (by omega) e3
  obtain ⟨g2, r2, b1, b2, -⟩ := mr_9 (L := L) (d := d + 4) (u1 := u1) hN N 0 (h := g1) (by omega) (by rw [a1 254 (by decide)]; exact e33) (by rw [a1 280 (by decide)]; exact hb)
  obtain ⟨g3, r3, c1, c2, -⟩ := mr_11 (L := L) (d := d + 4) (u1 := u1) hN N 0 (h := g2) (by omega) (by rw [b1 254 (by decide), a1 254 (by decide)]; exact e33) (by rw [b1 280 (by decide), a1 280 (by decide)]; exact hb) (by rw [b1 277 (by decide), a1 277 (by decide), b1 280 (by decide), a1 280 (by decide), b1 259 (by decide), a1 259 (by decide)]; exact hb2)
  have M : mCp h g3 n N := by
    refine ⟨fun c q1 q2 q3 => by rw [c1 c q1, b1 c q2, a1 c q3], fun k hk => by rw [c1 304 (by decide), b1 304 (by decide), a2 k (by omega) hk], fun k hk => by rw [c1 303 (by decide), b2 k (by omega) hk, a1 258 (by decide), a1 280 (by decide)], fun k hk => ?_⟩
    rw [c2 k (by omega) hk, b1 277 (by decide), b1 259 (by decide), b1 280 (by decide), b1 279 (by decide), a1 277 (by decide), a1 259 (by decide), a1 280 (by decide), a1 279 (by decide)]
  obtain ⟨S, SL⟩ := B g3 M
  obtain ⟨g4, hg4⟩ : ∃ g4, g4 = am_up g3 254 76 0 := ⟨_, rfl⟩
  have ee : ∀ c, c ≠ 254 → c < 305 → g4 c = g3 c := fun c q1 _ => by rw [hg4, p_up_c _ _ _ _ _ q1]
  have el : lM g4 = lM g3 := funext (fun j => lM_fr ee j)
  have eh : hM g4 = hM g3 := funext (fun j => hM_fr ee j)
  have e76 : g4 254 76 = 0 := by rw [hg4, p_up_s]
  have eT : tV (hM g4) (lM g4) (g4 269) N n3 n3 0 = tU (hM g3) (lM g3) (g3 269) n3 N := by
    rw [el, eh, ee 269 (by decide) (by decide)]
    have := tV_tU (hM g3) (lM g3) (g3 269) N n3 n3 0 (by omega)
    rw [← this]; rfl
  have S4 : sbM g4 N n3 := sbM_fr ee (by rw [hg4, p_up_n _ _ _ _ _ _ (Or.inr (by decide))]) (by rw [hg4, p_up_n _ _ _ _ _ _ (Or.inr (by decide))]) S
  obtain ⟨h', r4, C⟩ := cm_subs (L := L) (d := d) (N := N) (n3 := n3) n3 0 (x1 := 0) (u3 := none) (h := g4) (by omega) S4 (fun z => by rw [ee 269 (by decide) (by decide), S.2.2.1 (by omega)]; rfl) (by omega) (by rw [eT, e76]; omega)
  rw [eT] at C
  refine ⟨g3, h', M, ?_, by rw [← hg4]; exact C⟩
  have r1 : am_E (am_D (d + 4)) m_17_68 (.inl 7) [some (am_r (am_a 254)), u1, some (am_i 0)] [] (zS L, h) = _ := r1
  have r2 : am_E (am_D (d + 4)) m_17_68 (.inl 9) [some (am_r (am_a 254)), u1, some (am_i 0)] [] (zS L, g1) = _ := r2
  have r3 : am_E (am_D (d + 4)) m_17_68 (.inl 11) [some (am_r (am_a 254)), u1, some (am_i 0)] [] (zS L, g2) = _ := r3
  have r4 : am_E (am_D (d + 3)) m_17_74 (.inl 1) [some (am_r (am_a 254)), some (am_i 0), some (am_i 0), none] [] (zS L, g4) = pV L h' := r4
  rw [r1, r2, r3, q_17_68_11, if_neg (by rw [c1 254 (by decide), b1 254 (by decide), a1 254 (by decide), e33]; omega), D_17_74, ← hg4, r4, p_xV]
end
