/-! PURE LAYER, 146: all commands of the model, and the rest of its load() -/
section
variable {L d : Nat}
theorem cm_its {x2 : Nat} {N : Nat} : ∀ (m k : Nat) {h : am_H}, k + m = N → (∀ j, k ≤ j → j < N → MK h j) → 0 ≤ h 254 76 → h 254 76 + ((rgn (lM h) k m).length : Int) ≤ 12000 → ∃ h', am_E (am_D (d + 3)) m_17_74 (.inl 8) [some (am_r (am_a 254)), some (am_i (k : Int)), some (am_i (x2 : Int)), some (am_i (N : Int))] [] (zS L, h) = am_E (am_D (d + 3)) m_17_74 (.inl 8) [some (am_r (am_a 254)), some (am_i (N : Int)), some (am_i (x2 : Int)), some (am_i (N : Int))] [] (zS L, h') ∧ CM h h' (rgn (lM h) k m)
  | 0, k, h, hk, hm, h0, h1 => by
    have : k = N := by omega
    subst this
    exact ⟨h, rfl, CM.nil h⟩
  | m + 1, k, h, hk, hm, h0, h1 => by
    have e : rgn (lM h) k (m + 1) = lM h k ++ rgn (lM h) (k + 1) m := by
      have := rgn_add (lM h) k 1 m
      rw [show 1 + m = m + 1 by omega] at this
      rw [this]
      show ([] ++ lM h (k + 0)) ++ _ = _
      rfl
    rw [e, List.length_append] at h1
    have M := hm k (Nat.le_refl _) (by omega)
    have hk5 := M.1
    obtain ⟨g, r, C⟩ := cm_item (L := L) (d := d) M h0 (by omega)
    have ee : ∀ c, c ≠ 254 → c < 305 → g c = h c := fun c h1 h2 => C.fr h1 h2
    have el : lM g = lM h := funext (fun j => lM_fr ee j)
    have s1 := C.1
    obtain ⟨g2, r2, C2⟩ := cm_its (x2 := x2) m (k + 1) (h := g) (by omega) (fun j h1 h2 => MK_fr ee (hm j (by omega) h2)) (by omega) (by rw [el]; omega)
    rw [el] at C2
    refine ⟨g2, ?_, by rw [e]; exact C.app h0 C2⟩
    rw [q_17_74_8, if_pos (by omega), r, p_xV, p_w (by omega) (by omega)]
    exact r2
/-- what is asked of the subs -/
def sbM (h : am_H) (N n3 : Nat) : Prop := (n3 ≤ 60 ∧ N ≤ 5000 ∧ h 254 17 = (n3 : Int) ∧ h 254 33 = (N : Int)) ∧ (∀ s, s < n3 → ckM h (8 + h 263 s) (s : Int) ∧ (0 ≤ h 263 s ∧ h 263 s < 13) ∧ (0 ≤ h 269 s ∧ h 269 s ≤ (N : Int)) ∧ (s + 1 < n3 → h 269 s ≤ h 269 (s + 1))) ∧ (0 < n3 → h 269 0 = 0) ∧ (n3 = 0 → N = 0) ∧ ∀ k, k < N → MK h k
theorem sbM_fr {h h' : am_H} {N n3 : Nat} (e : ∀ c, c ≠ 254 → c < 305 → h' c = h c) (e17 : h' 254 17 = h 254 17) (e33 : h' 254 33 = h 254 33) (B : sbM h N n3) : sbM h' N n3 := by
  obtain ⟨⟨b1, b2, b3, b4⟩, b5, b6, b7, b8⟩ := B
  refine ⟨⟨b1, b2, by rw [e17]; exact b3, by rw [e33]; exact b4⟩, fun s hs => ?_, fun z => by rw [e 269 (by decide) (by decide)]; exact b6 z, b7, fun k hk => MK_fr e (b8 k hk)⟩
  have := b5 s hs
  unfold ckM at *
  rw [e 263 (by decide) (by decide), e 269 (by decide) (by decide), e 297 (by decide) (by decide), e 302 (by decide) (by decide)]
  exact this
theorem cm_head {h : am_H} {s : Nat} {x1 : Nat} {u3 : Option am_V} (hs : (s : Int) < h 254 17) (h17 : h 254 17 ≤ 60) (K : ckM h (8 + h 263 s) (s : Int)) (h63 : 0 ≤ h 263 s ∧ h 263 s < 13) (h0 : 0 ≤ h 254 76) (h1 : h 254 76 + ((hM h s).length : Int) ≤ 12000) : ∃ h', am_E (am_D (d + 3)) m_17_74 (.inl 1) [some (am_r (am_a 254)), some (am_i (x1 : Int)), some (am_i (s : Int)), u3] [] (zS L, h) = am_E (am_D (d + 3)) m_17_74 (.inl 5) [some (am_r (am_a 254)), some (am_i (x1 : Int)), some (am_i (s : Int)), u3] [] (zS L, h') ∧ CM h h' (hM h s) := by
  have one : ∀ (a b c : Int) {g : am_H}, 0 ≤ g 254 76 → g 254 76 < 12000 → ∃ h', am_D (d + 3) 17 69 [am_r (am_a 254), am_i a, am_i b, am_i c] (zS L, g) = pV L h' ∧ CM g h' [(a, b, c)] := fun a b c g q1 q2 => cm_one a b c q1 q2
  unfold hM at h1 ⊢
  rw [List.length_cons] at h1
  obtain ⟨g1, r1, C1⟩ := one 14 (clM h (8 + h 263 s) (s : Int)) (h 268 s) (g := h) h0 (by omega)
  have s1 : g1 254 76 = h 254 76 + 1 := C1.1
  have ee : ∀ c, c ≠ 254 → c < 305 → g1 c = h c := fun c h1 h2 => C1.fr h1 h2
  have E1 : am_E (am_D (d + 3)) m_17_74 (.inl 1) [some (am_r (am_a 254)), some (am_i (x1 : Int)), some (am_i (s : Int)), u3] [] (zS L, h) = (if h 264 s = 3 then am_xV (zS L) (am_D (d + 3) 17 69 [am_r (am_a 254), am_i 0, am_i 1, am_i 0] (zS L, g1)) (am_up1 (zS L)) fun h7 => am_xV (zS L) (am_D (d + 3) 17 69 [am_r (am_a 254), am_i 1, am_i 6, am_i 0] (zS L, h7)) (am_up1 (zS L)) fun h8 => am_E (am_D (d + 3)) m_17_74 (.inl 2) [some (am_r (am_a 254)), some (am_i (x1 : Int)), some (am_i (s : Int)), u3] [] (zS L, h8) else am_E (am_D (d + 3)) m_17_74 (.inl 2) [some (am_r (am_a 254)), some (am_i (x1 : Int)), some (am_i (s : Int)), u3] [] (zS L, g1)) := by
    rw [q_17_74_1, if_pos hs, p_idx (by omega) (by omega), Int.toNat_natCast, p_w (by omega) (by omega), cm_cl (d := d + 2) _ _ K, p_xI, p_idx (by omega) (by omega), Int.toNat_natCast, r1, p_xV, p_idx (by omega) (by omega), Int.toNat_natCast, ee 264 (by decide) (by decide)]
  have is : ∀ x : Int, x = (s : Int) → (0 ≤ x ∧ x < 61) := fun x hx => by omega
  have i1 := (is _ rfl).1
  have i2 := (is _ rfl).2
  rw [E1]
  by_cases c3 : h 264 s = 3
  · rw [if_pos c3] at h1
    rw [if_pos c3, if_pos c3]
    have h1 : h 254 76 + ((2 + 1 : Nat) : Int) ≤ 12000 := h1
    obtain ⟨g2, r2, C2⟩ := one 0 1 0 (g := g1) (by omega) (by omega)
    have s2 : g2 254 76 = g1 254 76 + 1 := C2.1
    obtain ⟨g3, r3, C3⟩ := one 1 6 0 (g := g2) (by omega) (by omega)
    have CC := C1.app h0 (C2.app (by omega) C3)
    refine ⟨g3, ?_, CC⟩
    rw [r2, p_xV, r3, p_xV, q_17_74_2, p_idx i1 i2, Int.toNat_natCast, CC.fr (show 264 ≠ 254 by decide) (by decide), if_neg (by omega)]
  · rw [if_neg c3] at h1
    rw [if_neg c3, if_neg c3]
    by_cases c1 : h 264 s = 1
    · rw [if_pos c1] at h1
      rw [if_pos c1]
      have h1 : h 254 76 + ((3 + 1 : Nat) : Int) ≤ 12000 := h1
      have tail : ∀ x : Int, ∃ h', (am_xV (zS L) (am_D (d + 3) 17 69 [am_r (am_a 254), am_i 0, am_i 0, am_i x] (zS L, g1)) (am_up1 (zS L)) fun h6 => am_xV (zS L) (am_D (d + 3) 17 69 [am_r (am_a 254), am_i 15, am_i 102, am_i 1] (zS L, h6)) (am_up1 (zS L)) fun h7 => am_xV (zS L) (am_D (d + 3) 17 69 [am_r (am_a 254), am_i 1, am_i 6, am_i 0] (zS L, h7)) (am_up1 (zS L)) fun h8 => am_E (am_D (d + 3)) m_17_74 (.inl 5) [some (am_r (am_a 254)), some (am_i (x1 : Int)), some (am_i (s : Int)), u3] [] (zS L, h8)) = am_E (am_D (d + 3)) m_17_74 (.inl 5) [some (am_r (am_a 254)), some (am_i (x1 : Int)), some (am_i (s : Int)), u3] [] (zS L, h') ∧ CM g1 h' [(0, 0, x), (15, 102, 1), (1, 6, 0)] := fun x => by
        obtain ⟨g2, r2, C2⟩ := one 0 0 x (g := g1) (by omega) (by omega)
        have s2 : g2 254 76 = g1 254 76 + 1 := C2.1
        obtain ⟨g3, r3, C3⟩ := one 15 102 1 (g := g2) (by omega) (by omega)
        have s3 : g3 254 76 = g2 254 76 + 1 := C3.1
        obtain ⟨g4, r4, C4⟩ := one 1 6 0 (g := g3) (by omega) (by omega)
        exact ⟨g4, by rw [r2, p_xV, r3, p_xV, r4, p_xV], C2.app (by omega) (C3.app (by omega) C4)⟩
      rw [q_17_74_2, p_idx i1 i2, Int.toNat_natCast, ee 264 (by decide) (by decide), if_pos c1, p_idx i1 i2, Int.toNat_natCast, ee 263 (by decide) (by decide), p_idx h63.1 h63.2, ee 262 (by decide) (by decide)]
      by_cases z : h 262 (h 263 s).toNat < 1
      · rw [if_pos z, if_pos z]
        obtain ⟨g4, r, C⟩ := tail 1
        exact ⟨g4, r, C1.app h0 C⟩
      · rw [if_neg z, if_neg z, p_idx i1 i2, Int.toNat_natCast, p_idx h63.1 h63.2]
        obtain ⟨g4, r, C⟩ := tail (h 262 (h 263 s).toNat)
        exact ⟨g4, r, C1.app h0 C⟩
    · rw [if_neg c1] at h1
      rw [if_neg c1]
      refine ⟨g1, ?_, C1⟩
      rw [q_17_74_2, p_idx i1 i2, Int.toNat_natCast, ee 264 (by decide) (by decide), if_neg c1]
/-- rows from a sub on -/
def tV {α : Type} (hd it : Nat → List α) (fi : Nat → Int) (N n3 : Nat) : Nat → Nat → List α
  | 0, _ => []
  | m + 1, s => hd s ++ (rgn it (fi s).toNat ((if s + 1 < n3 then (fi (s + 1)).toNat else N) - (fi s).toNat) ++ tV hd it fi N n3 m (s + 1))
theorem cm_subs {N n3 : Nat} : ∀ (m s : Nat) {x1 : Nat} {u3 : Option am_V} {h : am_H}, s + m = n3 → sbM h N n3 → (m ≠ 0 → (x1 : Int) = h 269 s) → 0 ≤ h 254 76 → h 254 76 + ((tV (hM h) (lM h) (h 269) N n3 m s).length : Int) ≤ 12000 → ∃ h', am_E (am_D (d + 3)) m_17_74 (.inl 1) [some (am_r (am_a 254)), some (am_i (x1 : Int)), some (am_i (s : Int)), u3] [] (zS L, h) = pV L h' ∧ CM h h' (tV (hM h) (lM h) (h 269) N n3 m s)
  | 0, s, x1, u3, h, hm, B, hx, h0, h1 => by
    refine ⟨h, ?_, CM.nil h⟩
    rw [q_17_74_1, B.1.2.2.1, if_neg (by omega)]
  | m + 1, s, x1, u3, h, hm, B, hx, h0, h1 => by
    have B' := B
    obtain ⟨⟨b1, b2, b3, b4⟩, b5, b6, b7, b8⟩ := B
    have hx := hx (Nat.succ_ne_zero m)
    obtain ⟨y1, y2, y3, y4⟩ := b5 s (by omega)
    have ed : tV (hM h) (lM h) (h 269) N n3 (m + 1) s = hM h s ++ (rgn (lM h) (h 269 s).toNat ((if s + 1 < n3 then (h 269 (s + 1)).toNat else N) - (h 269 s).toNat) ++ tV (hM h) (lM h) (h 269) N n3 m (s + 1)) := rfl
    rw [ed, List.length_append, List.length_append] at h1
    obtain ⟨g, r, C⟩ := cm_head (L := L) (d := d) (h := h) (s := s) (x1 := x1) (u3 := u3) (by omega) (by omega) y1 y2 h0 (by omega)
    have ee : ∀ c, c ≠ 254 → c < 305 → g c = h c := fun c h1 h2 => C.fr h1 h2
    have s1 := C.1
    obtain ⟨E, hE⟩ : ∃ E : Nat, E = (if s + 1 < n3 then (h 269 (s + 1)).toNat else N) := ⟨_, rfl⟩
    have hEx : x1 ≤ E ∧ E ≤ N := by
      rw [hE]
      by_cases z : s + 1 < n3
      · rw [if_pos z]
        have := y4 z
        have := (b5 (s + 1) z).2.2.1
        omega
      · rw [if_neg z]; omega
    have E5 : am_E (am_D (d + 3)) m_17_74 (.inl 5) [some (am_r (am_a 254)), some (am_i (x1 : Int)), some (am_i (s : Int)), u3] [] (zS L, g) = am_E (am_D (d + 3)) m_17_74 (.inl 8) [some (am_r (am_a 254)), some (am_i (x1 : Int)), some (am_i (s : Int)), some (am_i (E : Int))] [] (zS L, g) := by
      rw [q_17_74_5, p_w (by omega) (by omega), C.2.2.2.1 17 (by decide), b3]
      by_cases z : s + 1 < n3
      · have := (b5 (s + 1) z).2.2.1
        rw [if_pos (by omega), p_idx (by omega) (by omega), ee 269 (by decide) (by decide), show ((s : Int) + 1).toNat = s + 1 by omega, hE, if_pos z, show ((h 269 (s + 1)).toNat : Int) = h 269 (s + 1) by omega]
      · rw [if_neg (by omega), C.2.2.2.1 33 (by decide), b4, hE, if_neg z]
    have el : lM g = lM h := funext (fun j => lM_fr ee j)
    have eh : hM g = hM h := funext (fun j => hM_fr ee j)
    rw [← hE] at h1
    obtain ⟨g2, r2, C2⟩ := cm_its (L := L) (d := d) (x2 := s) (N := E) (E - x1) x1 (h := g) (by omega) (fun j h1 h2 => MK_fr ee (b8 j (by omega))) (by omega) (by rw [el, show E - x1 = E - (h 269 s).toNat by omega, show x1 = (h 269 s).toNat by omega]; omega)
    rw [el] at C2
    have CC := C.app h0 C2
    have ee2 : ∀ c, c ≠ 254 → c < 305 → g2 c = h c := fun c h1 h2 => CC.fr h1 h2
    have el2 : lM g2 = lM h := funext (fun j => lM_fr ee2 j)
    have eh2 : hM g2 = hM h := funext (fun j => hM_fr ee2 j)
    have s2 := CC.1
    rw [List.length_append] at s2
    obtain ⟨g3, r3, C3⟩ := cm_subs (N := N) m (s + 1) (x1 := E) (u3 := some (am_i (E : Int))) (h := g2) (by omega) (sbM_fr ee2 (CC.2.2.2.1 17 (by decide)) (CC.2.2.2.1 33 (by decide)) B') (fun hm0 => by
      have z : s + 1 < n3 := by omega
      have := (b5 (s + 1) z).2.2.1
      rw [ee2 269 (by decide) (by decide), hE, if_pos z]; omega) (by omega) (by
        rw [el2, eh2, ee2 269 (by decide) (by decide)]
        rw [show E - x1 = E - (h 269 s).toNat by omega, show x1 = (h 269 s).toNat by omega] at s2
        omega)
    rw [el2, eh2, ee2 269 (by decide) (by decide)] at C3
    refine ⟨g3, ?_, ?_⟩
    · rw [r, E5, r2, q_17_74_8, if_neg (by omega), p_w (by omega) (by omega)]
      exact r3
    · rw [ed, ← hE, ← List.append_assoc, show (h 269 s).toNat = x1 by omega]
      exact CC.app h0 C3
end
