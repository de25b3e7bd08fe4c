/-! PURE LAYER, 86: checkCall -/
def m_me (h : am_H) (c s : Int) : Int := if c < 8 then h 300 s.toNat else (if h 264 s.toNat = 3 then 1 else 0)
def m_mo (h : am_H) (c s : Int) : Int := if c < 8 then h 301 s.toNat else h 267 s.toNat
/-- the class of a call's object; -1 -/
def m_kc (K nm sc : Nat → Int) (h : am_H) (k : Nat) : Int :=
  if h 282 k = -1 then 8 + h 263 (h 289 k).toNat
  else if m_var nm h (h 289 k) (h 282 k).toNat = -1 then m_cof nm sc h (h 282 k).toNat
  else if K (h 274 (m_var nm h (h 289 k) (h 282 k).toNat).toNat).toNat = 2 then m_cof nm sc h (h 274 (m_var nm h (h 289 k) (h 282 k).toNat).toNat).toNat else -1
/-- 0 none, 1 a variable, 2 this -/
def m_ko (nm : Nat → Int) (h : am_H) (k : Nat) : Int := if h 282 k = -1 then 2 else if m_var nm h (h 289 k) (h 282 k).toNat = -1 then 0 else 1
def nt_k2 (P nm ss : Nat → Int) (h : am_H) (k : Nat) (c : Int) : List (Int × Int) :=
  if m_sof nm ss h c (h 283 k).toNat = -1 then [(4, P (h 283 k).toNat)]
  else (if m_me h c (m_sof nm ss h c (h 283 k).toNat) = (if 0 < m_ko nm h k then 1 else 0) ∧ m_mo h c (m_sof nm ss h c (h 283 k).toNat) = h 284 k then [] else [(5, P (h 283 k).toNat)]) ++ (if m_ko nm h k = 2 ∧ h 264 (h 289 k).toNat = 2 then [(6, P (h 283 k).toNat)] else [])
def nt_k (K P nm sc ss : Nat → Int) (h : am_H) (k : Nat) : List (Int × Int) :=
  (if h 282 k = -1 then [] else nt_cv P h (h 289 k) (m_var nm h (h 289 k) (h 282 k).toNat) (h 282 k).toNat) ++
  (if m_kc K nm sc h k = -1 then [(4, P (if m_var nm h (h 289 k) (h 282 k).toNat = -1 then (h 282 k).toNat else (h 283 k).toNat))] else nt_k2 P nm ss h k (m_kc K nm sc h k))
/-- what a call leaves -/
def m_kx (K nm sc ss : Nat → Int) (h : am_H) (k : Nat) (x : am_H) : am_H :=
  let x1 := if h 282 k = -1 then am_up x 285 k 2 else am_up (am_up (am_up x 285 k 2) 285 k (m_ko nm h k)) 286 k (m_var nm h (h 289 k) (h 282 k).toNat)
  if m_kc K nm sc h k = -1 then x1 else am_up (am_up x1 287 k (m_kc K nm sc h k)) 288 k (m_sof nm ss h (m_kc K nm sc h k) (h 283 k).toNat)
section
variable {h0 h : am_H} {K P nm sc ss : Nat → Int} {Z : Nat} (d L : Nat)
/-- calls: subs and tokens in range -/
def mc_C (K : Nat → Int) (Z : Nat) (h : am_H) : Prop := (0 ≤ h 254 39 ∧ h 254 39 ≤ 990 ∧ ∀ k : Nat, (k : Int) < h 254 39 → (∃ s : Nat, h 289 k = s ∧ (s : Int) < h 254 17) ∧ (∃ t : Nat, h 283 k = t ∧ t ≤ Z ∧ K t = 2) ∧ (h 282 k = -1 ∨ ∃ u : Nat, h 282 k = u ∧ u ≤ Z ∧ K u = 2)) ∧
  (∀ s : Nat, (s : Int) < h 254 17 → 0 ≤ h 263 s ∧ h 263 s ≤ 12) ∧ (∀ s : Nat, s < 60 → h 300 s = 0 ∨ h 300 s = 1) ∧ (∀ v : Nat, (v : Int) < h 254 25 → ∃ u : Nat, h 274 v = u ∧ u ≤ Z)
theorem m_cof_rg (nm sc : Nat → Int) (h : am_H) (t : Nat) (h14 : 0 ≤ h 254 14 ∧ h 254 14 ≤ 12) : -1 ≤ m_cof nm sc h t ∧ m_cof nm sc h t ≤ 20 := by
  unfold m_cof m_sc
  rcases p_find_rg sc (nm t) 8 0 with e | ⟨e1, e2, -⟩
  · rw [if_pos e]
    rcases p_find_rg (fun k => nm (h 261 k).toNat) (nm t) (h 254 14).toNat 0 with e' | ⟨e1, e2, -⟩
    · rw [if_pos e']; decide
    · rw [if_neg (by omega)]; omega
  · rw [if_neg (by omega)]; omega
theorem m_sof_rg (A4 : ∀ c, c < 8 → 0 ≤ h 297 c ∧ h 297 c ≤ h 297 (c + 1) ∧ h 297 (c + 1) ≤ 60) (nm ss : Nat → Int) (c : Int) (hc : 0 ≤ c) (t : Nat) (h17 : 0 ≤ h 254 17 ∧ h 254 17 ≤ 60) : m_sof nm ss h c t = -1 ∨ (0 ≤ m_sof nm ss h c t ∧ m_sof nm ss h c t < 60) := by
  unfold m_sof
  by_cases c8 : c < 8
  · rw [if_pos c8]
    have a := A4 c.toNat (by omega)
    rcases p_find_rg ss (nm t) (h 297 (c.toNat + 1) - h 297 c.toNat).toNat (h 297 c.toNat).toNat with e | ⟨e1, e2, -⟩
    · exact Or.inl e
    · right; omega
  · rw [if_neg c8]
    rcases p_find2_rg (h 263) (fun s => nm (h 265 s).toNat) (c - 8) (nm t) (h 254 17).toNat 0 with e | ⟨e1, e2, -⟩
    · exact Or.inl e
    · right; omega
/-- from the lookup of the sub on -/
theorem mc_call8 (A : mc_A h0 K nm sc ss Z) (s0 : mc_same h0 h) (T : mc_T K Z h) (kk : mc_K K P Z h) (Cc : mc_C K Z h) {k sub t : Nat} (hk : (k : Int) < h 254 39) (es : h 289 k = sub) (hs : sub < 61) (et : h 283 k = t) (ht : t ≤ Z) (kt : K t = 2) {c : Int} (hc : 0 ≤ c ∧ c ≤ 100) {h' : am_H} (e : mc_G h h') (ho : h' 285 k = m_ko nm h k) (u5 : Option am_V) :
    am_E (am_D (d + 3)) m_17_65 (.inl 8) [some (am_r (am_a 254)), some (am_i (k : Int)), some (am_i (sub : Int)), some (am_i (t : Int)), some (am_i c), u5] [] (zS L, h') = pV L (mnotes (nt_k2 P nm ss h k c) (am_up (am_up h' 287 k c) 288 k (m_sof nm ss h c t))) := by
  have hZ := T.1
  obtain ⟨⟨c1, c2, -⟩, c3, c4, -⟩ := Cc
  have etn : (h 283 k).toNat = t := by rw [et, Int.toNat_natCast]
  have esn : (h 289 k).toNat = sub := by rw [es, Int.toNat_natCast]
  have e297 := s0 297 (by simp)
  have rg := m_sof_rg (h := h) (by intro c hc; rw [e297]; have a := A.2.2.2.1 c hc; have b := A.2.2.2.2; omega) nm ss c hc.1 t ⟨T.2.2.1.1, T.2.2.1.2.1⟩
  have e2 : mc_G h (am_up (am_up h' 287 k c) 288 k (m_sof nm ss h c t)) := (e.up _ _ (Or.inr (Or.inl (by decide)))).up _ _ (Or.inr (Or.inl (by decide)))
  rw [q_17_65_8, mc_subOf (d + 1) L A (e.same s0) (e.T T) ht kt hc, p_xI, e.sof, p_idx (by omega) (by omega), p_idx (by omega) (by omega), Int.toNat_natCast]
  unfold nt_k2
  rw [etn, esn]
  have hx : am_up (am_up h' 287 k c) 288 k (m_sof nm ss h c t) 285 k = m_ko nm h k := by rw [p_up_c _ _ _ _ _ (by decide), p_up_c _ _ _ _ _ (by decide)]; exact ho
  generalize am_up (am_up h' 287 k c) 288 k (m_sof nm ss h c t) = x at e2 hx ⊢
  by_cases cs : m_sof nm ss h c t = -1
  · rw [if_pos cs, if_pos cs, mc_note (d + 2) L 4 (by omega), p_xV, ((e2.K kk) t ht).2.1]
    rfl
  rw [if_neg cs, if_neg cs]
  have sr : 0 ≤ m_sof nm ss h c t ∧ m_sof nm ss h c t < 60 := by omega
  have sn : ((m_sof nm ss h c t).toNat : Int) = m_sof nm ss h c t := by omega
  -- behind the 5
  have r13 : ∀ (y : am_H) (u4 u5 : Option am_V), mc_G h y → y 285 k = m_ko nm h k → am_E (am_D (d + 3)) m_17_65 (.inl 13) [some (am_r (am_a 254)), some (am_i (k : Int)), some (am_i (sub : Int)), some (am_i (t : Int)), u4, u5] [] (zS L, y) = pV L (mnotes (if m_ko nm h k = 2 ∧ h 264 sub = 2 then [(6, P t)] else []) y) := by
    intro y u4 u5 ey hy
    rw [q_17_65_13, p_idx (by omega) (by omega), Int.toNat_natCast, hy]
    by_cases o2 : m_ko nm h k = 2
    · rw [if_pos o2, p_idx (by omega) (by omega), Int.toNat_natCast, ey.1 264 (by decide) (by decide) (by decide) (by decide)]
      by_cases f2 : h 264 sub = 2
      · rw [if_pos f2, if_pos ⟨o2, f2⟩, mc_note (d + 2) L 6 (by omega), p_xV, ((ey.K kk) t ht).2.1]; rfl
      · rw [if_neg f2, if_neg (fun z => f2 z.2)]; rfl
    · rw [if_neg o2, if_neg (fun z => o2 z.1)]; rfl
  have r5 : (am_xV (zS L) (am_D (d + 3) 17 58 [am_r (am_a 254), am_i 5, am_i (t : Int)] (zS L, x)) (am_up1 (zS L)) fun h5 => am_E (am_D (d + 3)) m_17_65 (.inl 13) [some (am_r (am_a 254)), some (am_i (k : Int)), some (am_i (sub : Int)), some (am_i (t : Int)), some (am_i c), some (am_i (m_sof nm ss h c t))] [] (zS L, h5)) = pV L (mnotes ([(5, P t)] ++ (if m_ko nm h k = 2 ∧ h 264 sub = 2 then [(6, P t)] else [])) x) := by
    rw [mc_note (d + 2) L 5 (by omega), p_xV, ((e2.K kk) t ht).2.1, mnotes_app]
    have em : mnote 5 (P t) x = mnotes [(5, P t)] x := rfl
    rw [em, r13 _ _ _ (e2.notes _) (by rw [mnotes_c 285 (by decide)]; exact hx)]
  -- whether it is a method
  have me : am_D (d + 3) 17 63 [am_r (am_a 254), am_i c, am_i (m_sof nm ss h c t)] (zS L, x) = pI L (m_me h c (m_sof nm ss h c t)) x := by
    rw [D_17_63]
    unfold m_me
    by_cases c8 : c < 8
    · rw [if_pos c8, if_pos c8, p_idx (by omega) (by omega), e2.1 300 (by decide) (by decide) (by decide) (by decide)]
      rcases c4 (m_sof nm ss h c t).toNat (by omega) with z | z
      · rw [z, p_bit0]
      · rw [z, p_bit1]
    · rw [if_neg c8, if_neg c8, p_idx (by omega) (by omega), e2.1 264 (by decide) (by decide) (by decide) (by decide)]
      by_cases m3 : h 264 (m_sof nm ss h c t).toNat = 3
      · rw [if_pos m3, if_pos m3, p_bit1]
      · rw [if_neg m3, if_neg m3, p_bit0]
  have mo : am_D (d + 3) 17 64 [am_r (am_a 254), am_i c, am_i (m_sof nm ss h c t)] (zS L, x) = pI L (m_mo h c (m_sof nm ss h c t)) x := by
    rw [D_17_64]
    unfold m_mo
    by_cases c8 : c < 8
    · rw [if_pos c8, if_pos c8, p_idx (by omega) (by omega), e2.1 301 (by decide) (by decide) (by decide) (by decide)]
    · rw [if_neg c8, if_neg c8, p_idx (by omega) (by omega), e2.1 267 (by decide) (by decide) (by decide) (by decide)]
  have r11 : ∀ o : Int, o = (if 0 < m_ko nm h k then 1 else 0) → am_E (am_D (d + 3)) m_17_65 (.inl 11) [some (am_r (am_a 254)), some (am_i (k : Int)), some (am_i (sub : Int)), some (am_i (t : Int)), some (am_i c), some (am_i (m_sof nm ss h c t))] [am_i o, am_i (m_me h c (m_sof nm ss h c t))] (zS L, x) = pV L (mnotes ((if m_me h c (m_sof nm ss h c t) = (if 0 < m_ko nm h k then 1 else 0) ∧ m_mo h c (m_sof nm ss h c t) = h 284 k then [] else [(5, P t)]) ++ (if m_ko nm h k = 2 ∧ h 264 sub = 2 then [(6, P t)] else [])) x) := by
    intro o ho
    rw [q_17_65_11, ← ho]
    by_cases cm : m_me h c (m_sof nm ss h c t) = o
    · rw [if_pos cm, mo, p_xI, p_idx (by omega) (by omega), Int.toNat_natCast, e2.1 284 (by decide) (by decide) (by decide) (by decide)]
      by_cases co : m_mo h c (m_sof nm ss h c t) = h 284 k
      · rw [if_pos co, if_pos ⟨cm, co⟩, r13 _ _ _ e2 hx]; rfl
      · rw [if_neg co, if_neg (fun z => co z.2)]; exact r5
    · rw [if_neg cm, if_neg (fun z => cm z.1)]; exact r5
  rw [me, p_xI, p_idx (by omega) (by omega), Int.toNat_natCast, hx]
  by_cases c0 : 0 < m_ko nm h k
  · rw [if_pos c0]
    exact r11 1 (by rw [if_pos c0])
  · rw [if_neg c0]
    exact r11 0 (by rw [if_neg c0])
/-- checkCall() -/
theorem mc_call (A : mc_A h0 K nm sc ss Z) (s0 : mc_same h0 h) (T : mc_T K Z h) (kk : mc_K K P Z h) (Cc : mc_C K Z h) {k : Nat} (hk : (k : Int) < h 254 39) {h' : am_H} (e : mc_G h h') : am_D (d + 4) 17 65 [am_r (am_a 254), am_i (k : Int)] (zS L, h') = pV L (mnotes (nt_k K P nm sc ss h k) (m_kx K nm sc ss h k h')) := by
  have hZ := T.1
  have C0 := Cc
  obtain ⟨⟨c1, c2, c3⟩, c4, c5, c6⟩ := Cc
  obtain ⟨⟨sub, es, hs0⟩, ⟨t, et, ht, kt⟩, hu⟩ := c3 k hk
  have hs : sub < 61 := by have := T.2.2.1.2.1; omega
  have etn : (h 283 k).toNat = t := by rw [et, Int.toNat_natCast]
  have esn : (h 289 k).toNat = sub := by rw [es, Int.toNat_natCast]
  have g289 := e.1 289 (by decide) (by decide) (by decide) (by decide)
  have g283 := e.1 283 (by decide) (by decide) (by decide) (by decide)
  have g263 := e.1 263 (by decide) (by decide) (by decide) (by decide)
  have g282 := e.1 282 (by decide) (by decide) (by decide) (by decide)
  have c4s := c4 sub hs0
  have e1 : mc_G h (am_up h' 285 k 2) := e.up _ _ (Or.inr (Or.inl (by decide)))
  rw [D_17_65, p_idx (by omega) (by omega), p_idx (by omega) (by omega), p_idx (by rw [Int.toNat_natCast, g289, es]; omega) (by rw [Int.toNat_natCast, g289, es]; omega), p_idx (by omega) (by omega), p_idx (by omega) (by omega), Int.toNat_natCast, g289, es, g283, et, g282, Int.toNat_natCast, g263, p_w (x := 8 + h 263 sub) (by omega) (by omega)]
  unfold nt_k m_kx
  rcases hu with hu | ⟨u, eu, hu, ku⟩
  · have kc : m_kc K nm sc h k = 8 + h 263 sub := by unfold m_kc; rw [if_pos hu, esn]
    have ko : m_ko nm h k = 2 := by unfold m_ko; rw [if_pos hu]
    rw [if_pos hu, if_pos hu, if_pos hu, kc, if_neg (by omega), if_neg (by omega), mc_call8 (P := P) d L A s0 T kk C0 hk es hs et ht kt (by omega) e1 (by rw [p_up_s, ko]) none, etn]
    rfl
  · have eun : (h 282 k).toNat = u := by rw [eu, Int.toNat_natCast]
    have nu : ¬ h 282 k = -1 := by omega
    have vr := m_var_rg nm h (h 289 k) u T.2.2.2.1
    have v25 := T.2.2.2.2.1
    have ev : m_var nm (am_up h' 285 k 2) (sub : Int) u = m_var nm h (h 289 k) u := by rw [e1.var, es]
    have cr := m_cof_rg nm sc h u ⟨T.2.1.1, T.2.1.2.1⟩
    rw [if_neg nu, if_neg nu, if_neg nu, eun, etn, p_idx (by omega) (by omega), Int.toNat_natCast, eu, mc_var (d + 1) L A (e1.same s0) (e1.T T) hu ku hs, p_xI, ev]
    -- the object
    have r2 : ∀ o : Int, o = m_ko nm h k → am_E (am_D (d + 3)) m_17_65 (.inl 2) [some (am_r (am_a 254)), some (am_i (k : Int)), some (am_i (sub : Int)), some (am_i (t : Int)), some (am_i (8 + h 263 sub)), some (am_i (m_var nm h (h 289 k) u))] [am_i o, am_i (k : Int), am_r (am_a 285)] (zS L, am_up h' 285 k 2) = pV L (mnotes (nt_cv P h (h 289 k) (m_var nm h (h 289 k) u) u ++ if m_kc K nm sc h k = -1 then [(4, P (if m_var nm h (h 289 k) u = -1 then u else t))] else nt_k2 P nm ss h k (m_kc K nm sc h k)) (if m_kc K nm sc h k = -1 then am_up (am_up (am_up h' 285 k 2) 285 k (m_ko nm h k)) 286 k (m_var nm h (h 289 k) u) else am_up (am_up (am_up (am_up (am_up h' 285 k 2) 285 k (m_ko nm h k)) 286 k (m_var nm h (h 289 k) u)) 287 k (m_kc K nm sc h k)) 288 k (m_sof nm ss h (m_kc K nm sc h k) t))) := by
      intro o ho
      have e3 : mc_G h (am_up (am_up (am_up h' 285 k 2) 285 k o) 286 k (m_var nm h (h 289 k) u)) := (e1.up _ _ (Or.inr (Or.inl (by decide)))).up _ _ (Or.inr (Or.inl (by decide)))
      have a285 : (zS L)[285]? = some (1, 1000, []) := rfl
      have ecv : nt_cv P (am_up (am_up (am_up h' 285 k 2) 285 k o) 286 k (m_var nm h (h 289 k) u)) (sub : Int) (m_var nm h (h 289 k) u) u = nt_cv P h (h 289 k) (m_var nm h (h 289 k) u) u := by
        unfold nt_cv
        rw [e3.1 271 (by decide) (by decide) (by decide) (by decide), e3.1 272 (by decide) (by decide) (by decide) (by decide), e3.1 264 (by decide) (by decide) (by decide) (by decide), es]
      have e4 := e3.notes (nt_cv P h (h 289 k) (m_var nm h (h 289 k) u) u)
      have o285 : mnotes (nt_cv P h (h 289 k) (m_var nm h (h 289 k) u) u) (am_up (am_up (am_up h' 285 k 2) 285 k o) 286 k (m_var nm h (h 289 k) u)) 285 k = m_ko nm h k := by rw [mnotes_c 285 (by decide), p_up_c _ _ _ _ _ (by decide), p_up_s, ho]
      -- behind the class
      have r5 : ∀ c : Int, c = m_kc K nm sc h k → -1 ≤ c ∧ c ≤ 100 → am_E (am_D (d + 3)) m_17_65 (.inl 5) [some (am_r (am_a 254)), some (am_i (k : Int)), some (am_i (sub : Int)), some (am_i (t : Int)), some (am_i (8 + h 263 sub)), some (am_i (m_var nm h (h 289 k) u))] [am_i c] (zS L, mnotes (nt_cv P h (h 289 k) (m_var nm h (h 289 k) u) u) (am_up (am_up (am_up h' 285 k 2) 285 k o) 286 k (m_var nm h (h 289 k) u))) = pV L (mnotes (nt_cv P h (h 289 k) (m_var nm h (h 289 k) u) u ++ if m_kc K nm sc h k = -1 then [(4, P (if m_var nm h (h 289 k) u = -1 then u else t))] else nt_k2 P nm ss h k (m_kc K nm sc h k)) (if m_kc K nm sc h k = -1 then am_up (am_up (am_up h' 285 k 2) 285 k (m_ko nm h k)) 286 k (m_var nm h (h 289 k) u) else am_up (am_up (am_up (am_up (am_up h' 285 k 2) 285 k (m_ko nm h k)) 286 k (m_var nm h (h 289 k) u)) 287 k (m_kc K nm sc h k)) 288 k (m_sof nm ss h (m_kc K nm sc h k) t))) := by
        intro c hc hr
        rw [q_17_65_5, ← hc, ← ho, mnotes_app]
        by_cases cc : c = -1
        · rw [if_pos cc, if_pos cc, if_pos cc]
          by_cases cv : m_var nm h (h 289 k) u = -1
          · rw [if_pos cv, if_pos cv, p_idx (by omega) (by omega), Int.toNat_natCast, e4.1 282 (by decide) (by decide) (by decide) (by decide), eu, mc_note (d + 2) L 4 (by omega), p_xV, ((e4.K kk) u hu).2.1]
            rfl
          · rw [if_neg cv, if_neg cv, mc_note (d + 2) L 4 (by omega), p_xV, ((e4.K kk) t ht).2.1]
            rfl
        · rw [if_neg cc, if_neg cc, if_neg cc, mc_call8 (P := P) d L A s0 T kk C0 hk es hs et ht kt (by omega) e4 o285 _, ← mnotes_upc (by decide), ← mnotes_upc (by decide)]
      rw [q_17_65_2, p_arr a285, p_idx (by omega) (by omega), Int.toNat_natCast, show Nat.beq 285 0 = false from rfl, cond_false, p_idx (by omega) (by omega), p_idx (by omega) (by omega), Int.toNat_natCast, p_up_c _ _ _ _ _ (by decide), e1.1 282 (by decide) (by decide) (by decide) (by decide), eu, mc_cv (P := P) (d + 1) L (e3.K kk) hZ hs (by omega) hu, p_xV, ecv]
      by_cases cv : m_var nm h (h 289 k) u = -1
      · have kc : m_kc K nm sc h k = m_cof nm sc h u := by unfold m_kc; rw [if_neg nu, eun, if_pos cv]
        rw [if_pos cv, p_idx (by omega) (by omega), Int.toNat_natCast, e4.1 282 (by decide) (by decide) (by decide) (by decide), eu, mc_classOf d L A (e4.same s0) (e4.T T) hu ku, p_xI, e4.cof]
        exact r5 _ kc.symm (by omega)
      · obtain ⟨w, ew, hw⟩ := c6 (m_var nm h (h 289 k) u).toNat (by omega)
        have kw := kk w hw
        have kq := mp_k_eq kw.2.2
        rw [if_neg cv, p_idx (by omega) (by omega), e4.1 274 (by decide) (by decide) (by decide) (by decide), ew, p_idx (by omega) (by omega), Int.toNat_natCast, ((e4.K kk) w hw).1]
        by_cases k2 : K w = 2
        · have kc : m_kc K nm sc h k = m_cof nm sc h w := by unfold m_kc; rw [if_neg nu, eun, if_neg cv, ew, Int.toNat_natCast, if_pos k2]
          have cr2 := m_cof_rg nm sc h w ⟨T.2.1.1, T.2.1.2.1⟩
          rw [if_pos (kq.2.1.mpr k2), p_idx (by omega) (by omega), ew, mc_classOf d L A (e4.same s0) (e4.T T) hw k2, p_xI, e4.cof]
          exact r5 _ kc.symm (by omega)
        · have kc : m_kc K nm sc h k = -1 := by unfold m_kc; rw [if_neg nu, eun, if_neg cv, ew, Int.toNat_natCast, if_neg k2]
          rw [if_neg (fun z => k2 (kq.2.1.mp z))]
          exact r5 _ kc.symm (by decide)
    by_cases cv : m_var nm h (h 289 k) u = -1
    · rw [if_pos cv]
      exact r2 0 (by unfold m_ko; rw [if_neg nu, eun, if_pos cv])
    · rw [if_neg cv]
      exact r2 1 (by unfold m_ko; rw [if_neg nu, eun, if_neg cv])
end
