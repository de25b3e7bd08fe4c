/-! PURE LAYER, 144: the model's commands -/
def CM (h h' : am_H) (l : List (Int × Int × Int)) : Prop :=
  h' 254 76 = h 254 76 + (l.length : Int) ∧ (∀ j e, l[j]? = some e → h' 305 ((h 254 76).toNat + j) = e.1 ∧ h' 306 ((h 254 76).toNat + j) = e.2.1 ∧ h' 307 ((h 254 76).toNat + j) = e.2.2) ∧ (∀ c k, c = 305 ∨ c = 306 ∨ c = 307 → k < (h 254 76).toNat → h' c k = h c k) ∧ (∀ j, j ≠ 76 → h' 254 j = h 254 j) ∧ ∀ c, c ≠ 254 → c ≠ 305 → c ≠ 306 → c ≠ 307 → h' c = h c
theorem CM.app {h h1 h2 : am_H} {l l' : List (Int × Int × Int)} (h0 : 0 ≤ h 254 76) (a : CM h h1 l) (b : CM h1 h2 l') : CM h h2 (l ++ l') := by
  obtain ⟨a1, a2, a3, a4, a5⟩ := a
  obtain ⟨b1, b2, b3, b4, b5⟩ := b
  have e : (h1 254 76).toNat = (h 254 76).toNat + l.length := by omega
  refine ⟨by rw [b1, a1, List.length_append]; omega, fun j x hj => ?_, fun c k hc hk => by rw [b3 c k hc (by omega), a3 c k hc hk], fun j hj => by rw [b4 j hj, a4 j hj], fun c c1 c2 c3 c4 => by rw [b5 c c1 c2 c3 c4, a5 c c1 c2 c3 c4]⟩
  by_cases z : j < l.length
  · rw [List.getElem?_append_left z] at hj
    rw [b3 305 _ (by omega) (by omega), b3 306 _ (by omega) (by omega), b3 307 _ (by omega) (by omega)]
    exact a2 j x hj
  · rw [List.getElem?_append_right (by omega)] at hj
    have := b2 _ x hj
    rw [e, show (h 254 76).toNat + l.length + (j - l.length) = (h 254 76).toNat + j by omega] at this
    exact this
theorem CM.nil (h : am_H) : CM h h [] := ⟨by show _ = _ + ((0 : Nat) : Int); omega, fun j e hj => (by cases hj), fun _ _ _ _ => rfl, fun _ _ => rfl, fun _ _ _ _ _ => rfl⟩
/-- a call that tells commands -/
def CW (L d i : Nat) (as : List am_V) (h : am_H) (l : List (Int × Int × Int)) : Prop := ∃ h', am_D d 17 i as (zS L, h) = pV L h' ∧ CM h h' l
/-- letters of a string -/
def chM (g : am_H) (p : Nat) : Nat → Nat → List (Int × Int × Int)
  | 0, _ => []
  | m + 1, k => (0, 0, g 304 (p + k)) :: (15, 304, 2) :: chM g p m (k + 1)
def clM (g : am_H) (q s : Int) : Int := if q < 8 then 100 * q + (s - g 297 q.toNat) else 100 * q + g 302 s.toNat
def opM (x : Int) : List (Int × Int × Int) := if x = 38 then [(5, 0, 0)] else if x = 42 then [(15, 3, 2)] else if x = 43 then [(2, 0, 0)] else if x = 45 then [(3, 0, 0)] else if x = 47 then [(15, 4, 2)] else if x = 60 then [(9, 0, 0)] else if x = 62 then [(10, 0, 0)] else if x = 124 then [(6, 0, 0)] else [(8, 0, 0)]
def vrM (g : am_H) (op v : Int) : List (Int × Int × Int) := [(op, ce_lseg (kdv g v.toNat), nov g v.toNat)]
/-- commands of an item -/
def lM (g : am_H) (k : Nat) : List (Int × Int × Int) :=
  if g 277 k = 0 then (if g 278 k < 0 then [(0, 0, 0), (7, 0, 0)] else [(0, 0, g 278 k)])
  else if g 277 k = 1 then (0, 0, g 279 k) :: (15, 300, 1) :: chM g (g 303 k + 1).toNat (g 279 k).toNat 0
  else if g 277 k = 2 then []
  else if g 277 k = 3 then [(0, 6, 0)]
  else if g 277 k = 4 then vrM g 0 (g 278 k)
  else if g 277 k = 5 then [(2, 0, 0), (1, 6, 1), (0, 5, 0)]
  else if g 277 k = 6 then opM (g 278 k)
  else if g 277 k = 7 then [(4, 0, 0)]
  else if g 277 k = 8 then [(7, 0, 0)]
  else if g 277 k = 9 then (if g 285 (g 278 k).toNat = 1 then vrM g 0 (g 286 (g 278 k).toNat) else []) ++ (if g 285 (g 278 k).toNat = 2 then [(0, 6, 0)] else [])
  else if g 277 k = 10 then [(15, clM g (g 287 (g 278 k).toNat) (g 288 (g 278 k).toNat), if 0 < g 285 (g 278 k).toNat then g 284 (g 278 k).toNat + 1 else g 284 (g 278 k).toNat)]
  else if g 277 k = 11 then []
  else if g 277 k = 12 then []
  else if g 277 k = 13 then vrM g 1 (g 278 k)
  else if g 277 k = 14 then [(1, 7, 0), (1, 6, 1), (0, 7, 0), (1, 5, 0)]
  else if g 277 k = 15 then [(0, 0, 0), (8, 0, 0), (13, g 279 k, 0)]
  else if g 277 k = 16 then [(12, g 279 k, 0)]
  else if g 277 k = 17 then []
  else if g 277 k = 18 then [(16, 0, 0)]
  else if g 277 k = 19 then [(1, 7, 0)]
  else if g 277 k = 20 then [(11, g 278 k, 0)]
  else []
def hM (g : am_H) (s : Nat) : List (Int × Int × Int) := (14, clM g (8 + g 263 s) s, g 268 s) :: (if g 264 s = 3 then [(0, 1, 0), (1, 6, 0)] else if g 264 s = 1 then [(0, 0, if g 262 (g 263 s).toNat < 1 then 1 else g 262 (g 263 s).toNat), (15, 102, 1), (1, 6, 0)] else [])
/-- what variables are, for commands -/
def vkM (g : am_H) (v : Int) : Prop := 0 ≤ v ∧ v < 1100 ∧ (0 ≤ g 275 v.toNat ∧ g 275 v.toNat ≤ 1000) ∧ (g 272 v.toNat = 2 → 0 ≤ g 271 v.toNat ∧ g 271 v.toNat < 61)
def ckM (g : am_H) (q s : Int) : Prop := (0 ≤ q ∧ q ≤ 20) ∧ (0 ≤ s ∧ s < 61) ∧ (q < 8 → 0 ≤ g 297 q.toNat ∧ g 297 q.toNat ≤ 60) ∧ (8 ≤ q → 0 ≤ g 302 s.toNat ∧ g 302 s.toNat ≤ 60)
def MK (g : am_H) (k : Nat) : Prop := k < 5000 ∧ (g 277 k = 1 → (0 ≤ g 279 k ∧ 0 ≤ g 303 k) ∧ g 303 k + 1 + g 279 k ≤ 4000) ∧ (g 277 k = 4 ∨ g 277 k = 13 → vkM g (g 278 k)) ∧ (g 277 k = 9 ∨ g 277 k = 10 → 0 ≤ g 278 k ∧ g 278 k < 1000) ∧ (g 277 k = 9 → g 285 (g 278 k).toNat = 1 → vkM g (g 286 (g 278 k).toNat)) ∧ (g 277 k = 10 → ckM g (g 287 (g 278 k).toNat) (g 288 (g 278 k).toNat) ∧ 0 ≤ g 284 (g 278 k).toNat ∧ g 284 (g 278 k).toNat ≤ 100)
section
variable {h h' : am_H} {L d : Nat}
theorem CM.fr {l : List (Int × Int × Int)} (C : CM h h' l) {c : Nat} (h1 : c ≠ 254) (h2 : c < 305) : h' c = h c := C.2.2.2.2 c h1 (by omega) (by omega) (by omega)
theorem vrM_fr (e : ∀ c, c ≠ 254 → c < 305 → h' c = h c) (op v : Int) : vrM h' op v = vrM h op v := by
  unfold vrM kdv nov
  rw [e 272 (by decide) (by decide), e 264 (by decide) (by decide), e 271 (by decide) (by decide), e 275 (by decide) (by decide)]
theorem chM_fr (e : ∀ c, c ≠ 254 → c < 305 → h' c = h c) (p : Nat) : ∀ m k, chM h' p m k = chM h p m k
  | 0, _ => rfl
  | m + 1, k => by unfold chM; rw [e 304 (by decide) (by decide), chM_fr e p m (k + 1)]
theorem clM_fr (e : ∀ c, c ≠ 254 → c < 305 → h' c = h c) (q s : Int) : clM h' q s = clM h q s := by
  unfold clM; rw [e 297 (by decide) (by decide), e 302 (by decide) (by decide)]
theorem lM_fr (e : ∀ c, c ≠ 254 → c < 305 → h' c = h c) (k : Nat) : lM h' k = lM h k := by
  unfold lM
  simp only [vrM_fr e, chM_fr e, clM_fr e, e 277 (by decide) (by decide), e 278 (by decide) (by decide), e 279 (by decide) (by decide), e 303 (by decide) (by decide), e 285 (by decide) (by decide), e 286 (by decide) (by decide), e 287 (by decide) (by decide), e 288 (by decide) (by decide), e 284 (by decide) (by decide)]
theorem hM_fr (e : ∀ c, c ≠ 254 → c < 305 → h' c = h c) (k : Nat) : hM h' k = hM h k := by
  unfold hM
  rw [clM_fr e, e 263 (by decide) (by decide), e 268 (by decide) (by decide), e 264 (by decide) (by decide), e 262 (by decide) (by decide)]
theorem MK_fr (e : ∀ c, c ≠ 254 → c < 305 → h' c = h c) {k : Nat} (M : MK h k) : MK h' k := by
  unfold MK vkM ckM at *
  simp only [e 277 (by decide) (by decide), e 278 (by decide) (by decide), e 279 (by decide) (by decide), e 303 (by decide) (by decide), e 285 (by decide) (by decide), e 286 (by decide) (by decide), e 287 (by decide) (by decide), e 288 (by decide) (by decide), e 284 (by decide) (by decide), e 275 (by decide) (by decide), e 272 (by decide) (by decide), e 271 (by decide) (by decide), e 297 (by decide) (by decide), e 302 (by decide) (by decide)]
  exact M
theorem cm_one (a b c : Int) (h0 : 0 ≤ h 254 76) (h1 : h 254 76 < 12000) : CW L (d + 1) 69 [am_r (am_a 254), am_i a, am_i b, am_i c] h [(a, b, c)] := by
  refine ⟨_, by rw [D_17_69, p_idx h0 h1, p_idx h0 h1, p_idx h0 h1, p_w (by omega) (by omega)], ?_, fun j e hj => ?_, fun c k hc hk => ?_, fun j hj => ?_, fun c c1 c2 c3 c4 => ?_⟩
  · rw [p_up_s]; rfl
  · have : j = 0 := by
      have := (List.getElem?_eq_some_iff.1 hj).1
      rw [List.length_singleton] at this; omega
    subst this
    cases hj
    rw [Nat.add_zero]
    refine ⟨?_, ?_, ?_⟩
    · rw [p_up_c _ _ _ _ _ (by decide), p_up_c _ _ _ _ _ (by decide), p_up_c _ _ _ _ _ (by decide), p_up_s]
    · rw [p_up_c _ _ _ _ _ (by decide), p_up_c _ _ _ _ _ (by decide), p_up_s]
    · rw [p_up_c _ _ _ _ _ (by decide), p_up_s]
  · rcases hc with rfl | rfl | rfl
    · rw [p_up_c _ _ _ _ _ (by decide), p_up_c _ _ _ _ _ (by decide), p_up_c _ _ _ _ _ (by decide), p_up_n _ _ _ _ _ _ (Or.inr (by omega))]
    · rw [p_up_c _ _ _ _ _ (by decide), p_up_c _ _ _ _ _ (by decide), p_up_n _ _ _ _ _ _ (Or.inr (by omega)), p_up_c _ _ _ _ _ (by decide)]
    · rw [p_up_c _ _ _ _ _ (by decide), p_up_n _ _ _ _ _ _ (Or.inr (by omega)), p_up_c _ _ _ _ _ (by decide), p_up_c _ _ _ _ _ (by decide)]
  · rw [p_up_n _ _ _ _ _ _ (Or.inr hj), p_up_c _ _ _ _ _ (by decide), p_up_c _ _ _ _ _ (by decide), p_up_c _ _ _ _ _ (by decide)]
  · rw [p_up_c _ _ _ _ _ c1, p_up_c _ _ _ _ _ c4, p_up_c _ _ _ _ _ c3, p_up_c _ _ _ _ _ c2]
theorem cm_var (op v : Int) (K : vkM h v) (h0 : 0 ≤ h 254 76) (h1 : h 254 76 < 12000) : CW L (d + 2) 70 [am_r (am_a 254), am_i op, am_i v] h (vrM h op v) := by
  obtain ⟨k1, k2, k3, k4⟩ := K
  have E5 : ∀ s0, nov h v.toNat = h 275 v.toNat → ∃ h', am_E (am_D (d + 1)) m_17_70 (.inl 5) [some (am_r (am_a 254)), some (am_i op), some (am_i v), some (am_i s0), none] [] (zS L, h) = pV L h' ∧ CM h h' [(op, s0, nov h v.toNat)] := fun s0 hn => by
    obtain ⟨h', r, C⟩ := cm_one (L := L) (d := d) op s0 (nov h v.toNat) h0 h1
    refine ⟨h', ?_, C⟩
    rw [q_17_70_5, p_idx k1 k2, p_w (x := h 275 v.toNat + 0) (by omega) (by omega), Int.add_zero, ← hn, r, p_xV]
  have E4 : ∀ s0, ∃ h', am_E (am_D (d + 1)) m_17_70 (.inl 4) [some (am_r (am_a 254)), some (am_i op), some (am_i v), none, none] [am_i s0] (zS L, h) = pV L h' ∧ CM h h' [(op, s0, nov h v.toNat)] := fun s0 => by
    rw [q_17_70_4, p_idx k1 k2]
    by_cases c2 : h 272 v.toNat = 2
    · obtain ⟨k5, k6⟩ := k4 c2
      rw [if_pos c2, p_idx k1 k2, p_idx k5 k6]
      by_cases c3 : h 264 (h 271 v.toNat).toNat = 3
      · have hn : nov h v.toNat = h 275 v.toNat + 1 := by unfold nov; rw [if_pos ⟨c2, c3⟩]
        obtain ⟨h', r, C⟩ := cm_one (L := L) (d := d) op s0 (nov h v.toNat) h0 h1
        refine ⟨h', ?_, C⟩
        rw [if_pos c3, p_idx k1 k2, p_w (by omega) (by omega), ← hn, r, p_xV]
      · rw [if_neg c3]
        exact E5 s0 (by unfold nov; rw [if_neg (fun z => c3 z.2)])
    · rw [if_neg c2]
      exact E5 s0 (by unfold nov; rw [if_neg (fun z => c2 z.1)])
  unfold vrM
  show ∃ h', _ ∧ _
  rw [D_17_70, p_idx k1 k2]
  unfold kdv
  by_cases c0 : h 272 v.toNat = 0
  · rw [if_pos c0, if_pos c0]; exact E4 3
  · rw [if_neg c0, if_neg c0, p_idx k1 k2]
    by_cases c1 : h 272 v.toNat = 1
    · rw [if_pos c1, if_pos c1]; exact E4 4
    · rw [if_neg c1, if_neg c1, p_idx k1 k2]
      by_cases c2 : h 272 v.toNat = 2
      · rw [if_pos c2, if_pos c2]; exact E4 1
      · rw [if_neg c2, if_neg c2]; exact E4 2
theorem cm_cl (q s : Int) (K : ckM h q s) : am_D (d + 1) 17 71 [am_r (am_a 254), am_i q, am_i s] (zS L, h) = pI L (clM h q s) h := by
  obtain ⟨⟨k1, k2⟩, ⟨k3, k4⟩, k5, k6⟩ := K
  rw [D_17_71]
  unfold clM
  by_cases c : q < 8
  · have := k5 c
    rw [if_pos c, if_pos c, p_idx k1 (by omega), p_w (x := 100 * q) (by omega) (by omega), p_w (x := s - h 297 q.toNat) (by omega) (by omega), p_w (by omega) (by omega)]
  · have := k6 (by omega)
    rw [if_neg c, if_neg c, p_idx k3 k4, p_w (x := 100 * q) (by omega) (by omega), p_w (by omega) (by omega)]
theorem cm_op (x : Int) (h0 : 0 ≤ h 254 76) (h1 : h 254 76 < 12000) : CW L (d + 2) 72 [am_r (am_a 254), am_i x] h (opM x) := by
  have K : ∀ a b c, ∃ h', am_D (d + 1) 17 69 [am_r (am_a 254), am_i a, am_i b, am_i c] (zS L, h) = pV L h' ∧ CM h h' [(a, b, c)] := fun a b c => cm_one a b c h0 h1
  have F : ∀ a b c, ∃ h', (am_xV (zS L) (am_D (d + 1) 17 69 [am_r (am_a 254), am_i a, am_i b, am_i c] (zS L, h)) (am_up1 (zS L)) fun h1 => some (.inl none, (zS L, h1))) = pV L h' ∧ CM h h' [(a, b, c)] := fun a b c => by
    obtain ⟨h', r, C⟩ := K a b c
    exact ⟨h', by rw [r, p_xV], C⟩
  show ∃ h', _ ∧ _
  rw [D_17_72]
  unfold opM
  by_cases c1 : x = 38
  · rw [if_pos c1, if_pos c1]; exact F _ _ _
  rw [if_neg c1, if_neg c1]
  by_cases c2 : x = 42
  · rw [if_pos c2, if_pos c2]; exact F _ _ _
  rw [if_neg c2, if_neg c2]
  by_cases c3 : x = 43
  · rw [if_pos c3, if_pos c3]; exact F _ _ _
  rw [if_neg c3, if_neg c3]
  by_cases c4 : x = 45
  · rw [if_pos c4, if_pos c4]; exact F _ _ _
  rw [if_neg c4, if_neg c4]
  by_cases c5 : x = 47
  · rw [if_pos c5, if_pos c5]; exact F _ _ _
  rw [if_neg c5, if_neg c5]
  by_cases c6 : x = 60
  · rw [if_pos c6, if_pos c6]; exact F _ _ _
  rw [if_neg c6, if_neg c6]
  by_cases c7 : x = 62
  · rw [if_pos c7, if_pos c7]; exact F _ _ _
  rw [if_neg c7, if_neg c7]
  by_cases c8 : x = 124
  · rw [if_pos c8, if_pos c8]; exact F _ _ _
  rw [if_neg c8, if_neg c8]; exact F _ _ _
theorem chM_len (g : am_H) (p : Nat) : ∀ m k, (chM g p m k).length = 2 * m
  | 0, _ => rfl
  | m + 1, k => by unfold chM; rw [List.length_cons, List.length_cons, chM_len g p m (k + 1)]; omega
theorem cm_ch {u2 : Option am_V} {x : Nat} (hx : x < 5000) : ∀ (m k : Nat) {h : am_H}, h 279 x = ((k + m : Nat) : Int) → 0 ≤ h 303 x → h 303 x + 1 + h 279 x ≤ 4000 → 0 ≤ h 254 76 → h 254 76 + 2 * m ≤ 12000 → ∃ h', am_E (am_D (d + 2)) m_17_73 (.inl 6) [some (am_r (am_a 254)), some (am_i (x : Int)), u2, some (am_i (k : Int))] [] (zS L, h) = pV L h' ∧ CM h h' (chM h (h 303 x + 1).toNat m k)
  | 0, k, h, e, e3, hb, h0, h1 => ⟨h, by rw [q_17_73_6, p_idx (by omega) (by omega), Int.toNat_natCast, e, if_neg (by omega)], CM.nil h⟩
  | m + 1, k, h, e, e3, hb, h0, h1 => by
    obtain ⟨g1, r1, C1⟩ := cm_one (L := L) (d := d + 1) (h := h) 0 0 (h 304 ((h 303 x + 1).toNat + k)) h0 (by omega)
    have s1 : g1 254 76 = h 254 76 + 1 := C1.1
    obtain ⟨g2, r2, C2⟩ := cm_one (L := L) (d := d + 1) (h := g1) 15 304 2 (by omega) (by omega)
    have s2 : g2 254 76 = g1 254 76 + 1 := C2.1
    have C := C1.app h0 C2
    have ee : ∀ c, c ≠ 254 → c < 305 → g2 c = h c := fun c h1 h2 => C.fr h1 h2
    obtain ⟨g3, r3, C3⟩ := cm_ch (u2 := u2) hx m (k + 1) (h := g2) (by rw [ee 279 (by decide) (by decide), e]; congr 1; omega) (by rw [ee 303 (by decide) (by decide)]; exact e3) (by rw [ee 303 (by decide) (by decide), ee 279 (by decide) (by decide)]; exact hb) (by omega) (by omega)
    refine ⟨g3, ?_, ?_⟩
    · rw [q_17_73_6, p_idx (by omega) (by omega), Int.toNat_natCast, if_pos (by omega), p_idx (by omega) (by omega), Int.toNat_natCast, p_w (x := h 303 x + 1) (by omega) (by omega), p_w (x := h 303 x + 1 + (k : Int)) (by omega) (by omega), p_idx (by omega) (by omega), show (h 303 x + 1 + (k : Int)).toNat = (h 303 x + 1).toNat + k by omega, r1, p_xV, r2, p_xV, p_w (by omega) (by omega)]
      exact r3
    · rw [chM_fr ee, ee 303 (by decide) (by decide)] at C3
      exact C.app h0 C3
end
