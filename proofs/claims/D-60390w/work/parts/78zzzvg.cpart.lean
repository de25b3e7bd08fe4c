/-! CHIPS, 7: the component's chips: cells, inner names, parts -/
/-- cells of a chip -/
def chR (b : Nat) : List am_R := [am_n, am_n, am_n, am_n, am_n, am_n, am_a (b + 1), am_a (b + 2), am_a (b + 3), am_a (b + 4), am_a (b + 5), am_a (b + 6)]
def CB (L b : Nat) : Prop := (zS L)[b]? = some (0, 3, chR b) ∧ (zS L)[b + 1]? = some (1, 12, []) ∧ (zS L)[b + 2]? = some (1, 12, []) ∧ (zS L)[b + 3]? = some (1, 24, []) ∧ (zS L)[b + 4]? = some (1, 100, []) ∧ (zS L)[b + 5]? = some (1, 100, []) ∧ (zS L)[b + 6]? = some (4, 100, [])
theorem CB_c (L c : Nat) (hc : c < 16) : CB L (83 + 7 * c) := by
  have : c = 0 ∨ c = 1 ∨ c = 2 ∨ c = 3 ∨ c = 4 ∨ c = 5 ∨ c = 6 ∨ c = 7 ∨ c = 8 ∨ c = 9 ∨ c = 10 ∨ c = 11 ∨ c = 12 ∨ c = 13 ∨ c = 14 ∨ c = 15 := by omega
  rcases this with rfl | rfl | rfl | rfl | rfl | rfl | rfl | rfl | rfl | rfl | rfl | rfl | rfl | rfl | rfl | rfl <;> exact ⟨rfl, rfl, rfl, rfl, rfl, rfl, rfl⟩
theorem CB_38 (L : Nat) : CB L 38 := ⟨rfl, rfl, rfl, rfl, rfl, rfl, rfl⟩
theorem CB_45 (L : Nat) : CB L 45 := ⟨rfl, rfl, rfl, rfl, rfl, rfl, rfl⟩
theorem CHS_at (c : Nat) (hc : c < 16) : List.getD [am_a 83, am_a 90, am_a 97, am_a 104, am_a 111, am_a 118, am_a 125, am_a 132, am_a 139, am_a 146, am_a 153, am_a 160, am_a 167, am_a 174, am_a 181, am_a 188] c am_n = am_a (83 + 7 * c) := by
  have : c = 0 ∨ c = 1 ∨ c = 2 ∨ c = 3 ∨ c = 4 ∨ c = 5 ∨ c = 6 ∨ c = 7 ∨ c = 8 ∨ c = 9 ∨ c = 10 ∨ c = 11 ∨ c = 12 ∨ c = 13 ∨ c = 14 ∨ c = 15 := by omega
  rcases this with rfl | rfl | rfl | rfl | rfl | rfl | rfl | rfl | rfl | rfl | rfl | rfl | rfl | rfl | rfl | rfl <;> rfl
section
variable {d L b : Nat} {h : am_H}
theorem CB.ob (C : CB L b) {k : Nat → List am_R → Option am_O} : am_obj (zS L, h) (am_a b) 3 k = k b (chR b) := p_obj C.1
theorem CB.r6 : (chR b).getD 6 am_n = am_a (b + 1) := rfl
theorem CB.r7 : (chR b).getD 7 am_n = am_a (b + 2) := rfl
theorem CB.r8 : (chR b).getD 8 am_n = am_a (b + 3) := rfl
theorem CB.r9 : (chR b).getD 9 am_n = am_a (b + 4) := rfl
theorem CB.r10 : (chR b).getD 10 am_n = am_a (b + 5) := rfl
theorem CB.r11 : (chR b).getD 11 am_n = am_a (b + 6) := rfl
theorem CB.a1 (C : CB L b) {k : Nat → Nat → List am_R → Option am_O} : am_arr (zS L, h) (am_a (b + 1)) 1 k = k (b + 1) 12 [] := p_arr C.2.1
theorem CB.a2 (C : CB L b) {k : Nat → Nat → List am_R → Option am_O} : am_arr (zS L, h) (am_a (b + 2)) 1 k = k (b + 2) 12 [] := p_arr C.2.2.1
theorem CB.a3 (C : CB L b) {k : Nat → Nat → List am_R → Option am_O} : am_arr (zS L, h) (am_a (b + 3)) 1 k = k (b + 3) 24 [] := p_arr C.2.2.2.1
theorem CB.a4 (C : CB L b) {k : Nat → Nat → List am_R → Option am_O} : am_arr (zS L, h) (am_a (b + 4)) 1 k = k (b + 4) 100 [] := p_arr C.2.2.2.2.1
theorem CB.a5 (C : CB L b) {k : Nat → Nat → List am_R → Option am_O} : am_arr (zS L, h) (am_a (b + 5)) 1 k = k (b + 5) 100 [] := p_arr C.2.2.2.2.2.1
theorem CB.a6 (C : CB L b) {k : Nat → Nat → List am_R → Option am_O} : am_arr (zS L, h) (am_a (b + 6)) 4 k = k (b + 6) 100 [] := p_arr C.2.2.2.2.2.2
theorem beq_b (n : Nat) {α : Type} (x y : α) : cond (Nat.beq (b + (n + 1)) 0) x y = y := rfl
/-- the first place of a number in a row -/
def ffnd (x : Int) : List Int → Nat → Int
  | [], _ => -1
  | y :: l, i => if y = x then (i : Int) else ffnd x l (i + 1)
theorem ffnd_c (x y : Int) (l : List Int) (i : Nat) : ffnd x (y :: l) i = if y = x then (i : Int) else ffnd x l (i + 1) := rfl
theorem ffnd_rg : ∀ (l : List Int) (x : Int) (i : Nat), (ffnd x l i = -1 ∧ x ∉ l) ∨ ((i : Int) ≤ ffnd x l i ∧ ffnd x l i < (i : Int) + l.length ∧ l[(ffnd x l i).toNat - i]? = some x ∧ x ∈ l)
  | [], _, _ => Or.inl ⟨rfl, by simp⟩
  | y :: l, x, i => by
    rw [ffnd_c]
    by_cases c : y = x
    · rw [if_pos c]; right
      refine ⟨Int.le_refl _, by rw [List.length_cons]; omega, ?_, by rw [c]; exact List.mem_cons_self ..⟩
      rw [Int.toNat_natCast, Nat.sub_self, c]; rfl
    · rw [if_neg c]
      rcases ffnd_rg l x (i + 1) with ⟨z1, z2⟩ | ⟨z1, z2, z3, z4⟩
      · left; exact ⟨z1, by simp [z2]; exact fun z => c z.symm⟩
      · right
        refine ⟨by omega, by rw [List.length_cons]; omega, ?_, List.mem_cons_of_mem _ z4⟩
        rw [show (ffnd x l (i + 1)).toNat - i = ((ffnd x l (i + 1)).toNat - (i + 1)) + 1 by omega]
        exact z3
theorem kx_pinl (C : CB L b) (x : Int) {l : List Int} (hl : l.length ≤ 12) (h2 : h b 2 = (l.length : Int)) (hp : ∀ (k : Nat) (y : Int), l[k]? = some y → h (b + 1) k = y) : ∀ (m k : Nat), k + m = l.length → am_E (am_D d) m_3_2 (.inl 1) [some (am_r (am_a b)), some (am_i x), some (am_i (k : Int))] [] (zS L, h) = pI L (ffnd x (l.drop k) k) h
  | 0, k, hk => by rw [q_3_2_1, C.ob, h2, if_neg (by omega), List.drop_eq_nil_of_le (by omega)]; rfl
  | m + 1, k, hk => by
    have hkl : k < l.length := by omega
    have hd : l.drop k = l[k] :: l.drop (k + 1) := List.drop_eq_getElem_cons hkl
    rw [q_3_2_1, C.ob, h2, if_pos (by omega), C.ob, CB.r6, C.a1, p_idx (by omega) (by omega), Int.toNat_natCast, hp k _ (List.getElem?_eq_getElem hkl), hd, ffnd_c, p_w (x := (k : Int) + 1) (by omega) (by omega)]
    by_cases c : l[k] = x
    · rw [if_pos c, if_pos c]
    · rw [if_neg c, if_neg c]
      exact kx_pinl C x hl h2 hp m (k + 1) (by omega)
theorem kx_pin (C : CB L b) (x : Int) {l : List Int} (hl : l.length ≤ 12) (h2 : h b 2 = (l.length : Int)) (hp : ∀ (k : Nat) (y : Int), l[k]? = some y → h (b + 1) k = y) : am_D (d + 1) 3 2 [am_r (am_a b), am_i x] (zS L, h) = pI L (ffnd x l 0) h := by
  rw [D_3_2]
  exact kx_pinl (d := d) C x hl h2 hp l.length 0 (by omega)
theorem kx_inl (C : CB L b) (x : Int) {l : List Int} (hl : l.length ≤ 100) (h2 : h b 5 = (l.length : Int)) (hp : ∀ (k : Nat) (y : Int), l[k]? = some y → h (b + 4) k = y) : ∀ (m k : Nat), k + m = l.length → am_E (am_D d) m_3_3 (.inl 1) [some (am_r (am_a b)), some (am_i x), some (am_i (k : Int))] [] (zS L, h) = pI L (ffnd x (l.drop k) k) h
  | 0, k, hk => by rw [q_3_3_1, C.ob, h2, if_neg (by omega), List.drop_eq_nil_of_le (by omega)]; rfl
  | m + 1, k, hk => by
    have hkl : k < l.length := by omega
    have hd : l.drop k = l[k] :: l.drop (k + 1) := List.drop_eq_getElem_cons hkl
    rw [q_3_3_1, C.ob, h2, if_pos (by omega), C.ob, CB.r9, C.a4, p_idx (by omega) (by omega), Int.toNat_natCast, hp k _ (List.getElem?_eq_getElem hkl), hd, ffnd_c, p_w (x := (k : Int) + 1) (by omega) (by omega)]
    by_cases c : l[k] = x
    · rw [if_pos c, if_pos c]
    · rw [if_neg c, if_neg c]
      exact kx_inl C x hl h2 hp m (k + 1) (by omega)
theorem kx_in (C : CB L b) (x : Int) {l : List Int} (hl : l.length ≤ 100) (h2 : h b 5 = (l.length : Int)) (hp : ∀ (k : Nat) (y : Int), l[k]? = some y → h (b + 4) k = y) : am_D (d + 1) 3 3 [am_r (am_a b), am_i x] (zS L, h) = pI L (ffnd x l 0) h := by
  rw [D_3_3]
  exact kx_inl (d := d) C x hl h2 hp l.length 0 (by omega)
end
/-- a chip that is being read, in its cells -/
def kCh (V : Nat → Int) (b : Nat) (ch : cCh) (h : am_H) : Prop := (h b 0 = V ch.1 ∧ h b 1 = (ch.1 : Int)) ∧ (h b 2 = (ch.2.1.length : Int) ∧ ch.2.1.length ≤ 12) ∧ h b 3 = (ch.2.2.1 : Int) ∧ (h b 4 = (ch.2.2.2.1.length : Int) ∧ ch.2.2.2.1.length ≤ 24) ∧ (h b 5 = (ch.2.2.2.2.length : Int) ∧ ch.2.2.2.2.length ≤ 100) ∧ (∀ k p, ch.2.1[k]? = some p → h (b + 1) k = V p.1 ∧ h (b + 2) k = (p.1 : Int)) ∧ (∀ k q, ch.2.2.2.1[k]? = some q → h (b + 3) k = (q.1 : Int)) ∧ ∀ (k t : Nat), ch.2.2.2.2[k]? = some t → h (b + 4) k = V t ∧ h (b + 5) k = 0 ∧ h (b + 6) k = 0
theorem kCh.fr {V : Nat → Int} {b : Nat} {ch : cCh} {h h' : am_H} (C : kCh V b ch h) (e : ∀ c, b ≤ c → c ≤ b + 6 → h' c = h c) : kCh V b ch h' := by
  unfold kCh
  rw [e b (by omega) (by omega), e (b + 1) (by omega) (by omega), e (b + 2) (by omega) (by omega), e (b + 3) (by omega) (by omega), e (b + 4) (by omega) (by omega), e (b + 5) (by omega) (by omega), e (b + 6) (by omega) (by omega)]
  exact C
theorem kCh.at36 {V : Nat → Int} {b : Nat} {ch : cCh} {h : am_H} (C : kCh V b ch h) (hb : 36 < b) (k : Nat) (v : Int) : kCh V b ch (am_up h 36 k v) := C.fr (fun c h1 h2 => p_up_c _ _ _ _ _ (by omega))
section
variable {d L : Nat} {K V P : Nat → Int} {Z i b : Nat} {g h : am_H} {ch : cCh}
theorem mem_V (P : List Nat) (x : Int) : x ∈ P.map V ↔ ffnd x (P.map V) 0 ≠ -1 := by
  rcases ffnd_rg (P.map V) x 0 with ⟨z1, z2⟩ | ⟨z1, z2, z3, z4⟩
  · exact ⟨fun z => absurd z z2, fun z => absurd z1 z⟩
  · exact ⟨fun _ => by omega, fun _ => z4⟩
/-- an inner name -/
theorem kx_inner (C : CB L b) (hb : 83 ≤ b) (N : kN K V P Z i h) (f : kf b g h) (G : kCh V b ch h) : match c_inn V (ch.2.1.map (·.1)) ch.2.2.2.2 i with
      | .inl e => ∃ h', am_D (d + 4) 4 17 [am_r (am_a 36), am_r (am_a b)] (zS L, h) = kT L h' ∧ kB P b g e h'
      | .inr I' => ∃ h1, am_D (d + 4) 4 17 [am_r (am_a 36), am_r (am_a b)] (zS L, h) = pV L h1 ∧ kN K V P Z i h1 ∧ kf b g h1 ∧ kCh V b (ch.1, ch.2.1, ch.2.2.1, ch.2.2.2.1, I') h1 := by
  obtain ⟨⟨g0, g1⟩, ⟨g2, g2'⟩, g3, ⟨g4, g4'⟩, ⟨g5, g5'⟩, g6, g7, g8⟩ := G
  have ep := kx_pin (d := d + 2) (L := L) (h := h) C (V i) (l := (ch.2.1.map (·.1)).map V) (by simp; exact g2') (by rw [g2]; simp) (fun k y hy => by
    rw [List.map_map, List.getElem?_map] at hy
    cases hq : ch.2.1[k]? with
    | none => rw [hq] at hy; cases hy
    | some p => rw [hq] at hy; cases hy; exact (g6 k p hq).1)
  have ei := kx_in (d := d + 2) (L := L) (h := h) C (V i) (l := ch.2.2.2.2.map V) (by simp; exact g5') (by rw [g5]; simp) (fun k y hy => by
    rw [List.getElem?_map] at hy
    cases hq : ch.2.2.2.2[k]? with
    | none => rw [hq] at hy; cases hy
    | some t => rw [hq] at hy; cases hy; exact (g8 k t hq).1)
  rw [D_4_17, kx_val N, p_xI, C.ob, ep, p_xI]
  unfold c_inn
  by_cases c1 : V i ∈ (ch.2.1.map (·.1)).map V
  · rw [if_neg ((mem_V _ _).1 c1), if_pos (Or.inl c1)]
    exact ⟨h, rfl, N, f, ⟨g0, g1⟩, ⟨g2, g2'⟩, g3, ⟨g4, g4'⟩, ⟨g5, g5'⟩, g6, g7, g8⟩
  have z1 : ffnd (V i) ((ch.2.1.map (·.1)).map V) 0 = -1 := Classical.byContradiction fun z => c1 ((mem_V _ _).2 z)
  rw [if_pos z1, kx_val N, p_xI, C.ob, ei, p_xI]
  by_cases c2 : V i ∈ ch.2.2.2.2.map V
  · rw [if_neg ((mem_V _ _).1 c2), if_pos (Or.inr c2)]
    exact ⟨h, rfl, N, f, ⟨g0, g1⟩, ⟨g2, g2'⟩, g3, ⟨g4, g4'⟩, ⟨g5, g5'⟩, g6, g7, g8⟩
  have z2 : ffnd (V i) (ch.2.2.2.2.map V) 0 = -1 := Classical.byContradiction fun z => c2 ((mem_V _ _).2 z)
  rw [if_pos z2, C.ob, g5, if_neg (by rintro (z | z); exact c1 z; exact c2 z)]
  by_cases c3 : ch.2.2.2.2.length < 100
  · rw [if_pos c3, if_pos (by omega), q_4_17_4, kx_here N, p_xI]
    rcases kx_check (d := d + 1) (L := L) (P := P) f 1 2 i with ⟨y, -⟩ | ⟨-, r1⟩
    · omega
    rw [r1, p_xV, C.ob, C.ob, kx_val N, p_xI, CB.r9, C.a4, g5, p_idx (by omega) (by omega), Int.toNat_natCast, beq_b, C.ob, C.ob, CB.r10, C.a5, p_up_c _ _ _ _ b (by omega), g5, p_idx (by omega) (by omega), Int.toNat_natCast, beq_b, C.ob, C.ob, p_bit0, CB.r11, C.a6, p_up_c _ _ _ _ b (by omega), p_up_c _ _ _ _ b (by omega), g5, p_idx (by omega) (by omega), Int.toNat_natCast, beq_b, C.ob, C.ob, p_up_c _ _ _ _ b (by omega), p_up_c _ _ _ _ b (by omega), p_up_c _ _ _ _ b (by omega), g5, p_w (by omega) (by omega)]
    obtain ⟨H, hH⟩ : ∃ H, H = am_up (am_up (am_up (am_up h (b + 4) ch.2.2.2.2.length (V i)) (b + 5) ch.2.2.2.2.length 0) (b + 6) ch.2.2.2.2.length 0) b 5 ((ch.2.2.2.2.length : Int) + 1) := ⟨_, rfl⟩
    rw [← hH]
    have fH : kf b g H := by rw [hH]; exact (((f.upc (by omega) (by omega)).upc (by omega) (by omega)).upc (by omega) (by omega)).upc (by omega) (by omega)
    have e36 : ∀ c, (c < b ∨ b + 6 < c) → H c = h c := fun c hc => by rw [hH, p_up_c _ _ _ _ _ (by omega), p_up_c _ _ _ _ _ (by omega), p_up_c _ _ _ _ _ (by omega), p_up_c _ _ _ _ _ (by omega)]
    have e0 : ∀ k, k ≠ 5 → H b k = h b k := fun k hk => by rw [hH, p_up_n _ _ _ _ _ _ (Or.inr hk), p_up_c _ _ _ _ _ (by omega), p_up_c _ _ _ _ _ (by omega), p_up_c _ _ _ _ _ (by omega)]
    have e5 : H b 5 = (ch.2.2.2.2.length : Int) + 1 := by rw [hH, p_up_s]
    have e13 : ∀ c, c = b + 1 ∨ c = b + 2 ∨ c = b + 3 → H c = h c := fun c hc => by rw [hH, p_up_c _ _ _ _ _ (by omega), p_up_c _ _ _ _ _ (by omega), p_up_c _ _ _ _ _ (by omega), p_up_c _ _ _ _ _ (by omega)]
    have en : ∀ c k, c = b + 4 ∨ c = b + 5 ∨ c = b + 6 → k ≠ ch.2.2.2.2.length → H c k = h c k := fun c k hc hk => by rw [hH, p_up_n _ _ _ _ _ _ (Or.inl (by omega)), p_up_n _ _ _ _ _ _ (Or.inr hk), p_up_n _ _ _ _ _ _ (Or.inr hk), p_up_n _ _ _ _ _ _ (Or.inr hk)]
    refine ⟨H, rfl, ⟨N.1.fr (e36 78 (by omega)) (e36 79 (by omega)) (e36 80 (by omega)), by rw [e36 36 (by omega)]; exact N.2.1, N.2.2⟩, fH, ?_⟩
    unfold kCh
    dsimp only
    rw [e0 0 (by decide), e0 1 (by decide), e0 2 (by decide), e0 3 (by decide), e0 4 (by decide), e5, e13 (b + 1) (by omega), e13 (b + 2) (by omega), e13 (b + 3) (by omega)]
    refine ⟨⟨g0, g1⟩, ⟨g2, g2'⟩, g3, ⟨g4, g4'⟩, ⟨by rw [List.length_append, List.length_singleton]; omega, by rw [List.length_append, List.length_singleton]; omega⟩, g6, g7, fun k t hk => ?_⟩
    by_cases y : k < ch.2.2.2.2.length
    · rw [List.getElem?_append_left y] at hk
      rw [en (b + 4) k (by omega) (by omega), en (b + 5) k (by omega) (by omega), en (b + 6) k (by omega) (by omega)]
      exact g8 k t hk
    · have : k = ch.2.2.2.2.length := by
        have := (List.getElem?_eq_some_iff.1 hk).1
        rw [List.length_append, List.length_singleton] at this; omega
      subst this
      rw [List.getElem?_append_right (Nat.le_refl _), Nat.sub_self] at hk
      cases hk
      refine ⟨?_, ?_, ?_⟩
      · rw [hH, p_up_n _ _ _ _ _ _ (Or.inl (by omega)), p_up_n _ _ _ _ _ _ (Or.inl (by omega)), p_up_n _ _ _ _ _ _ (Or.inl (by omega)), p_up_s]
      · rw [hH, p_up_n _ _ _ _ _ _ (Or.inl (by omega)), p_up_n _ _ _ _ _ _ (Or.inl (by omega)), p_up_s]
      · rw [hH, p_up_n _ _ _ _ _ _ (Or.inl (by omega)), p_up_s]
  · rw [if_neg c3, if_neg (by omega), q_4_17_4, kx_here N, p_xI]
    rcases kx_check (d := d + 1) (L := L) (P := P) f 0 2 i with ⟨-, h', r1, r2⟩ | ⟨y, -⟩
    · exact ⟨h', by rw [r1, kT_V], r2⟩
    · omega
end
