/-! SIGNS, 4: the component's word of an instruction -/
section
variable {d L : Nat} {t : Nat → Int} {n : Nat} {h : am_H}
theorem sc_w1 (H : sg_T t n h) {a e : Nat} (he : e ≤ n) (h15 : h 23 15 = (a : Int)) (h16 : h 23 16 = (e : Int)) {u2 u3 u4 u5 u6 : Option am_V} : ∀ (m k : Nat), k + m = e → am_E (am_D (d + 1)) m_11_19 (.inl 1) [some (am_r (am_a 23)), some (am_i (k : Int)), u2, u3, u4, u5, u6] [] (zS L, h) = am_E (am_D (d + 1)) m_11_19 (.inl 3) [some (am_r (am_a 23)), some (am_i (fpos t 61 m k : Int)), some (am_i (a : Int)), u3, u4, u5, u6] [] (zS L, h)
  | 0, k, hk => by rw [q_11_19_1, h16, if_neg (by omega), h15]; rfl
  | m + 1, k, hk => by
    have hn := H.2.1
    rw [q_11_19_1, h16, if_pos (by omega), sc_here H, p_xI, sh_t (by omega), h15, p_w (x := (k : Int) + 1) (by omega) (by omega)]
    unfold fpos
    by_cases c : t k = 61
    · rw [if_pos c, if_pos c]
    · rw [if_neg c, if_neg c]
      exact sc_w1 H he h15 h16 m (k + 1) (by omega)
theorem sc_w3 (H : sg_T t n h) {a e x : Nat} (he : e ≤ n) (hx : x ≤ e) (h15 : h 23 15 = (a : Int)) (h16 : h 23 16 = (e : Int)) {u3 u4 u5 u6 : Option am_V} : ∀ (m k : Nat), k + m = e → am_E (am_D (d + 1)) m_11_19 (.inl 3) [some (am_r (am_a 23)), some (am_i (x : Int)), some (am_i (k : Int)), u3, u4, u5, u6] [] (zS L, h) = am_E (am_D (d + 1)) m_11_19 (.inl 6) [some (am_r (am_a 23)), some (am_i (x : Int)), some (am_i (fpos t 59 m k : Int)), u3, u4, u5, u6] [am_i ((if x < e then x + 1 else a : Nat) : Int)] (zS L, h)
  | 0, k, hk => by
    have hn := H.2.1
    rw [q_11_19_3, h16, if_neg (by omega), h15]
    by_cases z : x < e
    · rw [if_pos (by omega), if_pos z, p_w (by omega) (by omega)]; rfl
    · rw [if_neg (by omega), if_neg z]; rfl
  | m + 1, k, hk => by
    have hn := H.2.1
    rw [q_11_19_3, h16, if_pos (by omega), sc_here H, p_xI, sh_t (by omega), h15, p_w (x := (k : Int) + 1) (by omega) (by omega)]
    unfold fpos
    by_cases c : t k = 59
    · rw [if_pos c, if_pos c]
      by_cases z : x < e
      · rw [if_pos (by omega), if_pos z, p_w (by omega) (by omega)]; rfl
      · rw [if_neg (by omega), if_neg z]
    · rw [if_neg c, if_neg c]
      exact sc_w3 H he hx h15 h16 m (k + 1) (by omega)
theorem wix7 (l : List (List Int)) (hl : l.length = 7) (s : List Int) : wix l s 0 = -1 ∨ 0 ≤ wix l s 0 ∧ wix l s 0 < 7 := by
  rcases wix_rg l s 0 with z | z
  · exact Or.inl z
  · right; omega
theorem sc_word (H : sg_T t n h) (G : SGC h) {a e : Nat} (he : e ≤ n) (h15 : h 23 15 = (a : Int)) (h16 : h 23 16 = (e : Int)) (ha : a ≤ e) : am_D (d + 4) 11 19 [am_r (am_a 23)] (zS L, h) = pI L (wdS t a e) h := by
  have hn := H.2.1
  obtain ⟨p, hp⟩ : ∃ p, p = fpos t 61 (e - a) a := ⟨_, rfl⟩
  obtain ⟨q, hq⟩ : ∃ q, q = fpos t 59 (e - a) a := ⟨_, rfl⟩
  have p1 := fpos_rg t 61 (e - a) a
  have q1 := fpos_rg t 59 (e - a) a
  obtain ⟨b, hb⟩ : ∃ b, b = if p < e then p + 1 else a := ⟨_, rfl⟩
  have b1 : a ≤ b ∧ b ≤ e := by rw [hb]; split <;> omega
  rw [D_11_19, h15, sc_w1 (d := d + 2) H he h15 h16 (e - a) a (by omega), sc_w3 (d := d + 2) H he (by omega) h15 h16 (e - a) a (by omega)]
  unfold wdS
  rw [← hp, ← hq, ← hb, q_11_19_6, h16]
  -- the end
  have E12 : ∀ {u1 u6 : Option am_V} {x4 x5 : Int}, (0 ≤ x4 ∧ x4 ≤ 7) → (0 ≤ x5 ∧ x5 ≤ 7) → am_E (am_D (d + 3)) m_11_19 (.inl 12) [some (am_r (am_a 23)), u1, some (am_i (q : Int)), some (am_i (b : Int)), some (am_i x4), some (am_i x5), u6] [] (zS L, h) = pI L (if q < b then -1 else if cmB (lx_span t b q) = -1 then -1 else 57344 + 64 * cmB (lx_span t b q) + 8 * x4 + x5) h := fun {u1 u6 x4 x5} y4 y5 => by
    rw [q_11_19_12]
    by_cases c : q < b
    · rw [if_pos (by omega), if_pos c]
    · rw [if_neg (by omega), if_neg c, sc_comp (d := d + 1) H G (by omega) (by omega), p_xI]
      have := cmB_rg (lx_span t b q)
      by_cases z : cmB (lx_span t b q) = -1
      · rw [if_pos z, if_pos rfl, if_pos z]
      · rw [if_neg z, if_neg (by omega), if_neg z, p_w (x := 57344 + 64 * cmB (lx_span t b q)) (by omega) (by omega), p_w (x := 8 * x4) (by omega) (by omega), p_w (x := 57344 + 64 * cmB (lx_span t b q) + 8 * x4) (by omega) (by omega), p_w (by omega) (by omega)]
  have E10 : ∀ {u5 u6 : Option am_V} {x4 x5 : Int}, (0 ≤ x4 ∧ x4 ≤ 7) → (0 ≤ x5 ∧ x5 ≤ 7) → am_E (am_D (d + 3)) m_11_19 (.inl 10) [some (am_r (am_a 23)), some (am_i (p : Int)), some (am_i (q : Int)), some (am_i (b : Int)), some (am_i x4), u5, u6] [am_i x5] (zS L, h) = pI L (if (p < e ∧ x4 = 0) ∨ (q < e ∧ x5 = 0) ∨ q < b then -1 else if cmB (lx_span t b q) = -1 then -1 else 57344 + 64 * cmB (lx_span t b q) + 8 * x4 + x5) h := fun {u5 u6 x4 x5} y4 y5 => by
    have W : (q < e → x5 ≠ 0) → (p < e → x4 ≠ 0) → am_E (am_D (d + 3)) m_11_19 (.inl 12) [some (am_r (am_a 23)), some (am_i (p : Int)), some (am_i (q : Int)), some (am_i (b : Int)), some (am_i x4), some (am_i x5), u6] [] (zS L, h) = pI L (if (p < e ∧ x4 = 0) ∨ (q < e ∧ x5 = 0) ∨ q < b then -1 else if cmB (lx_span t b q) = -1 then -1 else 57344 + 64 * cmB (lx_span t b q) + 8 * x4 + x5) h := fun w1 w2 => by
      rw [E12 y4 y5]
      by_cases c : q < b
      · rw [if_pos c, if_pos (Or.inr (Or.inr c))]
      · rw [if_neg c, if_neg (c := (p < e ∧ x4 = 0) ∨ (q < e ∧ x5 = 0) ∨ q < b)]
        rintro (⟨z1, z2⟩ | ⟨z1, z2⟩ | z)
        · exact w2 z1 z2
        · exact w1 z1 z2
        · exact c z
    have W2 : (p < e → x4 ≠ 0) → (if (q : Int) < (e : Int) then if x5 = 0 then pI L (-1) h else am_E (am_D (d + 3)) m_11_19 (.inl 12) [some (am_r (am_a 23)), some (am_i (p : Int)), some (am_i (q : Int)), some (am_i (b : Int)), some (am_i x4), some (am_i x5), u6] [] (zS L, h) else am_E (am_D (d + 3)) m_11_19 (.inl 12) [some (am_r (am_a 23)), some (am_i (p : Int)), some (am_i (q : Int)), some (am_i (b : Int)), some (am_i x4), some (am_i x5), u6] [] (zS L, h)) = pI L (if (p < e ∧ x4 = 0) ∨ (q < e ∧ x5 = 0) ∨ q < b then -1 else if cmB (lx_span t b q) = -1 then -1 else 57344 + 64 * cmB (lx_span t b q) + 8 * x4 + x5) h := fun w2 => by
      by_cases c : q < e
      · rw [if_pos (by omega)]
        by_cases z : x5 = 0
        · rw [if_pos z, if_pos (Or.inr (Or.inl ⟨c, z⟩))]
        · rw [if_neg z]; exact W (fun _ => z) w2
      · rw [if_neg (by omega)]; exact W (fun z => absurd z c) w2
    rw [q_11_19_10, h16]
    by_cases c : p < e
    · rw [if_pos (by omega)]
      by_cases z : x4 = 0
      · rw [if_pos z, if_pos (Or.inl ⟨c, z⟩)]
      · rw [if_neg z]; exact W2 (fun _ => z)
    · rw [if_neg (by omega)]; exact W2 (fun z => absurd z c)
  have E8 : ∀ {u4 u5 u6 : Option am_V} {x4 : Int}, (0 ≤ x4 ∧ x4 ≤ 7) → am_E (am_D (d + 3)) m_11_19 (.inl 8) [some (am_r (am_a 23)), some (am_i (p : Int)), some (am_i (q : Int)), some (am_i (b : Int)), u4, u5, u6] [am_i x4] (zS L, h) = pI L (if (p < e ∧ x4 = 0) ∨ (q < e ∧ wix jws (lx_span t (q + 1) e) 0 = -1) ∨ q < b then -1 else if cmB (lx_span t b q) = -1 then -1 else 57344 + 64 * cmB (lx_span t b q) + 8 * x4 + (if q < e then wix jws (lx_span t (q + 1) e) 0 + 1 else 0)) h := fun {u4 u5 u6 x4} y4 => by
    have jr := wix7 jws rfl (lx_span t (q + 1) e)
    rw [q_11_19_8, h16]
    by_cases c : q < e
    · have sj := sc_jump (d := d) (L := L) H he (show q + 1 ≤ e by omega)
      have sj : am_D (d + 3) 11 18 [am_r (am_a 23), am_i ((q : Int) + 1), am_i (e : Int), am_r (am_a 33)] (zS L, h) = _ := sj
      rw [if_pos (by omega), p_w (x := (q : Int) + 1) (by omega) (by omega), sj, p_xI, p_w (by omega) (by omega), E10 y4 (by omega), if_pos c]
      refine congrArg (fun x => pI L x h) ?_
      have : ((p < e ∧ x4 = 0) ∨ (q < e ∧ wix jws (lx_span t (q + 1) e) 0 + 1 = 0) ∨ q < b) ↔ ((p < e ∧ x4 = 0) ∨ (q < e ∧ wix jws (lx_span t (q + 1) e) 0 = -1) ∨ q < b) := by
        constructor <;> (rintro (z | ⟨z1, z2⟩ | z))
        · exact Or.inl z
        · exact Or.inr (Or.inl ⟨z1, by omega⟩)
        · exact Or.inr (Or.inr z)
        · exact Or.inl z
        · exact Or.inr (Or.inl ⟨z1, by omega⟩)
        · exact Or.inr (Or.inr z)
      by_cases y : (p < e ∧ x4 = 0) ∨ (q < e ∧ wix jws (lx_span t (q + 1) e) 0 = -1) ∨ q < b
      · rw [if_pos y, if_pos (this.2 y)]
      · rw [if_neg y, if_neg (fun z => y (this.1 z))]
    · rw [if_neg (by omega), E10 y4 (by omega), if_neg c]
      refine congrArg (fun x => pI L x h) ?_
      by_cases y : (p < e ∧ x4 = 0) ∨ q < b
      · rw [if_pos (by rcases y with z | z; exact Or.inl z; exact Or.inr (Or.inr z)), if_pos (by rcases y with z | z; exact Or.inl z; exact Or.inr (Or.inr z))]
      · rw [if_neg (by rintro (z | ⟨z, -⟩ | z); exact y (Or.inl z); exact c z; exact y (Or.inr z)), if_neg (c := (p < e ∧ x4 = 0) ∨ (q < e ∧ wix jws (lx_span t (q + 1) e) 0 = -1) ∨ q < b) (by rintro (z | ⟨z, -⟩ | z); exact y (Or.inl z); exact c z; exact y (Or.inr z))]
  have dr := wix7 dws rfl (lx_span t a p)
  by_cases c : p < e
  · rw [if_pos (by omega), h15, sc_dest (d := d) H (by omega) (by omega), p_xI, p_w (by omega) (by omega)]
    refine (E8 (by omega)).trans ?_
    refine congrArg (fun x => pI L x h) ?_
    rw [if_pos c]
    have : ((p < e ∧ wix dws (lx_span t a p) 0 + 1 = 0) ∨ (q < e ∧ wix jws (lx_span t (q + 1) e) 0 = -1) ∨ q < b) ↔ ((p < e ∧ wix dws (lx_span t a p) 0 = -1) ∨ (q < e ∧ wix jws (lx_span t (q + 1) e) 0 = -1) ∨ q < b) := by
      constructor <;> (rintro (⟨z1, z2⟩ | z | z))
      · exact Or.inl ⟨z1, by omega⟩
      · exact Or.inr (Or.inl z)
      · exact Or.inr (Or.inr z)
      · exact Or.inl ⟨z1, by omega⟩
      · exact Or.inr (Or.inl z)
      · exact Or.inr (Or.inr z)
    by_cases y : (p < e ∧ wix dws (lx_span t a p) 0 = -1) ∨ (q < e ∧ wix jws (lx_span t (q + 1) e) 0 = -1) ∨ q < b
    · rw [if_pos y, if_pos (this.2 y)]
    · rw [if_neg y, if_neg (fun z => y (this.1 z))]
  · rw [if_neg (by omega)]
    refine (E8 (by omega)).trans ?_
    refine congrArg (fun x => pI L x h) ?_
    rw [if_neg c]
    by_cases y : (q < e ∧ wix jws (lx_span t (q + 1) e) 0 = -1) ∨ q < b
    · rw [if_pos (Or.inr y), if_pos (Or.inr y)]
    · rw [if_neg (by rintro (⟨z, -⟩ | z); exact c z; exact y z), if_neg (c := (p < e ∧ wix dws (lx_span t a p) 0 = -1) ∨ (q < e ∧ wix jws (lx_span t (q + 1) e) 0 = -1) ∨ q < b) (by rintro (⟨z, -⟩ | z); exact c z; exact y z)]
end
