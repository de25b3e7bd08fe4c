/-! SIGNS, 12: the model's instructions -/
/-- the model's words and symbols -/
def mP (t : Nat → Int) (s : sgS) (h : am_H) : Prop := h 254 110 = (s.1.length : Int) ∧ s.1.length ≤ 1500 ∧ (∀ i w, s.1[i]? = some w → h 322 i = w.1 ∧ h 326 i = w.2) ∧ mS t s.2 h
def frlx (t : Nat → Int) (c : Int) (a : Nat) : Nat → Nat → Int
  | 0, _ => -1
  | r + 1, k => if t (a + k) = c then (k : Int) else frlx t c a r (k + 1)
theorem frl_pos (t : Nat → Int) (c : Int) (a : Nat) : ∀ r k, frlx t c a r k = if fpos t c r (a + k) < a + k + r then (fpos t c r (a + k) : Int) - (a : Int) else -1
  | 0, k => by
    show (-1 : Int) = _
    rw [if_neg]
    show ¬ a + k < a + k + 0
    omega
  | r + 1, k => by
    unfold frlx fpos
    by_cases z : t (a + k) = c
    · rw [if_pos z, if_pos z, if_pos (by omega)]; omega
    · rw [if_neg z, if_neg z, frl_pos t c a r (k + 1), show a + (k + 1) = a + k + 1 by omega, show a + k + 1 + r = a + k + (r + 1) by omega]
theorem mS.fr {t : Nat → Int} {T : List (List Int × Int)} {h h' : am_H} (S : mS t T h) (f : p_fr [322, 326] [(254, 110), (254, 4)] h h') : mS t T h' := by
  unfold mS
  rw [f 254 112 rfl rfl, f.cell 323 rfl rfl, f.cell 324 rfl rfl, f.cell 325 rfl rfl, f.cell 256 rfl rfl]
  exact S
section
variable {d L : Nat} {t : Nat → Int} {n : Nat} {h : am_H} {s : sgS}
theorem mP.put {h' : am_H} {T : List (List Int × Int)} {w : Int × Int} (P : mP t s h) (l : s.1.length < 1500) (S : mS t T h') (e1 : h' 254 110 = (s.1.length : Int) + 1) (e2 : ∀ i, i < s.1.length → h' 322 i = h 322 i ∧ h' 326 i = h 326 i) (e3 : h' 322 s.1.length = w.1 ∧ h' 326 s.1.length = w.2) : mP t (s.1 ++ [w], T) h' := by
  obtain ⟨p1, p2, p3, p4⟩ := P
  refine ⟨?_, ?_, fun i x hx => ?_, S⟩
  · rw [e1]; show _ = ((s.1 ++ [w]).length : Int); rw [List.length_append, List.length_singleton]; omega
  · show (s.1 ++ [w]).length ≤ 1500; rw [List.length_append, List.length_singleton]; omega
  · have hx : (s.1 ++ [w])[i]? = some x := hx
    by_cases z : i < s.1.length
    · rw [List.getElem?_append_left z] at hx
      rw [(e2 i z).1, (e2 i z).2]
      exact p3 i x hx
    · have : i = s.1.length := by
        have := (List.getElem?_eq_some_iff.1 hx).1
        rw [List.length_append, List.length_singleton] at this; omega
      subst this
      rw [List.getElem?_append_right (Nat.le_refl _), Nat.sub_self] at hx
      cases hx
      exact e3
theorem sd_scan (H : lm_T t n h) {a m : Nat} (he : a + m ≤ n) {u6 u7 u8 u9 : Option am_V} : ∀ (r k : Nat) (x3 x4 : Int), k + r = m → am_E (am_D d) m_17_137 (.inl 1) [some (am_r (am_a 254)), some (am_i (a : Int)), some (am_i (m : Int)), some (am_i x3), some (am_i x4), some (am_i (k : Int)), u6, u7, u8, u9] [] (zS L, h) = am_E (am_D d) m_17_137 (.inl 1) [some (am_r (am_a 254)), some (am_i (a : Int)), some (am_i (m : Int)), some (am_i (if x3 = -1 then frlx t 61 a r k else x3)), some (am_i (if x4 = -1 then frlx t 59 a r k else x4)), some (am_i (m : Int)), u6, u7, u8, u9] [] (zS L, h)
  | 0, k, x3, x4, hk => by
    have : k = m := by omega
    subst this
    have e : ∀ x c : Int, (if x = -1 then frlx t c a 0 k else x) = x := fun x c => by
      split
      · rename_i z; rw [z]; rfl
      · rfl
    rw [e, e]
  | r + 1, k, x3, x4, hk => by
    have hn := H.2.1
    have e1 : h 256 (a + k) = t (a + k) := (H.2.2 _ (by omega)).1
    have W : ∀ {x3 : Int}, am_E (am_D d) m_17_137 (.inl 2) [some (am_r (am_a 254)), some (am_i (a : Int)), some (am_i (m : Int)), some (am_i x3), some (am_i x4), some (am_i (k : Int)), u6, u7, u8, u9] [] (zS L, h) = am_E (am_D d) m_17_137 (.inl 1) [some (am_r (am_a 254)), some (am_i (a : Int)), some (am_i (m : Int)), some (am_i x3), some (am_i (if t (a + k) = 59 ∧ x4 = -1 then (k : Int) else x4)), some (am_i ((k + 1 : Nat) : Int)), u6, u7, u8, u9] [] (zS L, h) := fun {x3} => by
      rw [q_17_137_2, p_w (x := (a : Int) + (k : Int)) (by omega) (by omega), p_idx (by omega) (by omega), show ((a : Int) + (k : Int)).toNat = a + k by omega, e1, p_w (x := (k : Int) + 1) (by omega) (by omega)]
      by_cases c1 : t (a + k) = 59
      · rw [if_pos c1]
        by_cases c2 : x4 = -1
        · rw [if_pos c2, if_pos ⟨c1, c2⟩]; rfl
        · rw [if_neg c2, if_neg (fun z => c2 z.2)]; rfl
      · rw [if_neg c1, if_neg (fun z => c1 z.1)]; rfl
    have V : am_E (am_D d) m_17_137 (.inl 1) [some (am_r (am_a 254)), some (am_i (a : Int)), some (am_i (m : Int)), some (am_i x3), some (am_i x4), some (am_i (k : Int)), u6, u7, u8, u9] [] (zS L, h) = am_E (am_D d) m_17_137 (.inl 2) [some (am_r (am_a 254)), some (am_i (a : Int)), some (am_i (m : Int)), some (am_i (if t (a + k) = 61 ∧ x3 = -1 then (k : Int) else x3)), some (am_i x4), some (am_i (k : Int)), u6, u7, u8, u9] [] (zS L, h) := by
      rw [q_17_137_1, if_pos (by omega), p_w (x := (a : Int) + (k : Int)) (by omega) (by omega), p_idx (by omega) (by omega), show ((a : Int) + (k : Int)).toNat = a + k by omega, e1]
      by_cases c1 : t (a + k) = 61
      · rw [if_pos c1]
        by_cases c2 : x3 = -1
        · rw [if_pos c2, if_pos ⟨c1, c2⟩]
        · rw [if_neg c2, if_neg (fun z => c2 z.2)]
      · rw [if_neg c1, if_neg (fun z => c1 z.1)]
    have e2 : ∀ x c : Int, (if (if t (a + k) = c ∧ x = -1 then (k : Int) else x) = -1 then frlx t c a r (k + 1) else (if t (a + k) = c ∧ x = -1 then (k : Int) else x)) = if x = -1 then frlx t c a (r + 1) k else x := fun x c => by
      show _ = if x = -1 then (if t (a + k) = c then (k : Int) else frlx t c a r (k + 1)) else x
      by_cases z1 : x = -1
      · by_cases z2 : t (a + k) = c
        · rw [if_pos (show t (a + k) = c ∧ x = -1 from ⟨z2, z1⟩), if_neg (by omega), if_pos z1, if_pos z2]
        · rw [if_neg (c := t (a + k) = c ∧ x = -1) (fun z => z2 z.1), if_pos z1, if_pos z1, if_neg z2]
      · rw [if_neg (c := t (a + k) = c ∧ x = -1) (fun z => z1 z.2), if_neg z1, if_neg z1]
    rw [V, W, sd_scan H he r (k + 1) _ _ (by omega), e2, e2]
theorem jws_len (s : List Int) (h : 0 ≤ wix jws s 0) : s.length = 3 := by
  rw [wix_wo] at h
  by_cases z : s ∈ jws
  · have : ∀ s ∈ jws, s.length = 3 := by decide
    exact this s z
  · rw [if_neg z] at h; omega
theorem dws_len (s : List Int) (h : 0 ≤ wix dws s 0) : 1 ≤ s.length := by
  rw [wix_wo] at h
  by_cases z : s ∈ dws
  · have : ∀ s ∈ dws, 1 ≤ s.length := by decide
    exact this s z
  · rw [if_neg z] at h; omega
theorem sd_dest (H : lm_T t n h) {a m : Nat} (he : a + m ≤ n) (h32 : ∀ k, a ≤ k → k < a + m → t k ≠ 32) : am_D (d + 2) 17 136 [am_r (am_a 254), am_i (a : Int), am_i (m : Int)] (zS L, h) = pI L (if wix dws (lx_span t a (a + m)) 0 = -1 then -1 else 8 * (wix dws (lx_span t a (a + m)) 0 + 1)) h := by
  rw [D_17_136, sd_wo H wo_172 he h32, p_xI]
  rcases wix7 dws rfl (lx_span t a (a + m)) with z | ⟨z1, z2⟩
  · rw [z, if_pos (by decide), if_pos rfl]
  · have := dws_len _ z1
    rw [lx_span_len] at this
    rw [if_neg (by omega), if_neg (by omega), if_neg (by omega), p_w (x := wix dws (lx_span t a (a + m)) 0 + 1) (by omega) (by omega), p_w (by omega) (by omega)]
def siF : List (Nat × Nat) := [(254, 110), (254, 112)]
theorem sd_computes (H : lm_T t n h) (P : mP t s h) {a m : Nat} (he : a + m ≤ n) (h32 : ∀ k, a ≤ k → k < a + m → t k ≠ 32) : ∃ r h', am_D (d + 3) 17 137 [am_r (am_a 254), am_i (a : Int), am_i (m : Int)] (zS L, h) = pI L r h' ∧ p_fr [322, 326] [(254, 110)] h h' ∧ ((wdS t a (a + m) = -1 ∧ r = 1) ∨ (wdS t a (a + m) ≠ -1 ∧ s.1.length = 1500 ∧ r = 2) ∨ (wdS t a (a + m) ≠ -1 ∧ s.1.length ≠ 1500 ∧ r = 0 ∧ mP t (s.1 ++ [(wdS t a (a + m), -1)], s.2) h')) := by
  have hn := H.2.1
  obtain ⟨e, ee⟩ : ∃ e, e = a + m := ⟨_, rfl⟩
  obtain ⟨p, hp⟩ : ∃ p, p = fpos t 61 (e - a) a := ⟨_, rfl⟩
  obtain ⟨q, hq⟩ : ∃ q, q = fpos t 59 (e - a) a := ⟨_, rfl⟩
  have p1 := fpos_rg t 61 (e - a) a
  have q1 := fpos_rg t 59 (e - a) a
  have em : e - a = m := by omega
  have f61 : frlx t 61 a m 0 = if p < e then (p : Int) - (a : Int) else -1 := by
    have := frl_pos t 61 a m 0
    rw [Nat.add_zero, ← ee] at this
    rw [this, hp, em]
  have f59 : frlx t 59 a m 0 = if q < e then (q : Int) - (a : Int) else -1 := by
    have := frl_pos t 59 a m 0
    rw [Nat.add_zero, ← ee] at this
    rw [this, hq, em]
  obtain ⟨b, hb⟩ : ∃ b, b = if p < e then p + 1 else a := ⟨_, rfl⟩
  have b1 : a ≤ b ∧ b ≤ e := by rw [hb]; split <;> omega
  rw [← ee] at h32 ⊢
  rw [D_17_137]
  have r1 := sd_scan (d := d + 2) (L := L) H he (u6 := none) (u7 := none) (u8 := none) (u9 := none) m 0 (-1) (-1) (by omega)
  rw [if_pos rfl, if_pos rfl, f61, f59] at r1
  have r1 : am_E (am_D (d + 2)) m_17_137 (.inl 1) [some (am_r (am_a 254)), some (am_i (a : Int)), some (am_i (m : Int)), some (am_i (-1)), some (am_i (-1)), some (am_i 0), none, none, none, none] [] (zS L, h) = _ := r1
  rw [r1, q_17_137_1, if_neg (Int.lt_irrefl _)]
  -- first and last
  have hf : am_w ((if p < e then (p : Int) - (a : Int) else -1) + 1) = (b : Int) - (a : Int) := by
    rw [hb]
    by_cases z : p < e
    · rw [if_pos z, if_pos z, p_w (by omega) (by omega)]; omega
    · rw [if_neg z, if_neg z, p_w (by omega) (by omega)]; omega
  have lstx : ∀ {x3 : Int} {u6 u7 u8 u9 : Option am_V}, (if (if q < e then (q : Int) - (a : Int) else -1) = -1 then am_E (am_D (d + 2)) m_17_137 (.inl 6) [some (am_r (am_a 254)), some (am_i (a : Int)), some (am_i (m : Int)), some (am_i x3), some (am_i (if q < e then (q : Int) - (a : Int) else -1)), some (am_i ((b : Int) - (a : Int))), u6, u7, u8, u9] [am_i (m : Int)] (zS L, h) else am_E (am_D (d + 2)) m_17_137 (.inl 6) [some (am_r (am_a 254)), some (am_i (a : Int)), some (am_i (m : Int)), some (am_i x3), some (am_i (if q < e then (q : Int) - (a : Int) else -1)), some (am_i ((b : Int) - (a : Int))), u6, u7, u8, u9] [am_i (if q < e then (q : Int) - (a : Int) else -1)] (zS L, h)) = am_E (am_D (d + 2)) m_17_137 (.inl 6) [some (am_r (am_a 254)), some (am_i (a : Int)), some (am_i (m : Int)), some (am_i x3), some (am_i (if q < e then (q : Int) - (a : Int) else -1)), some (am_i ((b : Int) - (a : Int))), u6, u7, u8, u9] [am_i ((q : Int) - (a : Int))] (zS L, h) := fun {x3 u6 u7 u8 u9} => by
    by_cases z : q < e
    · rw [if_pos z, if_neg (by omega)]
    · rw [if_neg z, if_pos rfl, show (m : Int) = (q : Int) - (a : Int) by omega]
  rw [hf, lstx, q_17_137_6]
  have wdE : wdS t a e = if (p < e ∧ wix dws (lx_span t a p) 0 = -1) ∨ (q < e ∧ wix jws (lx_span t (q + 1) e) 0 = -1) ∨ q < b then -1 else if cmB (lx_span t b q) = -1 then -1 else 57344 + 64 * cmB (lx_span t b q) + 8 * (if p < e then wix dws (lx_span t a p) 0 + 1 else 0) + (if q < e then wix jws (lx_span t (q + 1) e) 0 + 1 else 0) := by
    unfold wdS; rw [← hp, ← hq, ← hb]
  by_cases c1 : q < b
  · rw [if_pos (by omega)]
    exact ⟨1, h, rfl, p_fr.refl h, Or.inl ⟨by rw [wdE, if_pos (Or.inr (Or.inr c1))], rfl⟩⟩
  rw [if_neg (by omega)]
  have dr := wix7 dws rfl (lx_span t a p)
  have jr := wix7 jws rfl (lx_span t (q + 1) e)
  have cr := cmB_rg (lx_span t b q)
  -- the word is put
  have E13 : ∀ {u1 u2 u3 u4 u5 u6 : Option am_V} {x7 x9 : Int}, ¬ ((p < e ∧ wix dws (lx_span t a p) 0 = -1) ∨ (q < e ∧ wix jws (lx_span t (q + 1) e) 0 = -1) ∨ q < b) → cmB (lx_span t b q) ≠ -1 → x7 = 8 * (if p < e then wix dws (lx_span t a p) 0 + 1 else 0) → x9 = (if q < e then wix jws (lx_span t (q + 1) e) 0 + 1 else 0) → ∃ r h', am_E (am_D (d + 2)) m_17_137 (.inl 13) [some (am_r (am_a 254)), u1, u2, u3, u4, u5, u6, some (am_i x7), some (am_i (cmB (lx_span t b q))), some (am_i x9)] [] (zS L, h) = pI L r h' ∧ p_fr [322, 326] [(254, 110)] h h' ∧ ((wdS t a e = -1 ∧ r = 1) ∨ (wdS t a e ≠ -1 ∧ s.1.length = 1500 ∧ r = 2) ∨ (wdS t a e ≠ -1 ∧ s.1.length ≠ 1500 ∧ r = 0 ∧ mP t (s.1 ++ [(wdS t a e, -1)], s.2) h')) := fun {u1 u2 u3 u4 u5 u6 x7 x9} y1 y2 y3 y4 => by
    have wd : wdS t a e = 57344 + 64 * cmB (lx_span t b q) + x7 + x9 := by rw [wdE, if_neg y1, if_neg y2, y3, y4]
    have x7r : 0 ≤ x7 ∧ x7 ≤ 56 := by
      rw [y3]
      by_cases z : p < e
      · rw [if_pos z]
        have : wix dws (lx_span t a p) 0 ≠ -1 := fun y => y1 (Or.inl ⟨z, y⟩)
        omega
      · rw [if_neg z]; omega
    have x9r : 0 ≤ x9 ∧ x9 ≤ 7 := by
      rw [y4]
      by_cases z : q < e
      · rw [if_pos z]
        have : wix jws (lx_span t (q + 1) e) 0 ≠ -1 := fun y => y1 (Or.inr (Or.inl ⟨z, y⟩))
        omega
      · rw [if_neg z]; omega
    have wn : wdS t a e ≠ -1 := by omega
    rw [q_17_137_13, P.1]
    have l15 := P.2.1
    by_cases c : s.1.length = 1500
    · rw [if_pos (by omega)]
      exact ⟨2, h, rfl, p_fr.refl h, Or.inr (Or.inl ⟨wn, c, rfl⟩)⟩
    · rw [if_neg (by omega), p_idx (by omega) (by omega), p_idx (by omega) (by omega), Int.toNat_natCast, p_w (x := 64 * cmB (lx_span t b q)) (by omega) (by omega), p_w (x := 57344 + 64 * cmB (lx_span t b q)) (by omega) (by omega), p_w (x := 57344 + 64 * cmB (lx_span t b q) + x7) (by omega) (by omega), p_w (x := 57344 + 64 * cmB (lx_span t b q) + x7 + x9) (by omega) (by omega), p_w (x := (s.1.length : Int) + 1) (by omega) (by omega), ← wd]
      obtain ⟨G, hG⟩ : ∃ G, G = am_up (am_up (am_up h 326 s.1.length (-1)) 322 s.1.length (wdS t a e)) 254 110 ((s.1.length : Int) + 1) := ⟨_, rfl⟩
      have fG : p_fr [322, 326] [(254, 110)] h G := by rw [hG]; exact (((p_fr.refl h).upc _ _ _ rfl).upc _ _ _ rfl).upf _ _ _ rfl
      rw [← hG]
      refine ⟨0, G, rfl, fG, Or.inr (Or.inr ⟨wn, c, rfl, P.put (by omega) (P.2.2.2.fr (fG.mono rfl rfl)) (by rw [hG, p_up_s]) (fun i hi => ?_) ⟨?_, ?_⟩⟩)⟩
      · rw [hG]
        exact ⟨by rw [p_up_c _ _ _ _ _ (by decide), p_up_n _ _ _ _ _ _ (Or.inr (by omega)), p_up_c _ _ _ _ _ (by decide)], by rw [p_up_c _ _ _ _ _ (by decide), p_up_c _ _ _ _ _ (by decide), p_up_n _ _ _ _ _ _ (Or.inr (by omega))]⟩
      · rw [hG, p_up_c _ _ _ _ _ (by decide), p_up_s]
      · rw [hG, p_up_c _ _ _ _ _ (by decide), p_up_c _ _ _ _ _ (by decide), p_up_s]
  -- dest
  have E9 : ∀ {u3 u7 u8 u9 : Option am_V} {x7 : Int}, x7 = (if p < e then (if wix dws (lx_span t a p) 0 = -1 then -1 else 8 * (wix dws (lx_span t a p) 0 + 1)) else 0) → ∃ r h', am_E (am_D (d + 2)) m_17_137 (.inl 9) [some (am_r (am_a 254)), some (am_i (a : Int)), some (am_i (m : Int)), u3, some (am_i (if q < e then (q : Int) - (a : Int) else -1)), some (am_i ((b : Int) - (a : Int))), some (am_i ((q : Int) - (a : Int))), u7, u8, u9] [am_i x7] (zS L, h) = pI L r h' ∧ p_fr [322, 326] [(254, 110)] h h' ∧ ((wdS t a e = -1 ∧ r = 1) ∨ (wdS t a e ≠ -1 ∧ s.1.length = 1500 ∧ r = 2) ∨ (wdS t a e ≠ -1 ∧ s.1.length ≠ 1500 ∧ r = 0 ∧ mP t (s.1 ++ [(wdS t a e, -1)], s.2) h')) := fun {u3 u7 u8 u9 x7} hx7 => by
    have rc := sd_comp (d := d + 1) (L := L) H (a := b) (m := q - b) (by omega)
    rw [show b + (q - b) = q by omega, show ((q - b : Nat) : Int) = (q : Int) - (a : Int) - ((b : Int) - (a : Int)) by omega] at rc
    rw [q_17_137_9, p_w (x := (a : Int) + ((b : Int) - (a : Int))) (by omega) (by omega), p_w (x := (q : Int) - (a : Int) - ((b : Int) - (a : Int))) (by omega) (by omega), show (a : Int) + ((b : Int) - (a : Int)) = (b : Int) by omega, rc, p_xI]
    have F1 : wdS t a e = -1 → ∃ r h', (some (.inl (some (am_i 1)), (zS L, h)) : Option am_O) = pI L r h' ∧ p_fr [322, 326] [(254, 110)] h h' ∧ ((wdS t a e = -1 ∧ r = 1) ∨ (wdS t a e ≠ -1 ∧ s.1.length = 1500 ∧ r = 2) ∨ (wdS t a e ≠ -1 ∧ s.1.length ≠ 1500 ∧ r = 0 ∧ mP t (s.1 ++ [(wdS t a e, -1)], s.2) h')) := fun z => ⟨1, h, rfl, p_fr.refl h, Or.inl ⟨z, rfl⟩⟩
    have d1 : x7 = -1 ↔ p < e ∧ wix dws (lx_span t a p) 0 = -1 := by
      rw [hx7]
      by_cases z : p < e
      · rw [if_pos z]
        by_cases y : wix dws (lx_span t a p) 0 = -1
        · rw [if_pos y]; exact ⟨fun _ => ⟨z, y⟩, fun _ => rfl⟩
        · rw [if_neg y]; exact ⟨fun w => by omega, fun w => absurd w.2 y⟩
      · rw [if_neg z]; exact ⟨fun w => by omega, fun w => absurd w.1 z⟩
    have d2 : x7 ≠ -1 → x7 = 8 * (if p < e then wix dws (lx_span t a p) 0 + 1 else 0) := fun w => by
      rw [hx7] at w ⊢
      by_cases z : p < e
      · rw [if_pos z] at w ⊢
        by_cases y : wix dws (lx_span t a p) 0 = -1
        · rw [if_pos y] at w; exact absurd rfl w
        · rw [if_neg y, if_pos z]
      · rw [if_neg z, if_neg z]; rfl
    by_cases z : q < e
    · have rj := sd_wo (d := d + 1) (L := L) H wo_173 (a := q + 1) (m := e - (q + 1)) (by clear d1 d2 hx7; omega) (fun k k1 k2 => h32 k (by clear d1 d2 hx7; omega) (by clear d1 d2 hx7; omega))
      rw [show q + 1 + (e - (q + 1)) = e by clear d1 d2 hx7; omega, show ((e - (q + 1) : Nat) : Int) = (m : Int) - ((q : Int) - (a : Int)) - 1 by clear d1 d2 hx7; omega, show ((q + 1 : Nat) : Int) = (a : Int) + ((q : Int) - (a : Int)) + 1 by clear d1 d2 hx7; omega] at rj
      rw [if_pos z, if_neg (by clear d1 d2 hx7; omega), p_w (x := (a : Int) + ((q : Int) - (a : Int))) (by clear d1 d2 hx7; omega) (by clear d1 d2 hx7; omega), p_w (x := (a : Int) + ((q : Int) - (a : Int)) + 1) (by clear d1 d2 hx7; omega) (by clear d1 d2 hx7; omega), p_w (x := (m : Int) - ((q : Int) - (a : Int))) (by clear d1 d2 hx7; omega) (by clear d1 d2 hx7; omega), p_w (x := (m : Int) - ((q : Int) - (a : Int)) - 1) (by clear d1 d2 hx7; omega) (by clear d1 d2 hx7; omega), rj, p_xI, p_w (x := 1 + wix jws (lx_span t (q + 1) e) 0) (by clear d1 d2 hx7; omega) (by clear d1 d2 hx7; omega), q_17_137_11]
      by_cases y1 : x7 = -1
      · rw [if_pos y1]; exact F1 (by rw [wdE, if_pos (Or.inl (d1.1 y1))])
      rw [if_neg y1]
      by_cases y2 : cmB (lx_span t b q) = -1
      · rw [if_pos y2]
        exact F1 (by rw [wdE, if_pos y2, ite_self])
      rw [if_neg y2, if_neg (by clear d1 d2 hx7; omega), p_w (x := (m : Int) - ((q : Int) - (a : Int))) (by clear d1 d2 hx7; omega) (by clear d1 d2 hx7; omega), p_w (x := (m : Int) - ((q : Int) - (a : Int)) - 1) (by clear d1 d2 hx7; omega) (by clear d1 d2 hx7; omega)]
      by_cases y3 : wix jws (lx_span t (q + 1) e) 0 = -1
      · rw [y3, if_pos (by decide)]; exact F1 (by rw [wdE, if_pos (Or.inr (Or.inl ⟨z, y3⟩))])
      · have jp : 0 ≤ wix jws (lx_span t (q + 1) e) 0 := by
          rcases jr with w | w
          · exact absurd w y3
          · exact w.1
        have jl := jws_len _ jp
        rw [lx_span_len] at jl
        rw [if_neg (Int.not_lt.mpr (Int.le_add_of_nonneg_right jp)), if_pos (by clear d1 d2 hx7; omega)]
        refine E13 ?_ y2 (d2 y1) (by rw [if_pos z]; omega)
        rintro (w | w | w)
        · exact y1 (d1.2 w)
        · exact y3 w.2
        · exact c1 w
    · rw [if_neg z, if_pos rfl, q_17_137_11]
      by_cases y1 : x7 = -1
      · rw [if_pos y1]; exact F1 (by rw [wdE, if_pos (Or.inl (d1.1 y1))])
      rw [if_neg y1]
      by_cases y2 : cmB (lx_span t b q) = -1
      · rw [if_pos y2]
        exact F1 (by rw [wdE, if_pos y2, ite_self])
      rw [if_neg y2, if_pos rfl]
      refine E13 ?_ y2 (d2 y1) (by rw [if_neg z])
      rintro (w | w | w)
      · exact y1 (d1.2 w)
      · exact z w.1
      · exact c1 w
  by_cases z : p < e
  · have rd := sd_dest (d := d) (L := L) H (a := a) (m := p - a) (by omega) (fun k k1 k2 => h32 k (by omega) (by omega))
    rw [show a + (p - a) = p by omega, show ((p - a : Nat) : Int) = (p : Int) - (a : Int) by omega] at rd
    rw [if_pos z, if_neg (by omega), rd, p_xI]
    exact E9 (by rw [if_pos z])
  · rw [if_neg z, if_pos rfl]
    exact E9 (by rw [if_neg z])
end
