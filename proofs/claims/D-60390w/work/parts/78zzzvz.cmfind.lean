/-! CHIPS, 26: the model's inner names -/
section
variable {d L : Nat} {K V P : Nat → Int} {W : Nat → List Int} {Z : Nat} {chs : List cCh} {ch : cCh} {c : Nat} {h h' : am_H}
theorem cht_lk (E : kEx K V Z) (T : cht K V Z ch) {q : Nat × List cLk} (hq : q ∈ ch.2.2.2.1) {l : cLk} (hl : l ∈ q.2) : lkT K V l ∧ q.1 + 2 ≤ l.1 ∧ l.1 ≤ Z ∧ l.2.2.2.2 ≤ Z ∧ (l.1 < l.2.2.1 ∧ l.2.2.1 < l.2.2.2.2) ∧ (K l.2.2.1 = 2 ∨ K l.2.2.1 = 1) ∧ (0 ≤ l.2.1.2.1 ∧ l.2.1.2.1 ≤ 99 ∧ 0 ≤ l.2.1.2.2 ∧ l.2.1.2.2 ≤ 99) ∧ (0 ≤ l.2.2.2.1.2.1 ∧ l.2.2.2.1.2.1 ≤ 99 ∧ 0 ≤ l.2.2.2.1.2.2 ∧ l.2.2.2.1.2.2 ≤ 99) := by
  obtain ⟨⟨t1, t2⟩, j, t3, t4⟩ := T.2.2.2 q hq
  obtain ⟨r1, r2, r3⟩ := lksT_rg E.1 t3 t1
  obtain ⟨s1, s2, s3⟩ := r3 l hl
  have rg := lkT_rg E.1 s1 (by
    have := lkT_rg (Z := Z) E.1 s1
    obtain ⟨u1, -⟩ := s1
    rcases Nat.lt_or_ge Z l.1 with z | z
    · exfalso
      have lt : ∀ {ls : List cLk} {i : Nat}, lksT K V ls i j → i ≤ Z → ∀ x ∈ ls, x.1 ≤ Z := fun {ls} => by
        induction ls with
        | nil => intro i hh; exact False.elim hh
        | cons a ls ih =>
          intro i ⟨a1, a2, a3⟩ hi x hx
          have ra := lkT_rg E.1 a2 (by omega)
          rcases List.mem_cons.1 hx with w | w
          · subst w; omega
          · rcases a3 with ⟨b1, -⟩ | ⟨b1, b2⟩
            · subst b1; exact absurd w List.not_mem_nil
            · have := E.1.lt ra.2.2.1 (by rw [b1.1]; omega)
              exact ih b2 (by omega) x w
      have := lt t3 t1 l hl
      omega
    · exact z)
  obtain ⟨u1, q', u2, u3, u4, u5⟩ := s1
  have v1 := c_rng_v (r := l.2.1) u2 E.2.2
  refine ⟨⟨u1, q', u2, u3, u4, u5⟩, s2, by omega, by omega, ⟨by omega, by omega⟩, ?_, v1, ?_⟩
  · rcases u5 with ⟨z1, -⟩ | ⟨z1, -⟩
    · right; rw [u4]; rcases z1 with y | y <;> exact y.1
    · left; rw [u4]; exact z1
  · rcases u5 with ⟨-, z1, -⟩ | ⟨-, z1⟩
    · rw [z1]; exact ⟨by decide, by decide, by decide, by decide⟩
    · exact c_rng_v (r := l.2.2.2.1) z1 E.2.2
theorem cht_in (E : kEx K V Z) (T : cht K V Z ch) : ∀ t ∈ ch.2.2.2.2, t ≤ Z ∧ K t = 2 := fun t ht => by
  obtain ⟨k2, q, hq, l, hl, rfl⟩ := T.2.1.2.1 t ht
  have := cht_lk E T hq hl
  exact ⟨by omega, k2⟩
theorem cht_pn (T : cht K V Z ch) : ∀ p ∈ ch.2.1, p.1 ≤ Z ∧ K p.1 = 2 := fun p hp => by
  obtain ⟨a, b, -⟩ := T.2.2.1 p hp
  exact ⟨by omega, b⟩
/-- widths of inner names in the model -/
def gM (chs : List cCh) (c : Nat) (ch : cCh) (X : Nat → Int) (h : am_H) : Prop := ∀ j, j < ch.2.2.2.2.length → h 347 (oI chs c + j) = X j
/-- what findInner changes -/
def fiF (chs : List cCh) (c : Nat) (h h' : am_H) : Prop := p_fr [347, 348, 349] [] h h' ∧ (∀ a, (a < oI chs c ∨ oI chs (c + 1) ≤ a) → h' 347 a = h 347 a ∧ h' 348 a = h 348 a) ∧ ∀ a, (a < oT chs c ∨ oT chs (c + 1) ≤ a) → h' 349 a = h 349 a
theorem fiF.refl (chs : List cCh) (c : Nat) (h : am_H) : fiF chs c h h := ⟨p_fr.refl h, fun _ _ => ⟨rfl, rfl⟩, fun _ _ => rfl⟩
theorem fiF.trans {h1 h2 h3 : am_H} (a : fiF chs c h1 h2) (b : fiF chs c h2 h3) : fiF chs c h1 h3 := ⟨a.1.trans b.1, fun x hx => ⟨(b.2.1 x hx).1.trans (a.2.1 x hx).1, (b.2.1 x hx).2.trans (a.2.1 x hx).2⟩, fun x hx => (b.2.2 x hx).trans (a.2.2 x hx)⟩
theorem fiF.up7 {g : am_H} (a : fiF chs c h g) {k : Nat} {v : Int} {x : Nat} (hx : x = 347 ∨ x = 348) (hk : oI chs c ≤ k ∧ k < oI chs (c + 1)) : fiF chs c h (am_up g x k v) := by
  refine ⟨?_, fun y hy => ?_, fun y hy => ?_⟩
  · rcases hx with rfl | rfl <;> exact a.1.upc _ _ _ rfl
  · rw [p_up_n _ _ _ _ _ _ (Or.inr (by omega)), p_up_n _ _ _ _ _ _ (Or.inr (by omega))]; exact a.2.1 y hy
  · rw [p_up_c _ _ _ _ _ (by omega)]; exact a.2.2 y hy
theorem fiF.q {Q : am_H} (a : fiF chs c h h') : p_fr nfC ntF h h' := a.1.mono rfl rfl
theorem mn_zero (hc : chs[c]? = some ch) (u3 u4 u5 u6 : Option am_V) : ∀ (m j : Nat) {h : am_H}, mQ K V P W Z chs h → j + m = ch.2.2.2.2.length → (∀ a, a < j → h 347 (oI chs c + a) = 0 ∧ h 348 (oI chs c + a) = 0) → ∃ h', am_E (am_D d) m_17_165 (.inl 1) [some (am_r (am_a 254)), some (am_i (c : Int)), some (am_i ((oI chs c + j : Nat) : Int)), u3, u4, u5, u6] [] (zS L, h) = am_E (am_D d) m_17_165 (.inl 3) [some (am_r (am_a 254)), some (am_i (c : Int)), some (am_i (oT chs c : Int)), u3, u4, u5, u6] [] (zS L, h') ∧ (∀ a, a < ch.2.2.2.2.length → h' 347 (oI chs c + a) = 0 ∧ h' 348 (oI chs c + a) = 0) ∧ fiF chs c h h'
  | 0, j, h, Q, hm, H => by
    have l16 := Q.2.1.2
    have hcl := (List.getElem?_eq_some_iff.1 hc).1
    have on := oI_n hc
    rw [q_17_165_1, p_w (by omega) (by omega), p_idx (by omega) (by omega), show ((c : Int) + 1).toNat = c + 1 by omega, (Q.2.2.2.2.1 (c + 1) (by omega)).2.2, if_neg (by omega), p_idx (by omega) (by omega), Int.toNat_natCast, (Q.2.2.2.2.1 c (by omega)).2.1]
    exact ⟨h, rfl, fun a ha => H a (by omega), fiF.refl _ _ _⟩
  | m + 1, j, h, Q, hm, H => by
    have l16 := Q.2.1.2
    have hcl := (List.getElem?_eq_some_iff.1 hc).1
    have on := oI_n hc
    have tk : oI chs (c + 1) ≤ (aI chs).length := flat_le _ chs (c + 1)
    have := Q.2.2.1.2.2.2
    rw [q_17_165_1, p_w (x := (c : Int) + 1) (by omega) (by omega), p_idx (by omega) (by omega), show ((c : Int) + 1).toNat = c + 1 by omega, (Q.2.2.2.2.1 (c + 1) (by omega)).2.2, if_pos (by omega), p_idx (by omega) (by omega), p_bit0, p_idx (by omega) (by omega), Int.toNat_natCast, p_w (by omega) (by omega), show ((oI chs c + j : Nat) : Int) + 1 = ((oI chs c + (j + 1) : Nat) : Int) by omega]
    have f1 : fiF chs c h (am_up (am_up h 347 (oI chs c + j) 0) 348 (oI chs c + j) 0) := ((fiF.refl chs c h).up7 (Or.inl rfl) (by omega)).up7 (Or.inr rfl) (by omega)
    obtain ⟨h1, r1, H1, f2⟩ := mn_zero hc u3 u4 u5 u6 m (j + 1) (h := am_up (am_up h 347 (oI chs c + j) 0) 348 (oI chs c + j) 0) (Q.fr (f1.q (Q := h))) (by omega) (fun a ha => by
      by_cases ea : a = j
      · rw [ea]; exact ⟨by rw [p_up_c _ _ _ _ _ (by decide), p_up_s], by rw [p_up_s]⟩
      · rw [p_up_c _ _ _ _ 347 (by decide), p_up_n _ _ _ _ _ _ (Or.inr (by omega)), p_up_n _ _ _ _ _ _ (Or.inr (by omega)), p_up_c _ _ _ _ _ (by decide)]
        exact H a (by omega))
    exact ⟨h1, r1, H1, f1.trans f2⟩
/-- a link -/
theorem mn_gv1 (E : kEx K V Z) (G : mWd K V W Z) (T : ∀ ch ∈ chs, cht K V Z ch) (Q : mQ K V P W Z chs h) (hc : chs[c]? = some ch) {i : Nat} {q : Nat × List cLk} (hi : ch.2.2.2.1[i]? = some q) {j : Nat} {l : cLk} (hj : q.2[j]? = some l) {k : Nat} (hk : k < 2 + chs.length) (hk9 : h 349 (oT chs c + i) = (k : Int)) {X : Nat → Int} (H : gM chs c ch X h) (u4 u5 u6 : Option am_V) : ∃ h' w4 w5 w6, am_E (am_D (d + 3)) m_17_165 (.inl 4) [some (am_r (am_a 254)), some (am_i (c : Int)), some (am_i ((oT chs c + i : Nat) : Int)), some (am_i ((oLx chs (oT chs c + i) + j : Nat) : Int)), u4, u5, u6] [] (zS L, h) = am_E (am_D (d + 3)) m_17_165 (.inl 4) [some (am_r (am_a 254)), some (am_i (c : Int)), some (am_i ((oT chs c + i : Nat) : Int)), some (am_i ((oLx chs (oT chs c + i) + (j + 1) : Nat) : Int)), w4, w5, w6] [] (zS L, h') ∧ gM chs c ch (gv1 K V chs k ch l X) h' ∧ fiF chs c h h' ∧ h' 348 = h 348 ∧ h' 349 = h 349 := by
  have l16 := Q.2.1.2
  have z2 := Q.1.1.1
  have hcl := (List.getElem?_eq_some_iff.1 hc).1
  have hcm := List.mem_of_getElem? hc
  have Tc := T ch hcm
  have hqm := List.mem_of_getElem? hi
  have hlm := List.mem_of_getElem? hj
  obtain ⟨t0, t1, t2, t3, t4, t5, t6, t7⟩ := cht_lk E Tc hqm hlm
  have qa := aT_at hc hi
  have ql := (List.getElem?_eq_some_iff.1 qa).1
  have ln := oL_n qa
  have jl := (List.getElem?_eq_some_iff.1 hj).1
  obtain ⟨b1, b2, b3, b4⟩ := Q.2.2.1
  have bl : oLx chs (oT chs c + i + 1) ≤ (fll (aT chs)).length := by
    unfold oLx fll
    have : (aT chs).flatMap (·.2) = ((aT chs).take (oT chs c + i + 1)).flatMap (·.2) ++ ((aT chs).drop (oT chs c + i + 1)).flatMap (·.2) := by rw [← List.flatMap_append, List.take_append_drop]
    rw [this, List.length_append]; exact Nat.le_add_right _ _
  obtain ⟨⟨l1, l2, l3, l4⟩, l5, l6, l7⟩ := (Q.2.2.2.2.2.2.2.1 _ q qa).2 j l hj
  have pk : K l.1 = 2 := t0.1
  have lr := ffnd_rg (kNm V chs k) (V l.1) 0
  have lp : lpn V chs k l = ffnd (V l.1) (kNm V chs k) 0 := rfl
  have inz := cht_in E Tc
  have re : rin V ch l = ffnd (V l.2.2.1) (cIn V ch) 0 := rfl
  have ir := ffnd_rg (cIn V ch) (V l.2.2.1) 0
  have il : (cIn V ch).length = ch.2.2.2.2.length := by unfold cIn; rw [List.length_map]
  rw [← re, il] at ir
  rw [← lp] at lr
  have on := oI_n hc
  have tk : oI chs (c + 1) ≤ (aI chs).length := flat_le _ chs (c + 1)
  have pin := mn_pinOf (d := d) (L := L) Q G (fun ch hch => cht_pn (T ch hch)) hk (t := l.1) t2 pk
  rw [← lp] at pin
  rw [q_17_165_4, p_w (x := ((oT chs c + i : Nat) : Int) + 1) (by omega) (by omega), p_idx (by omega) (by omega), show (((oT chs c + i : Nat) : Int) + 1).toNat = oT chs c + i + 1 by omega, Q.2.2.2.2.2.2.1 (oT chs c + i + 1) (by omega), ln, if_pos (by omega), p_idx (by omega) (by omega), Int.toNat_natCast, hk9, if_neg (by omega), p_idx (by omega) (by omega), p_idx (by omega) (by omega), Int.toNat_natCast, Int.toNat_natCast, hk9, l1, pin, p_xI, p_idx (by omega) (by omega), Int.toNat_natCast, l5, p_idx (by omega) (by omega), Int.toNat_natCast, (Q.1.2.1 l.2.2.1 (by omega)).1]
  have kk := kmp_i (Q.1.2.1 l.2.2.1 (by omega)).2.2.2.2
  -- nothing is found
  have skip : ∀ (x4 s0 : Int) (u5 u6 : Option am_V), (x4 = -1 ∨ s0 = -1) → am_E (am_D (d + 3)) m_17_165 (.inl 7) [some (am_r (am_a 254)), some (am_i (c : Int)), some (am_i ((oT chs c + i : Nat) : Int)), some (am_i ((oLx chs (oT chs c + i) + j : Nat) : Int)), some (am_i x4), u5, u6] [am_i s0] (zS L, h) = am_E (am_D (d + 3)) m_17_165 (.inl 4) [some (am_r (am_a 254)), some (am_i (c : Int)), some (am_i ((oT chs c + i : Nat) : Int)), some (am_i ((oLx chs (oT chs c + i) + (j + 1) : Nat) : Int)), some (am_i x4), some (am_i s0), u6] [] (zS L, h) := by
    intro x4 s0 u5 u6 hx
    rw [q_17_165_7, p_w (x := ((oLx chs (oT chs c + i) + j : Nat) : Int) + 1) (by omega) (by omega), show ((oLx chs (oT chs c + i) + j : Nat) : Int) + 1 = ((oLx chs (oT chs c + i) + (j + 1) : Nat) : Int) by omega]
    by_cases y : x4 = -1
    · rw [if_pos y]
    · rw [if_neg y, if_pos (by omega)]
  unfold gv1
  by_cases kr : K l.2.2.1 = 2
  · rw [if_pos (kk.2.1.2 kr), q_17_165_5, p_idx (by omega) (by omega), Int.toNat_natCast, l5, mn_inn (d := d + 1) Q hc inz (by omega) kr, p_xI, ← re]
    by_cases y1 : lpn V chs k l = -1
    · rw [if_pos y1, if_pos (Or.inl (by omega)), skip _ _ _ _ (Or.inl rfl)]
      exact ⟨h, _, _, _, rfl, H, fiF.refl _ _ _, rfl, rfl⟩
    rw [if_neg y1]
    by_cases y2 : rin V ch l = -1
    · rw [if_pos y2, if_pos (Or.inr (Or.inr (Or.inl y2))), skip _ _ _ _ (Or.inr rfl)]
      exact ⟨h, _, _, _, rfl, H, fiF.refl _ _ _, rfl, rfl⟩
    have p0 : 0 ≤ lpn V chs k l ∧ lpn V chs k l < ((kNm V chs k).length : Int) := by omega
    have g1 := gp_rg Q hk p0.1 p0.2
    have ij : (rin V ch l).toNat < ch.2.2.2.2.length := by omega
    have ie : (oI chs c : Int) + rin V ch l = ((oI chs c + (rin V ch l).toNat : Nat) : Int) := by omega
    rw [if_neg y2, q_17_165_7, if_neg (by omega), if_neg (by omega), p_idx (by omega) (by omega), Int.toNat_natCast, hk9, mn_isOut (d := d + 2) Q hk p0.1 p0.2, p_xI, p_w (x := ((oLx chs (oT chs c + i) + j : Nat) : Int) + 1) (by omega) (by omega), show ((oLx chs (oT chs c + i) + j : Nat) : Int) + 1 = ((oLx chs (oT chs c + i) + (j + 1) : Nat) : Int) by omega]
    by_cases y3 : lpn V chs k l < kIp chs k
    · rw [if_pos (Or.inl y3), pB_f (by omega), if_pos rfl]
      exact ⟨h, _, _, _, rfl, H, fiF.refl _ _ _, rfl, rfl⟩
    rw [pB_t (by omega), if_neg (show ¬ (1 : Int) = 0 by decide), ie, p_idx (by omega) (by omega), Int.toNat_natCast, H _ ij]
    by_cases y4 : X (rin V ch l).toNat = 0
    · have wr := lwd_rg (V := V) (chs := chs) k l
      have we : (kWd V chs k).getD (lpn V chs k l).toNat 1 = lwd V chs k l := rfl
      rw [if_pos y4, if_neg (show ¬ (lpn V chs k l < kIp chs k ∨ K l.2.2.1 ≠ 2 ∨ rin V ch l = -1 ∨ X (rin V ch l).toNat ≠ 0) by rintro (z | z | z | z); exact y3 z; exact z kr; exact y2 z; exact z y4), p_idx (by omega) (by omega), Int.toNat_natCast, hk9, mn_width (d := d + 2) Q hk p0.1 p0.2, p_xI, we, p_idx (by omega) (by omega), p_idx (by omega) (by omega), p_idx (by omega) (by omega), Int.toNat_natCast, l2, l3, l4, mn_fits (d := d + 2) (r := l.2.1) (w := lwd V chs k l) wr.1 (fun _ => ⟨rfl, rfl⟩), p_xI]
      have fin : ∀ w : Int, gM chs c ch (p_set X (rin V ch l).toNat w) (am_up h 347 (oI chs c + (rin V ch l).toNat) w) := fun w a ha => by
        unfold p_set
        by_cases ea : a = (rin V ch l).toNat
        · rw [ea, if_pos rfl, p_up_s]
        · rw [if_neg ea, p_up_n _ _ _ _ _ _ (Or.inr (by omega))]; exact H a ha
      have ff : ∀ w : Int, fiF chs c h (am_up h 347 (oI chs c + (rin V ch l).toNat) w) := fun w => (fiF.refl _ _ _).up7 (Or.inl rfl) (by omega)
      by_cases y5 : rok l.2.1 (lwd V chs k l)
      · rw [pB_t y5, if_neg (show ¬ (1 : Int) = 0 by decide), if_pos y5, p_idx (by omega) (by omega), p_idx (by omega) (by omega), p_idx (by omega) (by omega), Int.toNat_natCast, l2, l3, l4, mn_bits (d := d + 2) (r := l.2.1) (w := lwd V chs k l) (fun _ => ⟨rfl, rfl⟩) t6, p_xI, p_idx (by omega) (by omega), Int.toNat_natCast]
        exact ⟨_, _, _, _, rfl, fin _, ff _, p_up_c _ _ _ _ _ (by decide), p_up_c _ _ _ _ _ (by decide)⟩
      · rw [pB_f y5, if_pos rfl, if_neg y5, p_idx (by omega) (by omega), Int.toNat_natCast]
        exact ⟨_, _, _, _, rfl, fin _, ff _, p_up_c _ _ _ _ _ (by decide), p_up_c _ _ _ _ _ (by decide)⟩
    · rw [if_neg y4, if_pos (Or.inr (Or.inr (Or.inr y4)))]
      exact ⟨h, _, _, _, rfl, H, fiF.refl _ _ _, rfl, rfl⟩
  · rw [if_neg (fun z => kr (kk.2.1.1 z)), if_pos (Or.inr (Or.inl kr)), skip _ _ _ _ (Or.inr rfl)]
    exact ⟨h, _, _, _, rfl, H, fiF.refl _ _ _, rfl, rfl⟩
/-- the links of a part -/
theorem mn_gvl (E : kEx K V Z) (G : mWd K V W Z) (T : ∀ ch ∈ chs, cht K V Z ch) (hc : chs[c]? = some ch) {i : Nat} {q : Nat × List cLk} (hi : ch.2.2.2.1[i]? = some q) {k : Nat} (hk : k < 2 + chs.length) : ∀ (m j : Nat) {X : Nat → Int} {h : am_H} (u4 u5 u6 : Option am_V), j + m = q.2.length → mQ K V P W Z chs h → h 349 (oT chs c + i) = (k : Int) → gM chs c ch X h → ∃ h' w3 w4 w5 w6, am_E (am_D (d + 3)) m_17_165 (.inl 4) [some (am_r (am_a 254)), some (am_i (c : Int)), some (am_i ((oT chs c + i : Nat) : Int)), some (am_i ((oLx chs (oT chs c + i) + j : Nat) : Int)), u4, u5, u6] [] (zS L, h) = am_E (am_D (d + 3)) m_17_165 (.inl 3) [some (am_r (am_a 254)), some (am_i (c : Int)), some (am_i ((oT chs c + (i + 1) : Nat) : Int)), w3, w4, w5, w6] [] (zS L, h') ∧ gM chs c ch (gvl K V chs k ch (q.2.drop j) X) h' ∧ fiF chs c h h' ∧ h' 348 = h 348 ∧ h' 349 = h 349
  | 0, j, X, h, u4, u5, u6, hm, Q, h9, H => by
    have qa := aT_at hc hi
    have ql := (List.getElem?_eq_some_iff.1 qa).1
    have ln := oL_n qa
    obtain ⟨b1, b2, b3, b4⟩ := Q.2.2.1
    rw [q_17_165_4, p_w (x := ((oT chs c + i : Nat) : Int) + 1) (by omega) (by omega), p_idx (by omega) (by omega), show (((oT chs c + i : Nat) : Int) + 1).toNat = oT chs c + i + 1 by omega, Q.2.2.2.2.2.2.1 (oT chs c + i + 1) (by omega), ln, if_neg (by omega), List.drop_eq_nil_of_le (by omega), show ((oT chs c + i : Nat) : Int) + 1 = ((oT chs c + (i + 1) : Nat) : Int) by omega]
    exact ⟨h, _, _, _, _, rfl, H, fiF.refl _ _ _, rfl, rfl⟩
  | m + 1, j, X, h, u4, u5, u6, hm, Q, h9, H => by
    have hj : j < q.2.length := by omega
    obtain ⟨h1, w4, w5, w6, r1, H1, f1, e8, e9⟩ := mn_gv1 (d := d) (L := L) E G T Q hc hi (List.getElem?_eq_getElem hj) hk h9 H u4 u5 u6
    rw [r1]
    obtain ⟨h2, w3, w4, w5, w6, r2, H2, f2, e8', e9'⟩ := mn_gvl E G T hc hi hk m (j + 1) w4 w5 w6 (by omega) (Q.fr (f1.q (Q := h))) (by rw [e9]; exact h9) H1
    rw [r2, List.drop_eq_getElem_cons hj]
    exact ⟨h2, _, _, _, _, rfl, H2, f1.trans f2, e8'.trans e8, e9'.trans e9⟩
/-- the parts -/
theorem mn_gvs (E : kEx K V Z) (G : mWd K V W Z) (T : ∀ ch ∈ chs, cht K V Z ch) (hc : chs[c]? = some ch) : ∀ (m i : Nat) {X : Nat → Int} {h : am_H} (u3 u4 u5 u6 : Option am_V), i + m = ch.2.2.2.1.length → mQ K V P W Z chs h → gM chs c ch X h → (∀ a q, a < i → ch.2.2.2.1[a]? = some q → h 349 (oT chs c + a) = kInt (kOf V chs (V q.1))) → ∃ h', am_E (am_D (d + 3)) m_17_165 (.inl 3) [some (am_r (am_a 254)), some (am_i (c : Int)), some (am_i ((oT chs c + i : Nat) : Int)), u3, u4, u5, u6] [] (zS L, h) = pV L h' ∧ gM chs c ch (gvs K V chs ch (ch.2.2.2.1.drop i) X) h' ∧ fiF chs c h h' ∧ h' 348 = h 348 ∧ ∀ a q, ch.2.2.2.1[a]? = some q → h' 349 (oT chs c + a) = kInt (kOf V chs (V q.1))
  | 0, i, X, h, u3, u4, u5, u6, hm, Q, H, H9 => by
    have l16 := Q.2.1.2
    have hcl := (List.getElem?_eq_some_iff.1 hc).1
    have on := oT_n hc
    rw [q_17_165_3, p_w (by omega) (by omega), p_idx (by omega) (by omega), show ((c : Int) + 1).toNat = c + 1 by omega, (Q.2.2.2.2.1 (c + 1) (by omega)).2.1, on, if_neg (by omega), List.drop_eq_nil_of_le (by omega)]
    exact ⟨h, rfl, H, fiF.refl _ _ _, rfl, fun a q ha => H9 a q (by have := (List.getElem?_eq_some_iff.1 ha).1; omega) ha⟩
  | m + 1, i, X, h, u3, u4, u5, u6, hm, Q, H, H9 => by
    have l16 := Q.2.1.2
    have hcl := (List.getElem?_eq_some_iff.1 hc).1
    have hcm := List.mem_of_getElem? hc
    have on := oT_n hc
    have hil : i < ch.2.2.2.1.length := by omega
    obtain ⟨q, hqe⟩ : ∃ q, q = ch.2.2.2.1[i] := ⟨_, rfl⟩
    have hi : ch.2.2.2.1[i]? = some q := by rw [hqe]; exact List.getElem?_eq_getElem hil
    have qa := aT_at hc hi
    have ql := (List.getElem?_eq_some_iff.1 qa).1
    have ln := oL_n qa
    obtain ⟨b1, b2, b3, b4⟩ := Q.2.2.1
    obtain ⟨⟨t1, t2⟩, -⟩ := (T ch hcm).2.2.2 q (List.mem_of_getElem? hi)
    have hk1 : ∀ ch ∈ chs, ch.1 ≤ Z ∧ K ch.1 = 2 := fun ch hch => ⟨by have := (T ch hch).1.2; omega, (T ch hch).1.1⟩
    rw [q_17_165_3, p_w (x := (c : Int) + 1) (by omega) (by omega), p_idx (by omega) (by omega), show ((c : Int) + 1).toNat = c + 1 by omega, (Q.2.2.2.2.1 (c + 1) (by omega)).2.1, on, if_pos (by omega), p_idx (by omega) (by omega), Int.toNat_natCast, (Q.2.2.2.2.2.2.2.1 _ q qa).1, mn_chipOf (d := d) Q G hk1 (by omega) t2, p_xI, p_idx (by omega) (by omega), p_idx (by omega) (by omega), Int.toNat_natCast, Q.2.2.2.2.2.2.1 _ (by omega)]
    obtain ⟨h1, e1⟩ : ∃ h1, h1 = am_up h 349 (oT chs c + i) (kInt (kOf V chs (V q.1))) := ⟨_, rfl⟩
    rw [← e1]
    have f1 : fiF chs c h h1 := by
      rw [e1]
      refine ⟨(p_fr.refl h).upc _ _ _ rfl, fun a _ => ⟨by rw [p_up_c _ _ _ _ _ (by decide)], by rw [p_up_c _ _ _ _ _ (by decide)]⟩, fun a ha => by rw [p_up_n _ _ _ _ _ _ (Or.inr (by omega))]⟩
    have Q1 := Q.fr (f1.q (Q := h))
    have H1 : gM chs c ch X h1 := fun a ha => by rw [e1, p_up_c _ _ _ _ _ (by decide)]; exact H a ha
    have e18 : h1 348 = h 348 := by rw [e1, p_up_c _ _ _ _ _ (by decide)]
    have v9 : h1 349 (oT chs c + i) = kInt (kOf V chs (V q.1)) := by rw [e1, p_up_s]
    have H19 : ∀ a q, a < i + 1 → ch.2.2.2.1[a]? = some q → h1 349 (oT chs c + a) = kInt (kOf V chs (V q.1)) := fun a q' ha hq' => by
      by_cases ea : a = i
      · subst ea
        rw [hi] at hq'; cases hq'
        exact v9
      · rw [e1, p_up_n _ _ _ _ _ _ (Or.inr (by omega))]; exact H9 a q' (by omega) hq'
    rw [List.drop_eq_getElem_cons hil, ← hqe]
    unfold gvs gvp
    cases hk : kOf V chs (V q.1) with
    | none =>
      rw [hk] at v9
      have skp : ∃ w3, am_E (am_D (d + 3)) m_17_165 (.inl 4) [some (am_r (am_a 254)), some (am_i (c : Int)), some (am_i ((oT chs c + i : Nat) : Int)), some (am_i (oLx chs (oT chs c + i) : Int)), u4, u5, u6] [] (zS L, h1) = am_E (am_D (d + 3)) m_17_165 (.inl 3) [some (am_r (am_a 254)), some (am_i (c : Int)), some (am_i ((oT chs c + (i + 1) : Nat) : Int)), w3, u4, u5, u6] [] (zS L, h1) := by
        refine ⟨some (am_i (oLx chs (oT chs c + i) : Int)), ?_⟩
        rw [q_17_165_4, p_w (x := ((oT chs c + i : Nat) : Int) + 1) (by omega) (by omega), p_idx (by omega) (by omega), show (((oT chs c + i : Nat) : Int) + 1).toNat = oT chs c + i + 1 by omega, Q1.2.2.2.2.2.2.1 (oT chs c + i + 1) (by omega), show ((oT chs c + i : Nat) : Int) + 1 = ((oT chs c + (i + 1) : Nat) : Int) by omega]
        by_cases y : (oLx chs (oT chs c + i) : Int) < (oLx chs (oT chs c + i + 1) : Int)
        · rw [if_pos y, p_idx (by omega) (by omega), Int.toNat_natCast, v9, if_pos (show kInt none = -1 from rfl)]
        · rw [if_neg y]
      obtain ⟨w3, r1⟩ := skp
      rw [r1]
      obtain ⟨h2, r2, H2, f2, e8, H29⟩ := mn_gvs E G T hc m (i + 1) w3 u4 u5 u6 (by omega) Q1 H1 H19
      exact ⟨h2, r2, H2, f1.trans f2, e8.trans e18, H29⟩
    | some k =>
      rw [hk] at v9
      obtain ⟨h2, w3, w4, w5, w6, r1, H2, f2, e8, e9⟩ := mn_gvl (d := d) (L := L) E G T hc hi (kOf_rg hk) q.2.length 0 u4 u5 u6 (by omega) Q1 v9 H1
      rw [show oLx chs (oT chs c + i) + 0 = oLx chs (oT chs c + i) from rfl] at r1
      rw [r1]
      rw [List.drop_zero] at H2
      obtain ⟨h3, r3, H3, f3, e8', H39⟩ := mn_gvs E G T hc m (i + 1) w3 w4 w5 w6 (by omega) (Q1.fr (f2.q (Q := h))) H2 (fun a q' ha hq' => by rw [e9]; exact H19 a q' ha hq')
      exact ⟨h3, r3, H3, (f1.trans f2).trans f3, (e8'.trans e8).trans e18, H39⟩
/-- findInner -/
theorem mn_find (E : kEx K V Z) (G : mWd K V W Z) (T : ∀ ch ∈ chs, cht K V Z ch) (Q : mQ K V P W Z chs h) (hc : chs[c]? = some ch) : ∃ h', am_D (d + 4) 17 165 [am_r (am_a 254), am_i (c : Int)] (zS L, h) = pV L h' ∧ gM chs c ch (cIW K V chs ch) h' ∧ (∀ j, j < ch.2.2.2.2.length → h' 348 (oI chs c + j) = 0) ∧ (∀ a q, ch.2.2.2.1[a]? = some q → h' 349 (oT chs c + a) = kInt (kOf V chs (V q.1))) ∧ fiF chs c h h' := by
  have l16 := Q.2.1.2
  have hcl := (List.getElem?_eq_some_iff.1 hc).1
  obtain ⟨h1, r1, H1, f1⟩ := mn_zero (d := d + 3) (L := L) hc none none none none ch.2.2.2.2.length 0 Q (by omega) (fun a ha => by omega)
  rw [show oI chs c + 0 = oI chs c from rfl] at r1
  rw [D_17_165, p_idx (by omega) (by omega), Int.toNat_natCast, (Q.2.2.2.2.1 c (by omega)).2.2, r1]
  obtain ⟨h2, r2, H2, f2, e8, H29⟩ := mn_gvs (d := d) (L := L) E G T hc ch.2.2.2.1.length 0 (X := fun _ => 0) none none none none (by omega) (Q.fr (f1.q (Q := h))) (fun j hj => (H1 j hj).1) (fun a q ha => by omega)
  rw [show oT chs c + 0 = oT chs c from rfl] at r2
  rw [List.drop_zero] at H2
  exact ⟨h2, r2, H2, fun j hj => by rw [e8]; exact (H1 j hj).2, H29, f1.trans f2⟩
end
