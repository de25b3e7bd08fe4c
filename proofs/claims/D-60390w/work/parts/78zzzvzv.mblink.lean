/-! CHIPS, 48: the board: the model connects -/
section
variable {d L : Nat} {K V P : Nat → Int} {W : Nat → List Int} {Z c k : Nat} {chs : List cCh} {ch : cCh} {h h' : am_H}
theorem fr355 (f : p_fr [355] [] h h') : p_fr mbC mbF h h' := f.mono rfl rfl
theorem mb_12 (Q : mQ K V P W Z chs h) (hk : k < 2 + chs.length) {p : Int} (p0 : 0 ≤ p) (p1 : p < ((kNm V chs k).length : Int)) {x9 x11 x12 : Int} {r a n : Nat} {f : Nat → Int} (hr : r ≤ Z ∧ (x11 ≠ 0 → K r = 1)) (ha : a + n ≤ 40000) (hn100 : n ≤ 100) (hx : p < kIp chs k ∧ x9 = (a : Int) ∧ (x11 = 0 ∧ (0 ≤ x12 ∧ x12 ≤ 40000) ∧ (∀ i : Nat, f i = x12 + (i : Int)) ∨ x11 ≠ 0 ∧ ∀ i : Nat, f i = if V r = 4 then -2 else -1) ∨ ¬ p < kIp chs k ∧ x12 = (a : Int) ∧ (0 ≤ x9 ∧ x9 ≤ 40000) ∧ ∀ i : Nat, f i = x9 + (i : Int)) (u1 u2 u4 u5 u7 : Option am_V) : ∀ (m i : Nat) {h1 : am_H}, i + m = n → h1 355 = fill (h 355) a i f → p_fr [355] [] h h1 → ∃ h', am_E (am_D (d + 1)) m_17_175 (.inl 12) [some (am_r (am_a 254)), u1, u2, some (am_i (k : Int)), u4, u5, some (am_i (cgp chs k p)), u7, some (am_i (n : Int)), some (am_i x9), some (am_i (r : Int)), some (am_i x11), some (am_i x12), some (am_i (i : Int))] [] (zS L, h1) = pV L h' ∧ h' 355 = fill (h 355) a n f ∧ p_fr [355] [] h h'
  | 0, i, h1, hm, e, fr => by
    rw [q_17_175_12, if_neg (by omega)]
    exact ⟨h1, rfl, by rw [show n = i by omega]; exact e, fr⟩
  | m + 1, i, h1, hm, e, fr => by
    have z2 := Q.1.1.1
    have Q1 := Q.b (fr355 fr)
    have nx : ∀ v : Int, v = f i → ∃ h', am_E (am_D (d + 1)) m_17_175 (.inl 12) [some (am_r (am_a 254)), u1, u2, some (am_i (k : Int)), u4, u5, some (am_i (cgp chs k p)), u7, some (am_i (n : Int)), some (am_i x9), some (am_i (r : Int)), some (am_i x11), some (am_i x12), some (am_i (am_w ((i : Int) + 1)))] [] (zS L, am_up h1 355 (a + i) v) = pV L h' ∧ h' 355 = fill (h 355) a n f ∧ p_fr [355] [] h h' := fun v hv => by
      rw [p_w (by omega) (by omega)]
      exact mb_12 Q hk p0 p1 hr ha hn100 hx u1 u2 u4 u5 u7 m (i + 1) (h1 := am_up h1 355 (a + i) v) (by omega) (by rw [p_up_f, e, hv]; exact fill_s (h 355) a i f) (fr.upc _ _ _ rfl)
    rw [q_17_175_12, if_pos (by omega), mn_isOut (d := d) Q1 hk p0 p1, p_xI]
    rcases hx with ⟨y1, y2, y3 | y3⟩ | ⟨y1, y2, y3, y4⟩
    · rw [pB_f (by omega), if_pos rfl, if_pos y3.1, y2, p_w (x := (a : Int) + (i : Int)) (by omega) (by omega), p_idx (by omega) (by omega), show ((a : Int) + (i : Int)).toNat = a + i by omega, p_w (x := x12 + (i : Int)) (by omega) (by omega)]
      rw [y2] at nx
      exact nx _ (y3.2.2 i).symm
    · have kr := hr.2 y3.1
      have tv : h1 260 r = V r := (Q1.1.2.1 r hr.1).2.2.1 (Or.inl kr)
      rw [pB_f (by omega), if_pos rfl, if_neg y3.1, D_17_176, p_idx (by omega) (by omega), Int.toNat_natCast, tv]
      rw [y2] at nx
      by_cases v4 : V r = 4
      · rw [if_pos v4, p_xI, y2, p_w (x := (a : Int) + (i : Int)) (by omega) (by omega), p_idx (by omega) (by omega), show ((a : Int) + (i : Int)).toNat = a + i by omega]
        exact nx _ (by rw [y3.2 i, if_pos v4])
      · rw [if_neg v4, p_xI, y2, p_w (x := (a : Int) + (i : Int)) (by omega) (by omega), p_idx (by omega) (by omega), show ((a : Int) + (i : Int)).toNat = a + i by omega]
        exact nx _ (by rw [y3.2 i, if_neg v4])
    · rw [pB_t (by omega), if_neg (by decide), y2, p_w (x := (a : Int) + (i : Int)) (by omega) (by omega), p_idx (by omega) (by omega), show ((a : Int) + (i : Int)).toNat = a + i by omega, p_w (x := x9 + (i : Int)) (by omega) (by omega)]
      rw [y2] at nx
      exact nx _ (y4 i).symm
/-- a link -/
theorem mb_lnk (E : kEx K V Z) (G : mWd K V W Z) (T : ∀ ch ∈ chs, cht K V Z ch) (Y : kY K V Z chs) (Q : mQ K V P W Z chs h) (hc : chs[c]? = some ch) (hI : gM chs c ch (cIW K V chs ch) h) {q : Nat × List cLk} (hq : q ∈ ch.2.2.2.1) {l : cLk} (hl : l ∈ q.2) (hk : k < 2 + chs.length) (H : lkP K V chs k ch l) {gl pb ob : Nat} (hg : gl < 700) (hf : fRl l gl h) (hpb : pb + pbt V chs k ≤ 40000) (hob : ob + ownx K V chs ch ≤ 40000) (hin : ch.2.2.1 ≤ ch.2.1.length) : ∃ h', am_D (d + 5) 17 175 [am_r (am_a 254), am_i (c : Int), am_i (ob : Int), am_i (k : Int), am_i (pb : Int), am_i (gl : Int)] (zS L, h) = pV L h' ∧ h' 355 = lnk K V chs (-1) (-2) pb ob k ch l (h 355) ∧ p_fr [355] [] h h' := by
  have l16 := Q.2.1.2
  have z2 := Q.1.1.1
  have hcl := (List.getElem?_eq_some_iff.1 hc).1
  have hcm := List.mem_of_getElem? hc
  have Tc := T ch hcm
  obtain ⟨t0, t1, t2, t3, t4, t5, t6, t7⟩ := cht_lk E Tc hq hl
  obtain ⟨⟨l1, l2, l3, l4⟩, l5, l6, l7⟩ := hf
  have yl := Y.2.2.2.1 ch hcm
  obtain ⟨L1, L2, L3, L4, L5, L6, L7, L8⟩ := lof_rg H t6.1
  have H' := H
  obtain ⟨⟨p0, p1⟩, rk1, Hr⟩ := H'
  have lp : lpn V chs k l = ffnd (V l.1) (kNm V chs k) 0 := rfl
  have wr := lwd_rg (V := V) (chs := chs) k l
  have we : (kWd V chs k).getD (lpn V chs k l).toNat 1 = lwd V chs k l := rfl
  have pin := mn_pinOf (d := d + 1) (L := L) Q G (fun ch hch => cht_pn (T ch hch)) hk (t := l.1) t2 t0.1
  rw [← lp, if_neg (show ¬ lpn V chs k l = -1 by omega)] at pin
  have lofe : lof V chs k l = wfl (kWd V chs k) (lpn V chs k l).toNat + (rlo l.2.1).toNat := rfl
  have cv := rlo_rg (r := l.2.1) (w := lwd V chs k l) t6 wr
  have ipn := oP_n hc
  have iin := oI_n hc
  have itk : oI chs (c + 1) ≤ (aI chs).length := flat_le _ chs (c + 1)
  have ptk : oP chs (c + 1) ≤ (aP chs).length := flat_le cpM chs (c + 1)
  obtain ⟨b1, b2, b3, b4⟩ := Q.2.2.1
  rw [D_17_175, p_idx (by omega) (by omega), Int.toNat_natCast, l1, pin, p_xI, mn_width (d := d + 3) Q hk p0 p1, p_xI, we, p_idx (by omega) (by omega), p_idx (by omega) (by omega), p_idx (by omega) (by omega), Int.toNat_natCast, l2, l3, l4, mn_bits (d := d + 3) (r := l.2.1) (w := lwd V chs k l) (fun _ => ⟨rfl, rfl⟩) t6, p_xI, ← L5]
  -- behind the left side
  have right : ∀ (u9 u10 u11 u12 u13 u4 u7 : Option am_V), ∃ h', am_E (am_D (d + 4)) m_17_175 (.inl 4) [some (am_r (am_a 254)), some (am_i (c : Int)), some (am_i (ob : Int)), some (am_i (k : Int)), u4, some (am_i (gl : Int)), some (am_i (cgp chs k (lpn V chs k l))), u7, some (am_i ((lcn V chs k l : Nat) : Int)), u9, u10, u11, u12, u13] [am_i (rlo l.2.1), am_i ((pb + wfl (kWd V chs k) (lpn V chs k l).toNat : Nat) : Int)] (zS L, h) = pV L h' ∧ h' 355 = lnk K V chs (-1) (-2) pb ob k ch l (h 355) ∧ p_fr [355] [] h h' := by
    intro u9 u10 u11 u12 u13 u4 u7
    have rz : l.2.2.1 ≤ Z := by omega
    have kk := kmp_i (Q.1.2.1 l.2.2.1 rz).2.2.2.2
    rw [q_17_175_4, p_idx (by omega) (by omega), Int.toNat_natCast, l5, p_idx (by omega) (by omega), Int.toNat_natCast, (Q.1.2.1 l.2.2.1 rz).1, p_w (x := ((pb + wfl (kWd V chs k) (lpn V chs k l).toNat : Nat) : Int) + rlo l.2.1) (by omega) (by omega), show ((pb + wfl (kWd V chs k) (lpn V chs k l).toNat : Nat) : Int) + rlo l.2.1 = ((pb + lof V chs k l : Nat) : Int) by omega]
    rcases t5 with kr | kr
    · obtain ⟨o1, -, o3⟩ := rof_rg H t6.1 t7.1 hin kr
      have pe : rpn V ch l = ffnd (V l.2.2.1) (cNm V ch) 0 := rfl
      have re : rin V ch l = ffnd (V l.2.2.1) (cIn V ch) 0 := rfl
      have eff : ∀ (u1 u2 u4 u5 u7 : Option am_V), ∃ h', am_E (am_D (d + 4)) m_17_175 (.inl 12) [some (am_r (am_a 254)), u1, u2, some (am_i (k : Int)), u4, u5, some (am_i (cgp chs k (lpn V chs k l))), u7, some (am_i ((lcn V chs k l : Nat) : Int)), some (am_i ((pb + lof V chs k l : Nat) : Int)), some (am_i (l.2.2.1 : Int)), some (am_i 0), some (am_i ((ob + rof K V chs ch l : Nat) : Int)), some (am_i 0)] [] (zS L, h) = pV L h' ∧ h' 355 = lnk K V chs (-1) (-2) pb ob k ch l (h 355) ∧ p_fr [355] [] h h' := by
        intro u1 u2 u4 u5 u7
        unfold lnk
        rw [if_pos kr]
        by_cases z : lpn V chs k l < kIp chs k
        · rw [if_pos z]
          exact mb_12 (d := d + 3) (L := L) Q hk p0 p1 (x11 := 0) (x12 := ((ob + rof K V chs ch l : Nat) : Int)) ⟨rz, fun w => absurd rfl w⟩ (by omega) (by omega) (Or.inl ⟨z, rfl, Or.inl ⟨rfl, by omega, fun i => by show ((ob + rof K V chs ch l + i : Nat) : Int) = _; omega⟩⟩) u1 u2 u4 u5 u7 (lcn V chs k l) 0 (h1 := h) (by omega) (by rw [fill_0]) (p_fr.refl h)
        · rw [if_neg z]
          exact mb_12 (d := d + 3) (L := L) Q hk p0 p1 (x9 := ((pb + lof V chs k l : Nat) : Int)) (x11 := 0) ⟨rz, fun w => absurd rfl w⟩ (by omega) (by omega) (Or.inr ⟨z, rfl, by omega, fun i => by show ((pb + lof V chs k l + i : Nat) : Int) = _; omega⟩) u1 u2 u4 u5 u7 (lcn V chs k l) 0 (h1 := h) (by omega) (by rw [fill_0]) (p_fr.refl h)
      rw [if_pos (kk.2.1.2 kr), q_17_175_6, if_pos rfl, mn_own (d := d + 2) Q hc (cht_pn Tc) rz kr, p_xI, ← pe]
      rcases Hr with ⟨z, -⟩ | ⟨-, z⟩
      · rw [kr] at z; exact absurd z (by decide)
      rcases z with ⟨z1, ⟨z2', z3⟩, z4, z5⟩ | ⟨⟨z1, z3⟩, z4, z5, z6⟩
      · have rofe : rof K V chs ch l = wsm V ch.2.1 + ism (cIW K V chs ch) (rin V ch l).toNat := by unfold rof; rw [if_pos z1]
        rw [if_pos z1, if_pos rfl, mn_inn (d := d + 2) Q hc (cht_in E Tc) rz kr, p_xI, ← re, if_neg (show ¬ rin V ch l = -1 by omega), show (oI chs c : Int) + rin V ch l = ((oI chs c + (rin V ch l).toNat : Nat) : Int) by omega, mb_inn (d := d + 2) Q hc hI (Y.2.2.1 ch hcm) yl (by omega), p_xI, p_w (by omega) (by omega), show (ob : Int) + ((wsm V ch.2.1 + ism (cIW K V chs ch) (rin V ch l).toNat : Nat) : Int) = ((ob + rof K V chs ch l : Nat) : Int) by rw [rofe]; omega]
        exact eff _ _ _ _ _
      · have wr2 := rwd_rg (V := V) ch l
        have cv2 := rlo_rg (r := l.2.2.2.1) (w := rwd V ch l) t7 wr2
        have rofe : rof K V chs ch l = wfl (cWs V ch) (rpn V ch l).toNat + (rlo l.2.2.2.1).toNat := by unfold rof; rw [if_neg (by omega)]
        rw [if_neg (show ¬ rpn V ch l = -1 by omega), if_neg (by omega), show (oP chs c : Int) + rpn V ch l = ((oP chs c + (rpn V ch l).toNat : Nat) : Int) by omega, mb_pin (d := d + 3) Q hc yl.1 (by omega), p_xI, p_idx (by omega) (by omega), Int.toNat_natCast, l6]
        by_cases rrx : l.2.2.2.1.1 = -1
        · have r0 : rlo l.2.2.2.1 = 0 := by unfold rlo; rw [if_pos rrx]
          rw [if_pos rrx, p_w (x := ((wfl (cWs V ch) (rpn V ch l).toNat : Nat) : Int) + 0) (by omega) (by omega), p_w (by omega) (by omega), show (ob : Int) + (((wfl (cWs V ch) (rpn V ch l).toNat : Nat) : Int) + 0) = ((ob + rof K V chs ch l : Nat) : Int) by rw [rofe]; omega]
          exact eff _ _ _ _ _
        · have r0 : rlo l.2.2.2.1 = l.2.2.2.1.2.1 := by unfold rlo; rw [if_neg rrx]
          rw [if_neg rrx, p_idx (by omega) (by omega), Int.toNat_natCast, (l7 rrx).1, p_w (x := ((wfl (cWs V ch) (rpn V ch l).toNat : Nat) : Int) + l.2.2.2.1.2.1) (by omega) (by omega), p_w (by omega) (by omega), show (ob : Int) + (((wfl (cWs V ch) (rpn V ch l).toNat : Nat) : Int) + l.2.2.2.1.2.1) = ((ob + rof K V chs ch l : Nat) : Int) by rw [rofe]; omega]
          exact eff _ _ _ _ _
    · have lt : lpn V chs k l < kIp chs k := by
        rcases Hr with ⟨-, z⟩ | ⟨z, -⟩
        · exact z
        · rw [kr] at z; exact absurd z (by decide)
      rw [if_neg (fun z => by have := kk.2.1.1 z; rw [kr] at this; exact absurd this (by decide)), q_17_175_6, if_neg (by decide)]
      unfold lnk
      rw [if_neg (show ¬ K l.2.2.1 = 2 by rw [kr]; decide)]
      exact mb_12 (d := d + 3) (L := L) Q hk p0 p1 (x9 := ((pb + lof V chs k l : Nat) : Int)) (x11 := 1) (x12 := 0) ⟨rz, fun _ => kr⟩ (by omega) (by omega) (Or.inl ⟨lt, rfl, Or.inr ⟨by decide, fun _ => rfl⟩⟩) _ _ _ _ _ (lcn V chs k l) 0 (h1 := h) (by omega) (by rw [fill_0]) (p_fr.refl h)
  have e2 : ∀ (s0 : Int) (u4 u7 : Option am_V), s0 = ((wfl (kWd V chs k) (lpn V chs k l).toNat : Nat) : Int) → ∃ h', am_E (am_D (d + 4)) m_17_175 (.inl 2) [some (am_r (am_a 254)), some (am_i (c : Int)), some (am_i (ob : Int)), some (am_i (k : Int)), u4, some (am_i (gl : Int)), some (am_i (cgp chs k (lpn V chs k l))), u7, some (am_i ((lcn V chs k l : Nat) : Int)), none, none, none, none, none] [am_i s0, am_i (pb : Int)] (zS L, h) = pV L h' ∧ h' 355 = lnk K V chs (-1) (-2) pb ob k ch l (h 355) ∧ p_fr [355] [] h h' := by
    intro s0 u4 u7 hs
    rw [q_17_175_2, p_idx (by omega) (by omega), Int.toNat_natCast, l2, hs, p_w (x := (pb : Int) + ((wfl (kWd V chs k) (lpn V chs k l).toNat : Nat) : Int)) (by omega) (by omega), show (pb : Int) + ((wfl (kWd V chs k) (lpn V chs k l).toNat : Nat) : Int) = ((pb + wfl (kWd V chs k) (lpn V chs k l).toNat : Nat) : Int) by omega]
    by_cases lr : l.2.1.1 = -1
    · rw [if_pos lr, show (0 : Int) = rlo l.2.1 by unfold rlo; rw [if_pos lr]]
      exact right _ _ _ _ _ _ _
    · rw [if_neg lr, p_idx (by omega) (by omega), Int.toNat_natCast, l3, show l.2.1.2.1 = rlo l.2.1 by unfold rlo; rw [if_neg lr]]
      exact right _ _ _ _ _ _ _
  by_cases k1 : 1 < (k : Int)
  · obtain ⟨ck, hck⟩ : ∃ ck, chs[k - 2]? = some ck := ⟨chs[k - 2], List.getElem?_eq_getElem (by omega)⟩
    have kc := kNm_c (V := V) hck
    rw [show 2 + (k - 2) = k by omega] at kc
    have ylk := Y.2.2.2.1 ck (List.mem_of_getElem? hck)
    have nk : (kNm V chs k).length = ck.2.1.length := by rw [kc.1]; unfold cNm; rw [List.length_map]
    have ge : cgp chs k (lpn V chs k l) = ((oP chs (k - 2) + (lpn V chs k l).toNat : Nat) : Int) := by unfold cgp; rw [if_neg (by omega)]; omega
    rw [if_pos k1, p_w (x := (k : Int) - 2) (by omega) (by omega), show (k : Int) - 2 = ((k - 2 : Nat) : Int) by omega]
    have pp := mb_pin (d := d + 3) (L := L) Q hck ylk.1 (n := (lpn V chs k l).toNat) (by omega)
    rw [← ge] at pp
    rw [pp, p_xI]
    exact e2 _ _ _ (by rw [kc.2.1])
  · have ge : cgp chs k (lpn V chs k l) = lpn V chs k l := by unfold cgp; rw [if_pos (by omega)]
    have wk : ((wfl (kWd V chs k) (lpn V chs k l).toNat : Nat) : Int) = lpn V chs k l := by
      have ln : (kNm V chs k).length = 3 - k := by rcases (show k = 0 ∨ k = 1 by omega) with rfl | rfl <;> rfl
      obtain ⟨x, hx⟩ : ∃ x : Nat, lpn V chs k l = (x : Int) := ⟨(lpn V chs k l).toNat, by omega⟩
      rw [hx, Int.toNat_natCast]
      have xl : x < 3 - k := by omega
      rcases (show k = 0 ∨ k = 1 by omega) with rfl | rfl
      · rcases (show x = 0 ∨ x = 1 ∨ x = 2 by omega) with rfl | rfl | rfl <;> rfl
      · rcases (show x = 0 ∨ x = 1 by omega) with rfl | rfl <;> rfl
    rw [if_neg k1]
    exact e2 (cgp chs k (lpn V chs k l)) _ _ (by rw [ge, wk])
end
