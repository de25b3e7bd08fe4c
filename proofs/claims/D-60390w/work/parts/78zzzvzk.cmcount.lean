/-! CHIPS, 37: sizes: the model -/
theorem c_W {x : Int} (h1 : -1000000000 ≤ x) (h2 : x ≤ 1000000000) : am_W x = x := Int.bmod_eq_of_le (by omega) (by omega)
section
variable {d L : Nat} {K V P : Nat → Int} {W : Nat → List Int} {Z : Nat} {chs : List cCh} {ch : cCh} {c : Nat} {h h' : am_H}
/-- numbers within bounds, and right for chips of small depth -/
def CA (h : am_H) : Prop := ∀ c, c < 16 → (0 ≤ h 353 c ∧ h 353 c ≤ 1000000) ∧ (0 ≤ h 354 c ∧ h 354 c ≤ 1000000)
def cR (K V : Nat → Int) (chs : List cCh) (c : Nat) (h : am_H) : Prop := h 353 c = ((min 1000000 (gAll V chs c) : Nat) : Int) ∧ h 354 c = ((min 1000000 (bAll K V chs c) : Nat) : Int)
theorem mc_3 (Q : mQ K V P W Z chs h) (hc : chs[c]? = some ch) (x1 : Int) (u8 : Option am_V) : ∀ (m p : Nat), p + m = ch.2.1.length → am_E (am_D d) m_17_169 (.inl 3) [some (am_r (am_a 254)), some (am_i x1), some (am_i (c : Int)), some (am_l 0), none, some (am_l ((wsm V (ch.2.1.take p) : Nat) : Int)), none, some (am_i ((oP chs c + p : Nat) : Int)), u8] [] (zS L, h) = am_E (am_D d) m_17_169 (.inl 5) [some (am_r (am_a 254)), some (am_i x1), some (am_i (c : Int)), some (am_l 0), none, some (am_l ((wsm V ch.2.1 : Nat) : Int)), none, some (am_i (oI chs c : Int)), u8] [] (zS L, h)
  | 0, p, hm => by
    have l16 := Q.2.1.2
    have hcl := (List.getElem?_eq_some_iff.1 hc).1
    have on := oP_n hc
    rw [r_169_3, p_w (x := (c : Int) + 1) (by omega) (by omega), p_idx (by omega) (by omega), show ((c : Int) + 1).toNat = c + 1 by omega, (Q.2.2.2.2.1 (c + 1) (by omega)).1, if_neg (by omega), p_idx (by omega) (by omega), Int.toNat_natCast, (Q.2.2.2.2.1 c (by omega)).2.2, List.take_of_length_le (by omega)]
  | m + 1, p, hm => by
    have l16 := Q.2.1.2
    have hcl := (List.getElem?_eq_some_iff.1 hc).1
    have on := oP_n hc
    have ptk : oP chs (c + 1) ≤ (aP chs).length := flat_le cpM chs (c + 1)
    have b1 := Q.2.2.1.1
    have hp : p < ch.2.1.length := by omega
    have wr := c_w_rg V ch.2.1[p].2
    have wb := wsm_rg (V := V) (ch.2.1.take p)
    have tl : (ch.2.1.take p).length ≤ 200 := by rw [List.length_take]; omega
    have ws : wsm V (ch.2.1.take (p + 1)) = wsm V (ch.2.1.take p) + (c_w V ch.2.1[p].2).toNat := by
      rw [List.take_succ_eq_append_getElem hp, wsm_app]; rfl
    rw [r_169_3, p_w (x := (c : Int) + 1) (by omega) (by omega), p_idx (by omega) (by omega), show ((c : Int) + 1).toNat = c + 1 by omega, (Q.2.2.2.2.1 (c + 1) (by omega)).1, if_pos (by omega), p_idx (by omega) (by omega), Int.toNat_natCast, (Q.2.2.2.2.2.1 c ch hc p _ (List.getElem?_eq_getElem hp)).2.2.2, c_W (by omega) (by omega), p_w (by omega) (by omega), show ((wsm V (ch.2.1.take p) : Nat) : Int) + c_w V ch.2.1[p].2 = ((wsm V (ch.2.1.take (p + 1)) : Nat) : Int) by rw [ws]; omega, show ((oP chs c + p : Nat) : Int) + 1 = ((oP chs c + (p + 1) : Nat) : Int) by omega]
    exact mc_3 Q hc x1 u8 m (p + 1) (by omega)
theorem mc_5 (Q : mQ K V P W Z chs h) (hc : chs[c]? = some ch) (G : gM chs c ch (cIW K V chs ch) h) (hw : ∀ j, 0 ≤ cIW K V chs ch j ∧ cIW K V chs ch j ≤ 16) {w0 : Nat} (hw0 : w0 ≤ 4000) (x1 : Int) (u8 : Option am_V) : ∀ (m p : Nat), p + m = ch.2.2.2.2.length → am_E (am_D d) m_17_169 (.inl 5) [some (am_r (am_a 254)), some (am_i x1), some (am_i (c : Int)), some (am_l 0), none, some (am_l ((w0 + ism (cIW K V chs ch) p : Nat) : Int)), none, some (am_i ((oI chs c + p : Nat) : Int)), u8] [] (zS L, h) = am_E (am_D d) m_17_169 (.inl 9) [some (am_r (am_a 254)), some (am_i x1), some (am_i (c : Int)), some (am_l 0), none, some (am_l ((w0 + ism (cIW K V chs ch) ch.2.2.2.2.length : Nat) : Int)), none, some (am_i (oT chs c : Int)), u8] [] (zS L, h)
  | 0, p, hm => by
    have l16 := Q.2.1.2
    have hcl := (List.getElem?_eq_some_iff.1 hc).1
    have on := oI_n hc
    rw [r_169_5, p_w (x := (c : Int) + 1) (by omega) (by omega), p_idx (by omega) (by omega), show ((c : Int) + 1).toNat = c + 1 by omega, (Q.2.2.2.2.1 (c + 1) (by omega)).2.2, if_neg (by omega), p_idx (by omega) (by omega), Int.toNat_natCast, (Q.2.2.2.2.1 c (by omega)).2.1, show p = ch.2.2.2.2.length by omega]
  | m + 1, p, hm => by
    have l16 := Q.2.1.2
    have hcl := (List.getElem?_eq_some_iff.1 hc).1
    have on := oI_n hc
    have ptk : oI chs (c + 1) ≤ (aI chs).length := flat_le _ chs (c + 1)
    have b4 := Q.2.2.1.2.2.2
    have hp : p < ch.2.2.2.2.length := by omega
    have wr := hw p
    have wb := ism_rg (X := cIW K V chs ch) (fun j => (hw j).2) p
    rw [r_169_5, p_w (x := (c : Int) + 1) (by omega) (by omega), p_idx (by omega) (by omega), show ((c : Int) + 1).toNat = c + 1 by omega, (Q.2.2.2.2.1 (c + 1) (by omega)).2.2, if_pos (by omega), p_idx (by omega) (by omega), Int.toNat_natCast, G p hp, p_w (by omega) (by omega), show ((oI chs c + p : Nat) : Int) + 1 = ((oI chs c + (p + 1) : Nat) : Int) by omega]
    by_cases y : 0 < cIW K V chs ch p
    · rw [if_pos y, p_idx (by omega) (by omega), Int.toNat_natCast, G p hp, c_W (by omega) (by omega), show ((w0 + ism (cIW K V chs ch) p : Nat) : Int) + cIW K V chs ch p = ((w0 + ism (cIW K V chs ch) (p + 1) : Nat) : Int) by
        show _ = ((w0 + (ism (cIW K V chs ch) p + (cIW K V chs ch p).toNat) : Nat) : Int)
        omega]
      exact mc_5 Q hc G hw hw0 x1 u8 m (p + 1) (by omega)
    · rw [if_neg y, c_W (by omega) (by omega), show ((w0 + ism (cIW K V chs ch) p : Nat) : Int) + 0 = ((w0 + ism (cIW K V chs ch) (p + 1) : Nat) : Int) by
        show _ = ((w0 + (ism (cIW K V chs ch) p + (cIW K V chs ch p).toNat) : Nat) : Int)
        omega]
      exact mc_5 Q hc G hw hw0 x1 u8 m (p + 1) (by omega)
/-- what the model adds for a part -/
def mcg (V : Nat → Int) (chs : List cCh) (h : am_H) (q : Nat × List cLk) : Int := match kOf V chs (V q.1) with | some k => if k < 2 then 1 else h 353 (k - 2) | none => 1
def mcb (V : Nat → Int) (chs : List cCh) (h : am_H) (q : Nat × List cLk) : Int := match kOf V chs (V q.1) with | some k => if k = 0 then 3 else if k = 1 then 2 else h 354 (k - 2) | none => 2
def msg (f : Nat × List cLk → Int) : List (Nat × List cLk) → Int
  | [] => 0
  | q :: qs => f q + msg f qs
theorem msg_app (f : Nat × List cLk → Int) : ∀ (a b : List (Nat × List cLk)), msg f (a ++ b) = msg f a + msg f b
  | [], b => (Int.zero_add _).symm
  | q :: a, b => by
    show f q + msg f (a ++ b) = f q + msg f a + _
    rw [msg_app f a b, Int.add_assoc]
theorem msg_rg {f : Nat × List cLk → Int} (hf : ∀ q, 0 ≤ f q ∧ f q ≤ 1000000) : ∀ (a : List (Nat × List cLk)), 0 ≤ msg f a ∧ msg f a ≤ 1000000 * (a.length : Int)
  | [] => ⟨Int.le_refl _, Int.le_refl _⟩
  | q :: a => by
    have := msg_rg hf a
    have := hf q
    unfold msg
    rw [List.length_cons]
    omega
theorem mc_rg (C : CA h) (h16 : chs.length ≤ 16) (q : Nat × List cLk) : (0 ≤ mcg V chs h q ∧ mcg V chs h q ≤ 1000000) ∧ (0 ≤ mcb V chs h q ∧ mcb V chs h q ≤ 1000000) := by
  unfold mcg mcb
  cases hk : kOf V chs (V q.1) with
  | none => exact ⟨⟨show (0 : Int) ≤ 1 by decide, show (1 : Int) ≤ 1000000 by decide⟩, show (0 : Int) ≤ 2 by decide, show (2 : Int) ≤ 1000000 by decide⟩
  | some k =>
    have := kOf_rg hk
    dsimp only
    have cc := C (k - 2) (by omega)
    constructor
    · split
      · decide
      · exact cc.1
    · split
      · decide
      · split
        · decide
        · exact cc.2
theorem mc_9 (Q : mQ K V P W Z chs h) (hc : chs[c]? = some ch) (C : CA h) (I : ∀ a q, ch.2.2.2.1[a]? = some q → h 349 (oT chs c + a) = kInt (kOf V chs (V q.1))) (hq : ∀ q ∈ ch.2.2.2.1, kOf V chs (V q.1) ≠ none) (hl : ch.2.2.2.1.length ≤ 24) {o : Nat} (ho : o ≤ 60000) (x1 : Int) : ∀ (m p : Nat) (u8 : Option am_V), p + m = ch.2.2.2.1.length → ∃ w3 w4 w5 w6 w7 w8, am_E (am_D d) m_17_169 (.inl 9) [some (am_r (am_a 254)), some (am_i x1), some (am_i (c : Int)), some (am_l (msg (mcg V chs h) (ch.2.2.2.1.take p))), none, some (am_l ((o : Int) + msg (mcb V chs h) (ch.2.2.2.1.take p))), none, some (am_i ((oT chs c + p : Nat) : Int)), u8] [] (zS L, h) = am_E (am_D d) m_17_169 (.inl 2) [some (am_r (am_a 254)), some (am_i x1), some (am_i ((c + 1 : Nat) : Int)), w3, w4, w5, w6, w7, w8] [] (zS L, am_up (am_up h 353 c (min 1000000 (msg (mcg V chs h) ch.2.2.2.1))) 354 c (min 1000000 ((o : Int) + msg (mcb V chs h) ch.2.2.2.1)))
  | 0, p, u8, hm => by
    have l16 := Q.2.1.2
    have hcl := (List.getElem?_eq_some_iff.1 hc).1
    have on := oT_n hc
    rw [r_169_9, p_w (x := (c : Int) + 1) (by omega) (by omega), p_idx (by omega) (by omega), show ((c : Int) + 1).toNat = c + 1 by omega, (Q.2.2.2.2.1 (c + 1) (by omega)).2.1, if_neg (by omega), List.take_of_length_le (by omega)]
    obtain ⟨A, hAx⟩ : ∃ A, A = msg (mcg V chs h) ch.2.2.2.1 := ⟨_, rfl⟩
    obtain ⟨B, hB⟩ : ∃ B, B = (o : Int) + msg (mcb V chs h) ch.2.2.2.1 := ⟨_, rfl⟩
    rw [← hAx, ← hB]
    have lc : ∀ x : Int, (0 < am_lcmp x 1000000 ↔ 1000000 < x) := fun x => by
      unfold am_lcmp
      by_cases y : x < 1000000
      · rw [if_pos y]; omega
      · rw [if_neg y]
        by_cases z : x = 1000000
        · rw [if_pos z]; omega
        · rw [if_neg z]; omega
    have e17 : ∀ (s0 : Int) (u3 u4 u6 u7 u8 : Option am_V), ∃ w3 w4 w5 w6 w7 w8, am_E (am_D d) m_17_169 (.inl 17) [some (am_r (am_a 254)), some (am_i x1), some (am_i (c : Int)), u3, u4, some (am_l B), u6, u7, u8] [am_l s0, am_i (c : Int), am_r (am_a 353)] (zS L, h) = am_E (am_D d) m_17_169 (.inl 2) [some (am_r (am_a 254)), some (am_i x1), some (am_i ((c + 1 : Nat) : Int)), w3, w4, w5, w6, w7, w8] [] (zS L, am_up (am_up h 353 c s0) 354 c (min 1000000 B)) := by
      intro s0 u3 u4 u6 u7 u8
      rw [r_169_17, p_arr (show (zS L)[353]? = some (6, 16, []) from rfl), p_idx (by omega) (by omega), Int.toNat_natCast, show ∀ x : Option am_O, cond (Nat.beq 353 0) none x = x from fun _ => rfl, p_w (by omega) (by omega), p_idx (by omega) (by omega), p_idx (by omega) (by omega), Int.toNat_natCast]
      by_cases y : 0 < am_lcmp B 1000000
      · rw [if_pos y, show min 1000000 B = 1000000 by have := (lc B).1 y; omega]
        exact ⟨_, _, _, _, _, _, rfl⟩
      · rw [if_neg y, show min 1000000 B = B by have := mt (lc B).2 y; omega]
        exact ⟨_, _, _, _, _, _, rfl⟩
    by_cases y : 0 < am_lcmp A 1000000
    · rw [if_pos y, show min 1000000 A = 1000000 by have := (lc A).1 y; omega]
      exact e17 _ _ _ _ _ _
    · rw [if_neg y, show min 1000000 A = A by have := mt (lc A).2 y; omega]
      exact e17 _ _ _ _ _ _
  | m + 1, p, u8, hm => by
    have l16 := Q.2.1.2
    have hcl := (List.getElem?_eq_some_iff.1 hc).1
    have on := oT_n hc
    have ptk : oT chs (c + 1) ≤ (aT chs).length := flat_le _ chs (c + 1)
    have b2 := Q.2.2.1.2.1
    have hp : p < ch.2.2.2.1.length := by omega
    obtain ⟨q, hqe⟩ : ∃ q, q = ch.2.2.2.1[p] := ⟨_, rfl⟩
    have hqp : ch.2.2.2.1[p]? = some q := by rw [hqe]; exact List.getElem?_eq_getElem hp
    have i9 := I p q hqp
    have qn := hq q (List.mem_of_getElem? hqp)
    have tg : msg (mcg V chs h) (ch.2.2.2.1.take (p + 1)) = msg (mcg V chs h) (ch.2.2.2.1.take p) + mcg V chs h q := by
      rw [List.take_succ_eq_append_getElem hp, msg_app, ← hqe]
      show _ + (mcg V chs h q + 0) = _
      omega
    have tb : msg (mcb V chs h) (ch.2.2.2.1.take (p + 1)) = msg (mcb V chs h) (ch.2.2.2.1.take p) + mcb V chs h q := by
      rw [List.take_succ_eq_append_getElem hp, msg_app, ← hqe]
      show _ + (mcb V chs h q + 0) = _
      omega
    have rg := msg_rg (f := mcg V chs h) (fun q => (mc_rg C l16 q).1) (ch.2.2.2.1.take p)
    have rb := msg_rg (f := mcb V chs h) (fun q => (mc_rg C l16 q).2) (ch.2.2.2.1.take p)
    have tl : (ch.2.2.2.1.take p).length ≤ 24 := by rw [List.length_take]; omega
    have cq := mc_rg (V := V) C l16 q
    rw [r_169_9, p_w (x := (c : Int) + 1) (by omega) (by omega), p_idx (by omega) (by omega), show ((c : Int) + 1).toNat = c + 1 by omega, (Q.2.2.2.2.1 (c + 1) (by omega)).2.1, if_pos (by omega), p_idx (by omega) (by omega), Int.toNat_natCast, i9]
    have nx : ∀ (a b : Int) (u8 : Option am_V), a = msg (mcg V chs h) (ch.2.2.2.1.take p) + mcg V chs h q → b = (o : Int) + msg (mcb V chs h) (ch.2.2.2.1.take p) + mcb V chs h q → ∃ w3 w4 w5 w6 w7 w8, am_E (am_D d) m_17_169 (.inl 9) [some (am_r (am_a 254)), some (am_i x1), some (am_i (c : Int)), some (am_l (am_W a)), none, some (am_l (am_W b)), none, some (am_i (am_w (((oT chs c + p : Nat) : Int) + 1))), u8] [] (zS L, h) = am_E (am_D d) m_17_169 (.inl 2) [some (am_r (am_a 254)), some (am_i x1), some (am_i ((c + 1 : Nat) : Int)), w3, w4, w5, w6, w7, w8] [] (zS L, am_up (am_up h 353 c (min 1000000 (msg (mcg V chs h) ch.2.2.2.1))) 354 c (min 1000000 ((o : Int) + msg (mcb V chs h) ch.2.2.2.1))) := by
      intro a b u8 ha hb
      rw [ha, hb, c_W (by omega) (by omega), c_W (by omega) (by omega), p_w (by omega) (by omega), ← tg, Int.add_assoc, ← tb, show ((oT chs c + p : Nat) : Int) + 1 = ((oT chs c + (p + 1) : Nat) : Int) by omega]
      exact mc_9 Q hc C I hq hl ho x1 m (p + 1) u8 (by omega)
    cases hk : kOf V chs (V q.1) with
    | none => exact absurd hk qn
    | some k =>
      have hkl := kOf_rg hk
      rw [show kInt (some k) = (k : Int) from rfl]
      by_cases k1 : 1 < (k : Int)
      · have e1 : mcg V chs h q = h 353 (k - 2) := by unfold mcg; rw [hk]; show (if k < 2 then (1 : Int) else h 353 (k - 2)) = _; rw [if_neg (by omega)]
        have e2 : mcb V chs h q = h 354 (k - 2) := by unfold mcb; rw [hk]; show (if k = 0 then (3 : Int) else if k = 1 then 2 else h 354 (k - 2)) = _; rw [if_neg (by omega), if_neg (by omega)]
        rw [if_pos k1, p_w (x := (k : Int) - 2) (by omega) (by omega), p_idx (by omega) (by omega), show ((k : Int) - 2).toNat = k - 2 by omega, r_169_11, if_pos k1, p_w (x := (k : Int) - 2) (by omega) (by omega), p_idx (by omega) (by omega), show ((k : Int) - 2).toNat = k - 2 by omega]
        exact nx _ _ _ (by rw [e1]) (by rw [e2])
      · have e1 : mcg V chs h q = 1 := by unfold mcg; rw [hk]; show (if k < 2 then (1 : Int) else h 353 (k - 2)) = _; rw [if_pos (by omega)]
        rw [if_neg k1, r_169_11, if_neg k1]
        by_cases k0 : (k : Int) = 0
        · have e2 : mcb V chs h q = 3 := by unfold mcb; rw [hk]; show (if k = 0 then (3 : Int) else if k = 1 then 2 else h 354 (k - 2)) = _; rw [if_pos (by omega)]
          rw [if_pos k0]
          exact nx _ _ _ (by rw [e1]) (by rw [e2])
        · have e2 : mcb V chs h q = 2 := by unfold mcb; rw [hk]; show (if k = 0 then (3 : Int) else if k = 1 then 2 else h 354 (k - 2)) = _; rw [if_neg (by omega), if_pos (by omega)]
          rw [if_neg k0]
          exact nx _ _ _ (by rw [e1]) (by rw [e2])
theorem mcg_ok (C : CA h) (h16 : chs.length ≤ 16) : ∀ (ps : List (Nat × List cLk)), (∀ q ∈ ps, ∀ b, kOf V chs (V q.1) = some (2 + b) → cR K V chs b h) → min 1000000 (msg (mcg V chs h) ps) = ((min 1000000 (gsm V chs (gAll V chs) ps) : Nat) : Int) ∧ ∀ o : Nat, min 1000000 ((o : Int) + msg (mcb V chs h) ps) = ((min 1000000 (o + bsm V chs (bAll K V chs) ps) : Nat) : Int)
  | [], _ => ⟨rfl, fun o => by show min 1000000 ((o : Int) + 0) = ((min 1000000 (o + 0) : Nat) : Int); omega⟩
  | q :: ps, hq => by
    obtain ⟨i1, i2⟩ := mcg_ok C h16 ps (fun q' hq' => hq q' (List.mem_cons_of_mem _ hq'))
    have i2 := i2 0
    have rg := msg_rg (f := mcg V chs h) (fun q => (mc_rg C h16 q).1) ps
    have rb := msg_rg (f := mcb V chs h) (fun q => (mc_rg C h16 q).2) ps
    have c1 := hq q (List.mem_cons_self ..)
    refine ⟨?_, fun o => ?_⟩
    · show min 1000000 (mcg V chs h q + msg (mcg V chs h) ps) = ((min 1000000 ((match kOf V chs (V q.1) with | some k => if k < 2 then 1 else gAll V chs (k - 2) | none => 1) + gsm V chs (gAll V chs) ps) : Nat) : Int)
      unfold mcg
      cases hk : kOf V chs (V q.1) with
      | none => dsimp only; unfold mcg at i1 rg; omega
      | some k =>
        dsimp only
        by_cases y : k < 2
        · rw [if_pos y, if_pos y]; unfold mcg at i1 rg; omega
        · rw [if_neg y, if_neg y, (c1 (k - 2) (by rw [hk, show 2 + (k - 2) = k by omega])).1]
          unfold mcg at i1 rg; omega
    · show min 1000000 ((o : Int) + (mcb V chs h q + msg (mcb V chs h) ps)) = ((min 1000000 (o + ((match kOf V chs (V q.1) with | some k => if k = 0 then 3 else if k = 1 then 2 else bAll K V chs (k - 2) | none => 2) + bsm V chs (bAll K V chs) ps)) : Nat) : Int)
      unfold mcb
      cases hk : kOf V chs (V q.1) with
      | none => dsimp only; unfold mcb at i2 rb; omega
      | some k =>
        dsimp only
        by_cases y : k = 0
        · rw [if_pos y, if_pos y]; unfold mcb at i2 rb; omega
        · rw [if_neg y, if_neg y]
          by_cases z : k = 1
          · rw [if_pos z, if_pos z]; unfold mcb at i2 rb; omega
          · rw [if_neg z, if_neg z, (c1 (k - 2) (by rw [hk, show 2 + (k - 2) = k by omega])).2]
            unfold mcb at i2 rb; omega
theorem mI.f (I : mI K V chs c h) (f1 : p_fr [353, 354] [] h h') : mI K V chs c h' := fun c' ch' hl hc' => by
  obtain ⟨x1, x2⟩ := I c' ch' hl hc'
  refine ⟨fun j hj => by rw [f1.cell 347 rfl rfl]; exact x1 j hj, fun a q ha => by rw [f1.cell 349 rfl rfl]; exact x2 a q ha⟩
theorem mQ.f (Q : mQ K V P W Z chs h) (f : p_fr [353, 354] [] h h') : mQ K V P W Z chs h' := by
  refine ⟨?_, ?_⟩
  · unfold mR
    rw [f.cell 256 rfl rfl, f.cell 257 rfl rfl, f.cell 258 rfl rfl, f.cell 259 rfl rfl, f.cell 260 rfl rfl]
    exact Q.1
  · unfold mV fRl
    rw [f 254 122 rfl rfl, f.cell 328 rfl rfl, f.cell 329 rfl rfl, f.cell 330 rfl rfl, f.cell 331 rfl rfl, f.cell 332 rfl rfl, f.cell 333 rfl rfl, f.cell 334 rfl rfl, f.cell 335 rfl rfl, f.cell 336 rfl rfl, f.cell 337 rfl rfl, f.cell 338 rfl rfl, f.cell 339 rfl rfl, f.cell 340 rfl rfl, f.cell 341 rfl rfl, f.cell 342 rfl rfl, f.cell 343 rfl rfl, f.cell 344 rfl rfl, f.cell 345 rfl rfl, f.cell 346 rfl rfl]
    exact Q.2
/-- a round -/
theorem mc_2 (Y : kY K V Z chs) (hp24 : ∀ ch ∈ chs, ch.2.2.2.1.length ≤ 24) (x1 : Int) (r : Nat) : ∀ (m c : Nat) {h : am_H} (u3 u4 u5 u6 u7 u8 : Option am_V), c + m = chs.length → mQ K V P W Z chs h → mI K V chs chs.length h → CA h → (∀ x, x < chs.length → rkx V chs x < r → cR K V chs x h) → (∀ x, x < c → rkx V chs x < r + 1 → cR K V chs x h) → ∃ h' w2 w3 w4 w5 w6 w7 w8, am_E (am_D d) m_17_169 (.inl 2) [some (am_r (am_a 254)), some (am_i x1), some (am_i (c : Int)), u3, u4, u5, u6, u7, u8] [] (zS L, h) = am_E (am_D d) m_17_169 (.inl 1) [some (am_r (am_a 254)), some (am_i (am_w (x1 + 1))), w2, w3, w4, w5, w6, w7, w8] [] (zS L, h') ∧ p_fr [353, 354] [] h h' ∧ CA h' ∧ ∀ x, x < chs.length → rkx V chs x < r + 1 → cR K V chs x h'
  | 0, c, h, u3, u4, u5, u6, u7, u8, hm, Q, I, C, h1, h2 => by
    rw [r_169_2, Q.2.1.1, if_neg (by omega)]
    exact ⟨h, _, _, _, _, _, _, _, rfl, p_fr.refl h, C, fun x hx => h2 x (by omega)⟩
  | m + 1, c, h, u3, u4, u5, u6, u7, u8, hm, Q, I, C, h1, h2 => by
    have l16 := Q.2.1.2
    have hc : chs[c]? = some chs[c] := List.getElem?_eq_getElem (by omega)
    have hcm := List.mem_of_getElem? hc
    have wr := wsm_rg (V := V) chs[c].2.1
    have wl := Y.2.2.2.1 _ hcm
    have or := own_rg Y hcm
    obtain ⟨i7, i9⟩ := I c _ (by omega) hc
    have e3 := mc_3 (d := d) (L := L) Q hc x1 u8 chs[c].2.1.length 0 (by omega)
    have e5 := mc_5 (d := d) (L := L) Q hc i7 (Y.2.2.1 _ hcm) (w0 := wsm V chs[c].2.1) (by omega) x1 u8 chs[c].2.2.2.2.length 0 (by omega)
    obtain ⟨w3, w4, w5, w6, w7, w8, e9⟩ := mc_9 (d := d) (L := L) Q hc C i9 (fun q hq => (Y.2.1 _ hcm q hq).2) (hp24 _ hcm) (o := ownx K V chs chs[c]) (by omega) x1 chs[c].2.2.2.1.length 0 u8 (by omega)
    rw [List.take_zero] at e3 e9
    rw [show ((wsm V [] : Nat) : Int) = 0 from rfl, show oP chs c + 0 = oP chs c from rfl] at e3
    rw [show wsm V chs[c].2.1 + ism (cIW K V chs chs[c]) 0 = wsm V chs[c].2.1 from rfl, show oI chs c + 0 = oI chs c from rfl] at e5
    rw [show msg (mcg V chs h) [] = 0 from rfl, show ((ownx K V chs chs[c] : Nat) : Int) + msg (mcb V chs h) [] = ((ownx K V chs chs[c] : Nat) : Int) from Int.add_zero _, show oT chs c + 0 = oT chs c from rfl] at e9
    rw [r_169_2, Q.2.1.1, if_pos (by omega), p_idx (by omega) (by omega), Int.toNat_natCast, (Q.2.2.2.2.1 c (by omega)).1, e3, e5]
    have e9' := e9
    rw [show ownx K V chs chs[c] = wsm V chs[c].2.1 + ism (cIW K V chs chs[c]) chs[c].2.2.2.2.length from rfl] at e9'
    rw [e9']
    have f1 : p_fr [353, 354] [] h (am_up (am_up h 353 c (min 1000000 (msg (mcg V chs h) chs[c].2.2.2.1))) 354 c (min 1000000 ((ownx K V chs chs[c] : Int) + msg (mcb V chs h) chs[c].2.2.2.1))) := ((p_fr.refl h).upc _ _ _ rfl).upc _ _ _ rfl
    have rg := msg_rg (f := mcg V chs h) (fun q => (mc_rg C l16 q).1) chs[c].2.2.2.1
    have rb := msg_rg (f := mcb V chs h) (fun q => (mc_rg C l16 q).2) chs[c].2.2.2.1
    have vn : ∀ (x : Nat) (a b : Int), x ≠ c → am_up (am_up h 353 c a) 354 c b 353 x = h 353 x ∧ am_up (am_up h 353 c a) 354 c b 354 x = h 354 x := fun x a b hx => ⟨by rw [p_up_c _ _ _ _ _ (by decide), p_up_n _ _ _ _ _ _ (Or.inr hx)], by rw [p_up_n _ _ _ _ _ _ (Or.inr hx), p_up_c _ _ _ _ _ (by decide)]⟩
    have vc : ∀ (a b : Int), am_up (am_up h 353 c a) 354 c b 353 c = a ∧ am_up (am_up h 353 c a) 354 c b 354 c = b := fun a b => ⟨by rw [p_up_c _ _ _ _ _ (by decide), p_up_s], p_up_s _ _ _ _⟩
    have C1 : CA (am_up (am_up h 353 c (min 1000000 (msg (mcg V chs h) chs[c].2.2.2.1))) 354 c (min 1000000 ((ownx K V chs chs[c] : Int) + msg (mcb V chs h) chs[c].2.2.2.1))) := fun x hx => by
      by_cases e : x = c
      · subst e; rw [(vc _ _).1, (vc _ _).2]; omega
      · rw [(vn x _ _ e).1, (vn x _ _ e).2]; exact C x hx
    have good : rkx V chs c < r + 1 → cR K V chs c (am_up (am_up h 353 c (min 1000000 (msg (mcg V chs h) chs[c].2.2.2.1))) 354 c (min 1000000 ((ownx K V chs chs[c] : Int) + msg (mcb V chs h) chs[c].2.2.2.1))) := fun hr => by
      have ok := mcg_ok (K := K) (V := V) C l16 chs[c].2.2.2.1 (fun q hq b hb => h1 b (by have := kOf_rg hb; omega) (by have := rk_lt Y.1 (a := c) (b := b) ⟨_, q, hc, hq, hb⟩; omega))
      unfold cR
      rw [(vc _ _).1, (vc _ _).2, ok.1, ok.2, ← gAll_eq Y.1 hc, ← bAll_eq Y.1 hc]
      exact ⟨rfl, rfl⟩
    obtain ⟨h', w2, w3, w4, w5, w6, w7, w8, r1, r2, r3, r4⟩ := mc_2 Y hp24 x1 r m (c + 1) w3 w4 w5 w6 w7 w8 (by omega) (Q.f f1) (I.f f1) C1 (fun x hx hr => by
      by_cases e : x = c
      · subst e; exact good (by omega)
      · unfold cR; rw [(vn x _ _ e).1, (vn x _ _ e).2]; exact h1 x hx hr) (fun x hx hr => by
      by_cases e : x = c
      · subst e; exact good hr
      · unfold cR; rw [(vn x _ _ e).1, (vn x _ _ e).2]; exact h2 x (by omega) hr)
    exact ⟨h', w2, w3, w4, w5, w6, w7, w8, r1, f1.trans r2, r3, r4⟩
theorem mc_1 (Y : kY K V Z chs) (hp24 : ∀ ch ∈ chs, ch.2.2.2.1.length ≤ 24) : ∀ (m r : Nat) {h : am_H} (u2 u3 u4 u5 u6 u7 u8 : Option am_V), r + m = chs.length → mQ K V P W Z chs h → mI K V chs chs.length h → CA h → (∀ x, x < chs.length → rkx V chs x < r → cR K V chs x h) → ∃ h', am_E (am_D d) m_17_169 (.inl 1) [some (am_r (am_a 254)), some (am_i (r : Int)), u2, u3, u4, u5, u6, u7, u8] [] (zS L, h) = pV L h' ∧ p_fr [353, 354] [] h h' ∧ CA h' ∧ ∀ x, x < chs.length → cR K V chs x h'
  | 0, r, h, u2, u3, u4, u5, u6, u7, u8, hm, Q, I, C, h1 => by
    rw [r_169_1, Q.2.1.1, if_neg (by omega)]
    exact ⟨h, rfl, p_fr.refl h, C, fun x hx => h1 x hx (by have := rk_rg Y.1 hx; omega)⟩
  | m + 1, r, h, u2, u3, u4, u5, u6, u7, u8, hm, Q, I, C, h1 => by
    have l16 := Q.2.1.2
    obtain ⟨h1', w2, w3, w4, w5, w6, w7, w8, r1, r2, r3, r4⟩ := mc_2 (d := d) (L := L) Y hp24 (r : Int) r chs.length 0 u3 u4 u5 u6 u7 u8 (by omega) Q I C h1 (fun x hx => by omega)
    rw [show ((0 : Nat) : Int) = 0 from rfl] at r1
    rw [r_169_1, Q.2.1.1, if_pos (by omega), r1, p_w (by omega) (by omega)]
    obtain ⟨h2, s1, s2, s3, s4⟩ := mc_1 Y hp24 m (r + 1) w2 w3 w4 w5 w6 w7 w8 (by omega) (Q.f r2) (I.f r2) r3 r4
    exact ⟨h2, s1, r2.trans s2, s3, s4⟩
/-- countAll -/
theorem mc_count (Y : kY K V Z chs) (hp24 : ∀ ch ∈ chs, ch.2.2.2.1.length ≤ 24) (Q : mQ K V P W Z chs h) (I : mI K V chs chs.length h) (C : CA h) : ∃ h', am_D (d + 1) 17 169 [am_r (am_a 254)] (zS L, h) = pV L h' ∧ p_fr [353, 354] [] h h' ∧ CA h' ∧ ∀ x, x < chs.length → cR K V chs x h' := by
  obtain ⟨h', r1, r2, r3, r4⟩ := mc_1 (d := d) (L := L) Y hp24 chs.length 0 none none none none none none none (by omega) Q I C (fun x hx hr => by omega)
  exact ⟨h', by rw [D_17_169]; exact r1, r2, r3, r4⟩
end
