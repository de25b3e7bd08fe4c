/-! CHIPS, 43: the board: the component builds a chip -/
section
variable {d L : Nat} {K V P : Nat → Int} {Z : Nat} {chs : List cCh} {ch : cCh}
theorem fPl_none {k x : Nat} : ∀ (ls : List cLk) {F : Nat → Option Int}, (∀ l ∈ ls, lkP K V chs k ch l ∧ 0 ≤ l.2.1.2.1 ∧ 0 ≤ l.2.2.2.1.2.1) → ibt V chs k ≤ x → F x = none → fPl K V chs k ch ls F x = none
  | [], F, _, _, h => h
  | l :: ls, F, hl, hx, h => by
    obtain ⟨p1, p2, p3⟩ := hl l (List.mem_cons_self ..)
    obtain ⟨-, -, -, -, -, -, l7, -⟩ := lof_rg p1 p2
    refine fPl_none ls (fun l' hl' => hl l' (List.mem_cons_of_mem _ hl')) hx ?_
    unfold fP1
    rw [if_neg]
    · exact h
    · rintro ⟨z1, z2, z3⟩
      have lt : lpn V chs k l < kIp chs k := by
        rcases z1 with w | w
        · exact w
        · rcases p1.2.2 with ⟨-, v⟩ | ⟨v, -⟩
          · exact v
          · exact absurd v w
      have := l7 lt
      omega
theorem fOl_none {k x : Nat} (hin : ch.2.2.1 ≤ ch.2.1.length) : ∀ (ls : List cLk) {F : Nat → Option Nat}, (∀ l ∈ ls, lkP K V chs k ch l ∧ 0 ≤ l.2.1.2.1 ∧ 0 ≤ l.2.2.2.1.2.1) → x < inb V ch → F x = none → fOl K V chs k ch ls F x = none
  | [], F, _, _, h => h
  | l :: ls, F, hl, hx, h => by
    obtain ⟨p1, p2, p3⟩ := hl l (List.mem_cons_self ..)
    refine fOl_none hin ls (fun l' hl' => hl l' (List.mem_cons_of_mem _ hl')) hx ?_
    unfold fO1
    rw [if_neg]
    · exact h
    · rintro ⟨⟨z1, z2⟩, z3, z4⟩
      have := (rof_rg p1 p2 p3 hin z2).2.1 z1
      unfold inb at hx
      omega
/-- what is known of all links -/
def kL (K V : Nat → Int) (chs : List cCh) : Prop := ∀ ch ∈ chs, ∀ q ∈ ch.2.2.2.1, ∀ k, kOf V chs (V q.1) = some k → ∀ l ∈ q.2, lkP K V chs k ch l ∧ (0 ≤ l.2.1.2.1 ∧ l.2.1.2.1 ≤ 99 ∧ 0 ≤ l.2.1.2.2 ∧ l.2.1.2.2 ≤ 99) ∧ 0 ≤ l.2.2.2.1.2.1 ∧ l.2.2.2.1.2.1 ≤ 99 ∧ 0 ≤ l.2.2.2.1.2.2 ∧ l.2.2.2.1.2.2 ≤ 99
/-- the counts of gates -/
def gCt (γ : Nat) (h : am_H) : Prop := h 195 9 = (γ : Int) ∧ h 195 10 = ((cz (h 201) γ : Nat) : Int) ∧ h 195 11 = (γ : Int) - h 195 10
/-- between parts -/
def bdI (K V P : Nat → Int) (Z : Nat) (chs : List cCh) (ch : cCh) (β γ lv rp m : Nat) (h0 : am_H) (p : Nat) (h : am_H) : Prop := (kZ K V P Z chs h ∧ h 195 3 = ((β + kO K V chs ch p : Nat) : Int) ∧ gCt (γ + gO V chs ch p) h ∧ rwP rp (cWs V ch) ch.2.1.length β h ∧ rwI (112 * lv) (cIW K V chs ch) ch.2.2.2.2.length (β + wsm V ch.2.1) h) ∧ ownF K V chs β ch (ch.2.2.2.1.take p) (h 196) ∧ (∀ p' q k, p' < p → ch.2.2.2.1[p']? = some q → kOf V chs (V q.1) = some k → prtF K V chs (β + kO K V chs ch p') β k ch q (h 196) ∧ (k < 2 → gatF V chs (β + kO K V chs ch p') (γ + gO V chs ch p') k (h 196) (h 198) (h 199) (h 200) (h 201)) ∧ (2 ≤ k → CN K V chs (h 196) (h 198) (h 199) (h 200) (h 201) m (k - 2) (β + kO K V chs ch p') (γ + gO V chs ch p'))) ∧ (∀ x, (x < β + inb V ch ∨ β + kO K V chs ch p ≤ x) → h 196 x = h0 196 x) ∧ (∀ x, x < 112 * lv → h 207 x = h0 207 x) ∧ (∀ x, (x < γ ∨ γ + gO V chs ch p ≤ x) → h 198 x = h0 198 x ∧ h 199 x = h0 199 x ∧ h 200 x = h0 200 x ∧ h 201 x = h0 201 x) ∧ (∀ x, β + ownx K V chs ch ≤ x → x < β + kO K V chs ch p → h 197 x = 0) ∧ (∀ x, (x < β + ownx K V chs ch ∨ β + kO K V chs ch p ≤ x) → h 197 x = h0 197 x) ∧ p_fr bdC bdF h0 h
/-- what a built chip is -/
def bdO (K V : Nat → Int) (chs : List cCh) (ch : cCh) (c β γ lv m : Nat) (h h' : am_H) : Prop := (h' 195 3 = ((β + bAll K V chs c : Nat) : Int) ∧ gCt (γ + gAll V chs c) h') ∧ CN K V chs (h' 196) (h' 198) (h' 199) (h' 200) (h' 201) m c β γ ∧ (∀ x, (x < β + inb V ch ∨ β + bAll K V chs c ≤ x) → h' 196 x = h 196 x) ∧ (∀ x, x < 112 * lv → h' 207 x = h 207 x) ∧ (∀ x, (x < γ ∨ γ + gAll V chs c ≤ x) → h' 198 x = h 198 x ∧ h' 199 x = h 199 x ∧ h' 200 x = h 200 x ∧ h' 201 x = h 201 x) ∧ (∀ x, β + wsm V ch.2.1 ≤ x → x < β + bAll K V chs c → h' 197 x = 0) ∧ (∀ x, (x < β + wsm V ch.2.1 ∨ β + bAll K V chs c ≤ x) → h' 197 x = h 197 x) ∧ p_fr bdC bdF h h'
theorem cz_cg {g g' : Nat → Int} : ∀ n, (∀ x, x < n → g x = g' x) → cz g n = cz g' n
  | 0, _ => rfl
  | n + 1, h => by
    unfold cz
    rw [cz_cg n (fun x hx => h x (by omega)), h n (by omega)]
/-- a chip's build, at any depth of chips -/
def bdSt (d L : Nat) (K V P : Nat → Int) (Z : Nat) (chs : List cCh) (m : Nat) : Prop := ∀ (c : Nat) (ch : cCh) (lv β γ rp : Nat) (h : am_H), rkx V chs c < m → chs[c]? = some ch → 1 ≤ lv → lv + rkx V chs c ≤ 16 → rp + 12 ≤ 112 * lv → kZ K V P Z chs h → h 195 3 = ((β + wsm V ch.2.1 : Nat) : Int) → gCt γ h → rwP rp (cWs V ch) ch.2.1.length β h → β + bAll K V chs c ≤ 40002 → γ + gAll V chs c ≤ 1500 → (∀ x, inb V ch ≤ x → x < wsm V ch.2.1 → h 196 (β + x) = 0) → ∃ h', am_D (d + m + 5) 2 8 [am_r (am_a 195), am_r (am_a (83 + 7 * c)), am_i (lv : Int), am_i (rp : Int)] (zS L, h) = pV L h' ∧ bdO K V chs ch c β γ lv m h h'
theorem cb_part (Y : kY K V Z chs) (E : kEx K V Z) (T : ∀ ch ∈ chs, cht K V Z ch) (LK : kL K V chs) (hin : ∀ ch ∈ chs, ch.2.2.1 < ch.2.1.length) {m c lv β γ rp : Nat} (IH : bdSt d L K V P Z chs m) (hc : chs[c]? = some ch) (hrk : rkx V chs c < m + 1) (hlv : 1 ≤ lv) (hlr : lv + rkx V chs c ≤ 16) (hrp : rp + 12 ≤ 112 * lv) (hb : β + bAll K V chs c ≤ 40002) (hg : γ + gAll V chs c ≤ 1500) {h0 h : am_H} {p : Nat} (hp : p < ch.2.2.2.1.length) (I : bdI K V P Z chs ch β γ lv rp m h0 p h) (u7 u8 u9 : Option am_V) : ∃ h' w7 w8 w9, am_E (am_D (d + m + 5)) m_2_8 (.inl 5) [some (am_r (am_a 195)), some (am_r (am_a (83 + 7 * c))), some (am_i (lv : Int)), some (am_i (rp : Int)), some (am_i ((112 * lv : Nat) : Int)), some (am_i ((112 * lv + 100 : Nat) : Int)), some (am_i (p : Int)), u7, u8, u9] [] (zS L, h) = am_E (am_D (d + m + 5)) m_2_8 (.inl 5) [some (am_r (am_a 195)), some (am_r (am_a (83 + 7 * c))), some (am_i (lv : Int)), some (am_i (rp : Int)), some (am_i ((112 * lv : Nat) : Int)), some (am_i ((112 * lv + 100 : Nat) : Int)), some (am_i ((p + 1 : Nat) : Int)), w7, w8, w9] [] (zS L, h') ∧ bdI K V P Z chs ch β γ lv rp m h0 (p + 1) h' := by
  obtain ⟨⟨S, hw, hgc, R2, R3⟩, OF, KF, F196, F207, FG, F197a, F197b, FR⟩ := I
  have hcl := (List.getElem?_eq_some_iff.1 hc).1
  have hcm := List.mem_of_getElem? hc
  have G16 := S.1.2.1.1.2
  have z2 := S.1.1.1.1
  have C0 := CB_c L c (by omega)
  obtain ⟨-, ⟨g1, g2⟩, -, g3, -⟩ := S.1.2.1.2.2 c ch hc
  obtain ⟨q, hqe⟩ : ∃ q, q = ch.2.2.2.1[p] := ⟨_, rfl⟩
  have hqp : ch.2.2.2.1[p]? = some q := by rw [hqe]; exact List.getElem?_eq_getElem hp
  have hqm := List.mem_of_getElem? hqp
  obtain ⟨qz, qn⟩ := Y.2.1 ch hcm q hqm
  obtain ⟨k, hk⟩ : ∃ k, kOf V chs (V q.1) = some k := by
    cases h : kOf V chs (V q.1) with
    | none => exact absurd h qn
    | some k => exact ⟨k, rfl⟩
  have hkl := kOf_rg hk
  have lks := LK ch hcm q hqm k hk
  have lks' : ∀ l ∈ q.2, lkP K V chs k ch l ∧ 0 ≤ l.2.1.2.1 ∧ 0 ≤ l.2.2.2.1.2.1 := fun l hl => ⟨(lks l hl).1, (lks l hl).2.1.1, (lks l hl).2.2.1⟩
  have Ck := CB_k L (show k < 18 by omega)
  obtain ⟨g6, g7⟩ := (S.1.2.1.2.1 k hkl).1
  obtain ⟨l1, l2, l3⟩ := kO_le (K := K) Y.1 hc hqp hk
  obtain ⟨n1, n2⟩ := kO_n (K := K) hqp hk
  obtain ⟨t1, t2, t3⟩ := pbt_tot (K := K) Y.1 hkl hin
  have hin' := Nat.le_of_lt (hin ch hcm)
  have rk1 := rk_rg Y.1 hcl
  obtain ⟨pb, hpb⟩ : ∃ pb, pb = β + kO K V chs ch p := ⟨_, rfl⟩
  obtain ⟨γp, hγp⟩ : ∃ γp, γp = γ + gO V chs ch p := ⟨_, rfl⟩
  rw [← hγp] at hgc FG
  rw [← hpb] at hw F196 F197a F197b
  obtain ⟨rf, hrf⟩ : ∃ rf, rf = 112 * lv + 100 := ⟨_, rfl⟩
  rw [← hrf]
  have rfb : rf + 12 ≤ 1904 := by omega
  -- the part, its wires
  rw [q_2_8_5, C0.ob, g1, if_pos (by omega), D_2_5, C0.ob, CB.r8, C0.a3, p_idx (by omega) (by omega), Int.toNat_natCast, g3 p q hqp, p_idx (by omega) (by omega), Int.toNat_natCast, (S.1.1.2 q.1 qz).2.2.1, ky_find (d := d + m + 3) S.1.2.1, p_xR, p_xR, hk, show kref (some k) = am_a (kb k) from rfl]
  obtain ⟨h1, w9, r1, a3, a6, a7, R1, e7, f1⟩ := cb_p6 (d := d + m + 4) (L := L) (h := h) hkl (am_a (83 + 7 * c)) (lv : Int) (rp : Int) ((112 * lv : Nat) : Int) (p : Int) (rf := rf) (w0 := pb) rfb (by omega) (kNm V chs k).length 0 u9 (h1 := h) (by omega) S hw (by rw [show wfl (kWd V chs k) 0 = 0 from rfl, fill_0]) (by rw [show wfl (kWd V chs k) 0 = 0 from rfl, fill_0]) (fun j hj => by omega) (fun x hx => rfl) (p_fr.refl h)
  rw [show d + m + 4 + 1 = d + m + 5 by omega, show ((0 : Nat) : Int) = 0 from rfl] at r1
  rw [r1, q_2_8_6, Ck.ob]
  have f1' : p_fr bdC bdF h h1 := f1.mono rfl rfl
  have S1 := S.fr (zbd f1')
  rw [(S1.1.2.1.2.1 k hkl).1.1, if_neg (by omega)]
  have gc1 : gCt γp h1 := by
    unfold gCt
    rw [f1 195 9 rfl rfl, f1 195 10 rfl rfl, f1 195 11 rfl rfl, f1.cell 201 rfl rfl]; exact hgc
  -- the gate
  have gate : ∃ h2, am_E (am_D (d + m + 5)) m_2_8 (.inl 10) [some (am_r (am_a 195)), some (am_r (am_a (83 + 7 * c))), some (am_i (lv : Int)), some (am_i (rp : Int)), some (am_i ((112 * lv : Nat) : Int)), some (am_i (rf : Int)), some (am_i (p : Int)), some (am_r (am_a (kb k))), some (am_i ((kNm V chs k).length : Int)), w9] [] (zS L, h2) = (am_xI (zS L) (am_D (d + m + 5) 2 6 [am_r (am_a 195), am_r (am_a (kb k))] (zS L, h1)) (am_up1 (zS L)) fun v4 h3 => if (v4 : Int) = 0 then am_E (am_D (d + m + 5)) m_2_8 (.inl 10) [some (am_r (am_a 195)), some (am_r (am_a (83 + 7 * c))), some (am_i (lv : Int)), some (am_i (rp : Int)), some (am_i ((112 * lv : Nat) : Int)), some (am_i (rf : Int)), some (am_i (p : Int)), some (am_r (am_a (kb k))), some (am_i ((kNm V chs k).length : Int)), w9] [] (zS L, h3) else am_xV (zS L) (am_D (d + m + 5) 2 9 [am_r (am_a 195), am_r (am_a (kb k)), am_i (rf : Int)] (zS L, h3)) (am_up1 (zS L)) fun h5 => am_E (am_D (d + m + 5)) m_2_8 (.inl 10) [some (am_r (am_a 195)), some (am_r (am_a (83 + 7 * c))), some (am_i (lv : Int)), some (am_i (rp : Int)), some (am_i ((112 * lv : Nat) : Int)), some (am_i (rf : Int)), some (am_i (p : Int)), some (am_r (am_a (kb k))), some (am_i ((kNm V chs k).length : Int)), w9] [] (zS L, h5)) ∧ p_fr [196, 198, 199, 200, 201] [(195, 9), (195, 10), (195, 11)] h1 h2 ∧ (k < 2 ∧ h2 196 = p_set (h1 196) (pb + ibt V chs k) ((pb + ibt V chs k : Nat) : Int) ∧ h2 198 = p_set (h1 198) γp (pb : Int) ∧ h2 199 = p_set (h1 199) γp ((if k = 0 then pb + 1 else pb : Nat) : Int) ∧ h2 200 = p_set (h1 200) γp ((pb + ibt V chs k : Nat) : Int) ∧ h2 201 = p_set (h1 201) γp (if k = 1 then 1 else 0) ∧ gCt (γp + 1) h2 ∨ 2 ≤ k ∧ h2 = h1) := by
    rw [D_2_6, acmp_e, acmp_n]
    by_cases k2 : k < 2
    · have gt : gts V chs k = 1 := by unfold gts; rw [if_pos k2]
      obtain ⟨h2, r2, b6, b8, b9, b0, b1, c9, c10, c11, f2⟩ := cb_gate (d := d + m + 4) (L := L) S1 k2 rfb R1 (by omega) gc1.1 (by omega) gc1.2.1 gc1.2.2
      rw [show d + m + 4 + 1 = d + m + 5 by omega] at r2
      have yes : (if kb k = 38 then am_bit 1 (pI L 1 h1) else if kb k = 45 then am_bit 1 (pI L 1 h1) else am_bit 0 (pI L 0 h1)) = pI L 1 h1 := by
        rcases (show k = 0 ∨ k = 1 by omega) with rfl | rfl
        · rw [if_pos (show kb 0 = 38 from rfl), p_bit1]
        · rw [if_neg (show ¬ kb 1 = 38 by decide), if_pos (show kb 1 = 45 from rfl), p_bit1]
      exact ⟨h2, by rw [yes, p_xI, if_neg (by decide), r2, p_xV], f2, Or.inl ⟨k2, b6, b8, b9, b0, b1, c9, c10, c11⟩⟩
    · have no : (if kb k = 38 then am_bit 1 (pI L 1 h1) else if kb k = 45 then am_bit 1 (pI L 1 h1) else am_bit 0 (pI L 0 h1)) = pI L 0 h1 := by
        have : kb k = 69 + 7 * k := by unfold kb; rw [if_neg k2]
        rw [if_neg (by omega), if_neg (by omega), p_bit0]
      exact ⟨h1, by rw [no, p_xI, if_pos rfl], p_fr.refl h1, Or.inr ⟨by omega, rfl⟩⟩
  obtain ⟨h2, r2, f2, c2⟩ := gate
  rw [← r2]
  have f2' : p_fr bdC bdF h1 h2 := f2.mono rfl rfl
  have S2 := S1.fr (zbd f2')
  have e72 : h2 207 = h1 207 := f2.cell 207 rfl rfl
  have rows : ∀ x, (x < rf ∨ rf + 12 ≤ x) → h2 207 x = h 207 x := fun x hx => by rw [e72]; exact e7 x hx
  have R1' : rwP rf (kWd V chs k) (kNm V chs k).length pb h2 := by unfold rwP; rw [e72]; exact R1
  have R2' : rwP rp (cWs V ch) ch.2.1.length β h2 := fun j hj => by
    have := Y.2.2.2.1 ch hcm
    rw [rows _ (by omega)]; exact R2 j hj
  have R3' : rwI (112 * lv) (cIW K V chs ch) ch.2.2.2.2.length (β + wsm V ch.2.1) h2 := fun j hj => by
    have := Y.2.2.2.1 ch hcm
    rw [rows _ (by omega)]; exact R3 j hj
  -- connecting
  obtain ⟨-, -, -, hqt⟩ := T ch hcm
  obtain ⟨h3, r3, a36, f3⟩ := cb_conn (d := d + m + 1) (L := L) hc hkl E hin' (rp := rp) (ri := 112 * lv) (rf := rf) (pb := pb) (ob := β) (by omega) (by omega) rfb (by omega) (by omega) (hqt q hqm) S2 lks R1' R2' R3'
  have g3' := (S2.1.2.1.2.2 c ch hc).2.2.2.1 p q hqp
  rw [show d + m + 1 + 4 = d + m + 5 by omega] at r3
  rw [q_2_8_10, C0.ob, CB.r8, C0.a3, p_idx (by omega) (by omega), Int.toNat_natCast, g3', p_w (x := (q.1 : Int) + 2) (by omega) (by omega), show (q.1 : Int) + 2 = ((q.1 + 2 : Nat) : Int) by omega, r3, p_xV]
  have f3' : p_fr bdC bdF h2 h3 := f3.mono rfl rfl
  have S3 := S2.fr (zbd f3')
  -- what the row of sources is now
  have s1 : ∀ x, h1 196 x = if pb ≤ x ∧ x < pb + pbt V chs k then 0 else h 196 x := fun x => by rw [a6]; rfl
  have s2 : ∀ x, h2 196 x = if k < 2 ∧ x = pb + ibt V chs k then ((pb + ibt V chs k : Nat) : Int) else h1 196 x := fun x => by
    rcases c2 with ⟨k2, b6, -⟩ | ⟨k2, e⟩
    · rw [b6]; unfold p_set
      by_cases z : x = pb + ibt V chs k
      · rw [if_pos z, if_pos ⟨k2, z⟩]
      · rw [if_neg z, if_neg (fun w => z w.2)]
    · rw [e, if_neg (by omega)]
  obtain ⟨q1, q2, q3⟩ := lnks_at (K := K) (V := V) (chs := chs) (ch := ch) (z := 0) (o := 1) (pb := pb) (ob := β) (k := k) (m := pbt V chs k) (S0 := h2 196) hin' (Nat.le_refl _) (Or.inr (by omega)) q.2 (S := h2 196) (F := fun _ => none) (G := fun _ => none) lks' (fun x hx => rfl) (fun x hx => rfl) (fun x _ _ => rfl)
  rw [← a36] at q1 q2 q3
  -- IN bits of the part
  have PF : prtF K V chs pb β k ch q (h3 196) := fun x hx => by
    have := q1 x (by omega)
    rw [this]
    unfold finP
    cases hf : fPl K V chs k ch q.2 (fun _ => none) x with
    | some v => rfl
    | none =>
      dsimp only
      rw [s2, if_neg (by omega), s1, if_pos (by omega)]
  -- OUT bits
  have OB : ∀ x, ibt V chs k ≤ x → x < pbt V chs k → h3 196 (pb + x) = h2 196 (pb + x) := fun x hx1 hx2 => by
    have := q1 x hx2
    rw [this, fPl_none q.2 lks' hx1 rfl]
  -- ownx bits
  have OW : ownF K V chs β ch (ch.2.2.2.1.take (p + 1)) (h3 196) := fun x hx1 hx2 => by
    have := q2 x hx2
    rw [this, List.take_succ_eq_append_getElem hp, ← hqe, finO_app, List.length_take, Nat.min_eq_left (by omega), Nat.zero_add]
    show _ = match (match kOf V chs (V q.1) with
      | some k => (match fOl K V chs k ch q.2 (fun _ => none) x with | some y => some (p, y) | none => finO K V chs ch (ch.2.2.2.1.take p) 0 (fun _ => none) x)
      | none => finO K V chs ch (ch.2.2.2.1.take p) 0 (fun _ => none) x) with
      | some (p, y) => ((β + kO K V chs ch p + y : Nat) : Int)
      | none => if x < wsm V ch.2.1 then 0 else ((β + x : Nat) : Int)
    rw [hk]
    dsimp only
    cases hf : fOl K V chs k ch q.2 (fun _ => none) x with
    | some y =>
      dsimp only
      rw [← hpb]
    | none =>
      dsimp only
      rw [s2, if_neg (by omega), s1, if_neg (by omega)]
      exact OF x hx1 hx2
  have UN : ∀ x, (x < β + inb V ch ∨ (β + ownx K V chs ch ≤ x ∧ x < pb) ∨ pb + pbt V chs k ≤ x) → h3 196 x = h 196 x := fun x hx => by
    have ib : inb V ch ≤ ownx K V chs ch := by
      have : wfl (cWs V ch) ch.2.2.1 ≤ wsm V ch.2.1 := by rw [← wfl_all]; exact wfl_mono _ hin'
      unfold inb ownx; omega
    have base : h2 196 x = h 196 x := by rw [s2, if_neg (by omega), s1, if_neg (by omega)]
    by_cases z : β ≤ x ∧ x < β + inb V ch
    · have := q2 (x - β) (by omega)
      rw [show β + (x - β) = x by omega] at this
      rw [this, fOl_none hin' q.2 lks' (by omega) rfl]
      exact base
    · rw [q3 x (by omega) (by omega)]; exact base
  -- gates
  have gA : ∀ x, (x < γp ∨ γp + gts V chs k ≤ x) → h3 198 x = h 198 x ∧ h3 199 x = h 199 x ∧ h3 200 x = h 200 x ∧ h3 201 x = h 201 x := fun x hx => by
    rw [f3.cell 198 rfl rfl, f3.cell 199 rfl rfl, f3.cell 200 rfl rfl, f3.cell 201 rfl rfl]
    rcases c2 with ⟨k2, -, b8, b9, b0, b1, -⟩ | ⟨k2, e⟩
    · have gt : gts V chs k = 1 := by unfold gts; rw [if_pos k2]
      rw [b8, b9, b0, b1, f1.cell 198 rfl rfl, f1.cell 199 rfl rfl, f1.cell 200 rfl rfl, f1.cell 201 rfl rfl]
      unfold p_set
      rw [if_neg (by omega), if_neg (by omega), if_neg (by omega), if_neg (by omega)]
      exact ⟨rfl, rfl, rfl, rfl⟩
    · rw [e, f1.cell 198 rfl rfl, f1.cell 199 rfl rfl, f1.cell 200 rfl rfl, f1.cell 201 rfl rfl]
      exact ⟨rfl, rfl, rfl, rfl⟩
  -- older parts
  have OLD : ∀ {hz : am_H}, (∀ x, (β + ownx K V chs ch ≤ x ∧ x < pb) → hz 196 x = h 196 x) → (∀ x, x < γp → hz 198 x = h 198 x ∧ hz 199 x = h 199 x ∧ hz 200 x = h 200 x ∧ hz 201 x = h 201 x) → ∀ p' q k, p' < p → ch.2.2.2.1[p']? = some q → kOf V chs (V q.1) = some k → prtF K V chs (β + kO K V chs ch p') β k ch q (hz 196) ∧ (k < 2 → gatF V chs (β + kO K V chs ch p') (γ + gO V chs ch p') k (hz 196) (hz 198) (hz 199) (hz 200) (hz 201)) ∧ (2 ≤ k → CN K V chs (hz 196) (hz 198) (hz 199) (hz 200) (hz 201) m (k - 2) (β + kO K V chs ch p') (γ + gO V chs ch p')) := by
    intro hz hz1 hz2 p' q' k' hp' hq' hk'
    obtain ⟨x1, x2, x3⟩ := KF p' q' k' hp' hq' hk'
    obtain ⟨y1, y2, y3⟩ := kO_le (K := K) Y.1 hc hq' hk'
    obtain ⟨m1, m2⟩ := kO_n (K := K) hq' hk'
    obtain ⟨m3, m4⟩ := kO_mono (K := K) (V := V) (chs := chs) ch (show p' + 1 ≤ p by omega)
    obtain ⟨t1', t2', -⟩ := pbt_tot (K := K) Y.1 (kOf_rg hk') hin
    refine ⟨fun x hx => by rw [hz1 _ (by omega)]; exact x1 x hx, fun k2 => ?_, fun k2 => ?_⟩
    · have gt : gts V chs k' = 1 := by unfold gts; rw [if_pos k2]
      obtain ⟨z1, z2, z3, z4, z5⟩ := x2 k2
      obtain ⟨v1, v2, v3, v4⟩ := hz2 (γ + gO V chs ch p') (by omega)
      exact ⟨by rw [hz1 _ (by omega)]; exact z1, by rw [v1]; exact z2, by rw [v2]; exact z3, by rw [v3]; exact z4, by rw [v4]; exact z5⟩
    · have tt : tot K V chs k' = bAll K V chs (k' - 2) := by unfold tot; rw [if_neg (by omega), if_neg (by omega)]
      have gt : gts V chs k' = gAll V chs (k' - 2) := by unfold gts; rw [if_neg (by omega)]
      exact CN_fr Y.1 hin m _ _ _ (x3 k2) (fun x hx1 hx2 => hz1 x (by omega)) (fun x hx1 hx2 => hz2 x (by omega))
  have FR3 : p_fr bdC bdF h0 h3 := ((FR.trans f1').trans f2').trans f3'
  have w3 : h3 195 3 = ((pb + pbt V chs k : Nat) : Int) := by rw [f3 195 3 rfl rfl, f2 195 3 rfl rfl]; exact a3
  have b3 : ∀ x, h3 197 x = if pb ≤ x ∧ x < pb + pbt V chs k then 0 else h 197 x := fun x => by rw [f3.cell 197 rfl rfl, f2.cell 197 rfl rfl, a7]; rfl
  have rows3 : ∀ x, (x < rf ∨ rf + 12 ≤ x) → h3 207 x = h 207 x := fun x hx => by rw [f3.cell 207 rfl rfl]; exact rows x hx
  have R1'' : rwP rf (kWd V chs k) (kNm V chs k).length pb h3 := by unfold rwP; rw [f3.cell 207 rfl rfl]; exact R1'
  have yl := Y.2.2.2.1 ch hcm
  rw [D_2_6, acmp_e, acmp_n]
  rcases c2 with ⟨k2, b6, b8, b9, b0, b1, gc2⟩ | ⟨k2, e2⟩
  · -- a gate: done
    have yes : (if kb k = 38 then am_bit 1 (pI L 1 h3) else if kb k = 45 then am_bit 1 (pI L 1 h3) else am_bit 0 (pI L 0 h3)) = pI L 1 h3 := by
      rcases (show k = 0 ∨ k = 1 by omega) with rfl | rfl
      · rw [if_pos (show kb 0 = 38 from rfl), p_bit1]
      · rw [if_neg (show ¬ kb 1 = 38 by decide), if_pos (show kb 1 = 45 from rfl), p_bit1]
    have gt : gts V chs k = 1 := by unfold gts; rw [if_pos k2]
    have tt : tot K V chs k = pbt V chs k := by rcases (show k = 0 ∨ k = 1 by omega) with rfl | rfl <;> rfl
    rw [yes, p_xI, if_neg (by decide), p_w (by omega) (by omega)]
    have GF : gatF V chs pb γp k (h3 196) (h3 198) (h3 199) (h3 200) (h3 201) := by
      unfold gatF
      rw [f3.cell 198 rfl rfl, f3.cell 199 rfl rfl, f3.cell 200 rfl rfl, f3.cell 201 rfl rfl, b8, b9, b0, b1, OB _ (Nat.le_refl _) t2, s2, if_pos ⟨k2, rfl⟩]
      unfold p_set
      rw [if_pos rfl, if_pos rfl, if_pos rfl, if_pos rfl]
      exact ⟨rfl, rfl, rfl, rfl, rfl⟩
    have e : β + kO K V chs ch (p + 1) = pb + pbt V chs k := by omega
    have eg : γ + gO V chs ch (p + 1) = γp + 1 := by omega
    refine ⟨h3, _, _, _, rfl, ⟨S3, by rw [w3, e], ?_, fun j hj => by rw [rows3 _ (by omega)]; exact R2 j hj, fun j hj => by rw [rows3 _ (by omega)]; exact R3 j hj⟩, OW, fun p' q' k' hp' hq' hk' => ?_, fun x hx => ?_, fun x hx => ?_, fun x hx => ?_, fun x hx1 hx2 => ?_, fun x hx => ?_, FR3⟩
    · rw [eg]; unfold gCt; rw [f3 195 9 rfl rfl, f3 195 10 rfl rfl, f3 195 11 rfl rfl, f3.cell 201 rfl rfl]; exact gc2
    · by_cases z : p' = p
      · subst z
        rw [hqp] at hq'; cases hq'
        rw [hk] at hk'; cases hk'
        rw [← hpb, ← hγp]
        exact ⟨PF, fun _ => GF, fun w => by omega⟩
      · exact OLD (fun x hx => UN x (Or.inr (Or.inl hx))) (fun x hx => gA x (Or.inl hx)) p' q' k' (by omega) hq' hk'
    · rw [UN x (by omega)]; exact F196 x (by omega)
    · rw [rows3 x (by omega)]; exact F207 x hx
    · obtain ⟨v1, v2, v3, v4⟩ := gA x (by omega)
      rw [v1, v2, v3, v4]; exact FG x (by omega)
    · rw [b3]
      by_cases z : pb ≤ x ∧ x < pb + pbt V chs k
      · rw [if_pos z]
      · rw [if_neg z]; exact F197a x hx1 (by omega)
    · rw [b3, if_neg (by omega)]; exact F197b x (by omega)
  · -- a chip
    obtain ⟨ch', hc', t4, t5, t6⟩ := t3 k2
    have kbk : kb k = 83 + 7 * (k - 2) := by unfold kb; rw [if_neg (by omega)]; omega
    have no : (if kb k = 38 then am_bit 1 (pI L 1 h3) else if kb k = 45 then am_bit 1 (pI L 1 h3) else am_bit 0 (pI L 0 h3)) = pI L 0 h3 := by
      rw [if_neg (by omega), if_neg (by omega), p_bit0]
    have tt : tot K V chs k = bAll K V chs (k - 2) := by unfold tot; rw [if_neg (by omega), if_neg (by omega)]
    have gt : gts V chs k = gAll V chs (k - 2) := by unfold gts; rw [if_neg (by omega)]
    have kc := kNm_c (V := V) hc'
    rw [show 2 + (k - 2) = k by omega] at kc
    have rkk := rk_lt Y.1 (a := c) (b := k - 2) ⟨ch, q, hc, hqm, by rw [hk, show 2 + (k - 2) = k by omega]⟩
    have gc3 : gCt γp h3 := by
      unfold gCt
      rw [f3 195 9 rfl rfl, f3 195 10 rfl rfl, f3 195 11 rfl rfl, f3.cell 201 rfl rfl, e2]; exact gc1
    obtain ⟨h4, r4, ⟨⟨o1, o2⟩, o3, o4, o5, o6, o7, o8, o9⟩⟩ := IH (k - 2) ch' (lv + 1) pb γp rf h3 (by omega) hc' (by omega) (by omega) (by omega) S3 (by rw [w3, t5]) gc3 (by rw [kc.2.1, kc.1, show (cNm V ch').length = ch'.2.1.length by unfold cNm; rw [List.length_map]] at R1''; exact R1'') (by omega) (by omega) (fun x hx1 hx2 => by
      rw [OB x (by omega) (by omega), s2, if_neg (by omega), s1, if_pos (by omega)])
    rw [no, p_xI, if_pos rfl, p_w (x := (lv : Int) + 1) (by omega) (by omega), kbk, show (lv : Int) + 1 = ((lv + 1 : Nat) : Int) by omega, r4, p_xV, p_w (by omega) (by omega)]
    have S4 := S3.fr (zbd o9)
    have e : β + kO K V chs ch (p + 1) = pb + bAll K V chs (k - 2) := by omega
    have eg : γ + gO V chs ch (p + 1) = γp + gAll V chs (k - 2) := by omega
    have UN4 : ∀ x, (x < β + inb V ch ∨ (β + ownx K V chs ch ≤ x ∧ x < pb) ∨ pb + bAll K V chs (k - 2) ≤ x) → h4 196 x = h 196 x := fun x hx => by
      have ib : inb V ch ≤ ownx K V chs ch := by
        have : wfl (cWs V ch) ch.2.2.1 ≤ wsm V ch.2.1 := by rw [← wfl_all]; exact wfl_mono _ hin'
        unfold inb ownx; omega
      rw [o4 x (by omega)]; exact UN x (by omega)
    have gA4 : ∀ x, (x < γp ∨ γp + gAll V chs (k - 2) ≤ x) → h4 198 x = h 198 x ∧ h4 199 x = h 199 x ∧ h4 200 x = h 200 x ∧ h4 201 x = h 201 x := fun x hx => by
      obtain ⟨v1, v2, v3, v4⟩ := o6 x hx
      rw [v1, v2, v3, v4]; exact gA x (by omega)
    refine ⟨h4, _, _, _, rfl, ⟨S4, by rw [o1, e], by rw [eg]; exact o2, fun j hj => by rw [o5 _ (by omega), rows3 _ (by omega)]; exact R2 j hj, fun j hj => by rw [o5 _ (by omega), rows3 _ (by omega)]; exact R3 j hj⟩, fun x hx1 hx2 => ?_, fun p' q' k' hp' hq' hk' => ?_, fun x hx => ?_, fun x hx => ?_, fun x hx => ?_, fun x hx1 hx2 => ?_, fun x hx => ?_, FR3.trans o9⟩
    · rw [o4 _ (by omega)]; exact OW x hx1 hx2
    · by_cases z : p' = p
      · subst z
        rw [hqp] at hq'; cases hq'
        rw [hk] at hk'; cases hk'
        rw [← hpb, ← hγp]
        refine ⟨fun x hx => ?_, fun w => by omega, fun _ => o3⟩
        rw [o4 _ (by omega)]; exact PF x hx
      · exact OLD (fun x hx => UN4 x (Or.inr (Or.inl hx))) (fun x hx => gA4 x (Or.inl hx)) p' q' k' (by omega) hq' hk'
    · rw [UN4 x (by omega)]; exact F196 x (by omega)
    · rw [o5 x (by omega), rows3 x (by omega)]; exact F207 x hx
    · obtain ⟨v1, v2, v3, v4⟩ := gA4 x (by omega)
      rw [v1, v2, v3, v4]; exact FG x (by omega)
    · by_cases z : pb + wsm V ch'.2.1 ≤ x
      · exact o7 x z (by omega)
      · rw [o8 x (by omega), b3]
        by_cases z' : pb ≤ x ∧ x < pb + pbt V chs k
        · rw [if_pos z']
        · rw [if_neg z']; exact F197a x hx1 (by omega)
    · rw [o8 x (by omega), b3, if_neg (by omega)]; exact F197b x (by omega)
end
