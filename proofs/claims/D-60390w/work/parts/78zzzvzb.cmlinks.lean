/-! CHIPS, 28: the model's links -/
section
variable {d L : Nat} {K V P : Nat → Int} {W : Nat → List Int} {Z : Nat} {chs : List cCh} {ch : cCh} {c : Nat} {h h' : am_H}
def gpN (chs : List cCh) (k p : Nat) : Nat := if k < 2 then p else oP chs (k - 2) + p
theorem gp_N (chs : List cCh) (k p : Nat) : cgp chs k (p : Int) = (gpN chs k p : Int) := by unfold cgp gpN; split <;> omega
def sM (chs : List cCh) (c : Nat) (ch : cCh) (k : Nat) (s : cSt) (h : am_H) : Prop := (∀ p, p < kIp chs k → h 350 (gpN chs k p) = s.1 p) ∧ oM chs c ch s.2 h
def ckC : List Nat := [348, 350, 351]
theorem ck_q (f : p_fr ckC ntF h h') : p_fr nfC ntF h h' := f.mono rfl rfl
theorem gM.fr {X : Nat → Int} (G : gM chs c ch X h) (f : p_fr ckC ntF h h') : gM chs c ch X h' := by unfold gM; rw [f.cell 347 rfl rfl]; exact G
theorem fRl.fr {l : cLk} {k : Nat} (G : fRl l k h) (f : p_fr ckC ntF h h') : fRl l k h' := by
  unfold fRl
  rw [f.cell 337 rfl rfl, f.cell 338 rfl rfl, f.cell 339 rfl rfl, f.cell 340 rfl rfl, f.cell 341 rfl rfl, f.cell 342 rfl rfl, f.cell 343 rfl rfl, f.cell 344 rfl rfl]
  exact G
theorem mn_clink (E : kEx K V Z) (G : mWd K V W Z) (hP : ∀ x y, x < y → y ≤ Z → P x < P y) (T : ∀ ch ∈ chs, cht K V Z ch) (Q : mQ K V P W Z chs h) (hc : chs[c]? = some ch) {i : Nat} {q : Nat × List cLk} (hi : ch.2.2.2.1[i]? = some q) {j : Nat} {l : cLk} (hj : q.2[j]? = some l) {k : Nat} (hk : k < 2 + chs.length) {X : Nat → Int} (hX : gM chs c ch X h) (hXr : ∀ j, X j = -1 ∨ 0 ≤ X j) {F : Option (Int × Int)} (N : nR F h) (u5 u6 u7 u8 u9 u10 : Option am_V) : ∃ h' ns w5 w6 w7 w8 w9 w10, am_E (am_D (d + 3)) m_17_167 (.inl 7) [some (am_r (am_a 254)), some (am_i (c : Int)), some (am_i ((oT chs c + i : Nat) : Int)), some (am_i (k : Int)), some (am_i ((oLx chs (oT chs c + i) + j : Nat) : Int)), u5, u6, u7, u8, u9, u10] [] (zS L, h) = am_E (am_D (d + 3)) m_17_167 (.inl 7) [some (am_r (am_a 254)), some (am_i (c : Int)), some (am_i ((oT chs c + i : Nat) : Int)), some (am_i (k : Int)), some (am_i ((oLx chs (oT chs c + i) + (j + 1) : Nat) : Int)), w5, w6, w7, w8, w9, w10] [] (zS L, h') ∧ nR (nfoldx P F ns) h' ∧ nrg l.1 l.2.2.2.2 ns ∧ p_fr ckC ntF h h' ∧ ∀ s, sM chs c ch k s h → (match lkS K V chs k ch X l s with
      | .inl e => lstx P e ns
      | .inr u => ns = [] ∧ sM chs c ch k u h') := by
  have l16 := Q.2.1.2
  have z2 := Q.1.1.1
  have hcl := (List.getElem?_eq_some_iff.1 hc).1
  have Tc := T ch (List.mem_of_getElem? hc)
  have hqm := List.mem_of_getElem? hi
  have hlm := List.mem_of_getElem? hj
  obtain ⟨t0, t1, t2, t3, t4, t5, t6, t7⟩ := cht_lk E Tc hqm hlm
  obtain ⟨-, -, -, lb, -⟩ := lkT_rg E.1 t0 t2
  have qa := aT_at hc hi
  have ql := (List.getElem?_eq_some_iff.1 qa).1
  have ln := oL_n qa
  have jl := (List.getElem?_eq_some_iff.1 hj).1
  obtain ⟨b1, b2, b3, b4⟩ := Q.2.2.1
  have bl : oLx chs (oT chs c + i + 1) ≤ (fll (aT chs)).length := by
    unfold oLx fll
    have : (aT chs).flatMap (·.2) = ((aT chs).take (oT chs c + i + 1)).flatMap (·.2) ++ ((aT chs).drop (oT chs c + i + 1)).flatMap (·.2) := by rw [← List.flatMap_append, List.take_append_drop]
    rw [this, List.length_append]; exact Nat.le_add_right _ _
  have hf := (Q.2.2.2.2.2.2.2.1 _ q qa).2 j l hj
  obtain ⟨gl, hgl⟩ : ∃ gl, gl = oLx chs (oT chs c + i) + j := ⟨_, rfl⟩
  rw [← hgl] at hf
  have hf' := hf
  obtain ⟨⟨l1, l2, l3, l4⟩, l5, l6, l7⟩ := hf'
  have pk : K l.1 = 2 := t0.1
  have pt : ∀ t, t ≤ Z → h 258 t = P t := fun t ht => (Q.1.2.1 t ht).2.1
  have lp : lpn V chs k l = ffnd (V l.1) (kNm V chs k) 0 := rfl
  have lr := ffnd_rg (kNm V chs k) (V l.1) 0
  rw [← lp] at lr
  have pin := mn_pinOf (d := d) (L := L) Q G (fun ch hch => cht_pn (T ch hch)) hk (t := l.1) t2 pk
  rw [← lp] at pin
  have gx : ((gl : Nat) : Int) + 1 = ((oLx chs (oT chs c + i) + (j + 1) : Nat) : Int) := by omega
  have note : ∀ (n : Int) (t : Nat) {g : am_H} {F' : Option (Int × Int)}, 0 < n → t ≤ Z → p_fr ckC ntF h g → nR F' g → ∃ h', am_D (d + 3) 17 58 [am_r (am_a 254), am_i n, am_i (t : Int)] (zS L, g) = pV L h' ∧ nR (nfoldx P F' [(n, t)]) h' ∧ p_fr [] ntF g h' := fun n t {g F'} hn ht fg Ng => by
    exact mn_note (d := d + 2) (L := L) (P := P) Ng hn (show t < 2002 by omega) (by rw [fg.cell 258 rfl rfl]; exact pt t ht)
  rw [← hgl, q_17_167_7, p_w (x := ((oT chs c + i : Nat) : Int) + 1) (by omega) (by omega), p_idx (by omega) (by omega), show (((oT chs c + i : Nat) : Int) + 1).toNat = oT chs c + i + 1 by omega, Q.2.2.2.2.2.2.1 (oT chs c + i + 1) (by omega), ln, if_pos (by omega), p_idx (by omega) (by omega), Int.toNat_natCast, l1, pin, p_xI, p_w (x := (gl : Int) + 1) (by omega) (by omega), gx]
  by_cases y1 : lpn V chs k l = -1
  · obtain ⟨h1, r1, r2, r3⟩ := note 4 l.1 (by decide) t2 (p_fr.refl h) N
    rw [if_pos y1, if_pos rfl, p_idx (by omega) (by omega), Int.toNat_natCast, l1, r1, p_xV]
    refine ⟨h1, [(4, l.1)], _, _, _, _, _, _, rfl, r2, nrg1 (Nat.le_refl _) (show l.1 < l.2.2.2.2 by omega) (show (0 : Int) < 4 by decide), r3.mono rfl rfl, fun s hs => ?_⟩
    unfold lkS
    rw [if_pos y1]
    exact lst1 P _
  have p0 : 0 ≤ lpn V chs k l ∧ lpn V chs k l < ((kNm V chs k).length : Int) := by omega
  have g1 := gp_rg Q hk p0.1 p0.2
  obtain ⟨gn, hgn⟩ : ∃ gn : Nat, cgp chs k (lpn V chs k l) = (gn : Int) := ⟨(cgp chs k (lpn V chs k l)).toNat, by omega⟩
  have hgn' : gn = gpN chs k (lpn V chs k l).toNat := by
    have := gp_N chs k (lpn V chs k l).toNat
    rw [show (((lpn V chs k l).toNat : Nat) : Int) = lpn V chs k l by omega, hgn] at this
    omega
  have wr := lwd_rg (V := V) (chs := chs) k l
  have we : (kWd V chs k).getD (lpn V chs k l).toNat 1 = lwd V chs k l := rfl
  rw [if_neg y1, if_neg (by omega), mn_width (d := d + 2) Q hk p0.1 p0.2, p_xI, we, p_idx (by omega) (by omega), p_idx (by omega) (by omega), p_idx (by omega) (by omega), Int.toNat_natCast, l2, l3, l4, mn_fits (d := d + 2) (r := l.2.1) (w := lwd V chs k l) wr.1 (fun _ => ⟨rfl, rfl⟩), p_xI]
  obtain ⟨b, hb⟩ : ∃ b : Bool, (b = true ↔ (kIp chs k : Int) ≤ lpn V chs k l) ∧ pB ((kIp chs k : Int) ≤ lpn V chs k l) = bI b := by
    by_cases z : (kIp chs k : Int) ≤ lpn V chs k l
    · exact ⟨true, ⟨fun _ => z, fun _ => rfl⟩, by rw [pB_t z]; rfl⟩
    · exact ⟨false, ⟨fun y => (by cases y), fun y => absurd y z⟩, by rw [pB_f z]; rfl⟩
  have out : ∀ {g : am_H}, p_fr ckC ntF h g → am_D (d + 3) 17 160 [am_r (am_a 254), am_i (k : Int), am_i (gn : Int)] (zS L, g) = pI L (bI b) g := fun {g} fg => by
    rw [← hgn, mn_isOut (d := d + 2) (Q.fr (ck_q fg)) hk p0.1 p0.2, hb.2]
  rw [hgn]
  -- the right side
  have right : ∀ {g : am_H} {F' : Option (Int × Int)} (bt : Int), p_fr ckC ntF h g → nR F' g → ∃ h' ns, am_D (d + 3) 17 166 [am_r (am_a 254), am_i (c : Int), am_i (gl : Int), am_i (bI b), am_i bt] (zS L, g) = pV L h' ∧ nR (nfoldx P F' ns) h' ∧ nrg l.2.2.1 l.2.2.2.2 ns ∧ p_fr rgC ntF g h' ∧ rSay K V P chs c ch X l b bt ns g h' := fun {g F'} bt fg Ng =>
    mn_right (d := d) (L := L) E hP Tc (Q.fr (ck_q fg)) hc hqm hlm (by omega) (hf.fr fg) (hX.fr fg) hXr b Ng
  by_cases y5 : rok l.2.1 (lwd V chs k l)
  · have cv := rlo_rg (r := l.2.1) (w := lwd V chs k l) t6 wr
    have rn1 : rn l.2.1 (lwd V chs k l) ≠ -1 := by unfold rn; unfold rok at y5; omega
    rw [pB_t y5, if_neg (show ¬ (1 : Int) = 0 by decide), p_idx (by omega) (by omega), p_idx (by omega) (by omega), p_idx (by omega) (by omega), Int.toNat_natCast, l2, l3, l4, mn_bits (d := d + 2) (r := l.2.1) (w := lwd V chs k l) (fun _ => ⟨rfl, rfl⟩) t6, p_xI, if_neg (show ¬ (1 : Int) = 0 by decide), q_17_167_11, out (p_fr.refl h), p_xI, if_neg (show ¬ (1 : Int) = 0 by decide), p_w (x := (gl : Int) + 1) (by omega) (by omega), gx]
    cases b with
    | true =>
      have nin : ¬ lpn V chs k l < kIp chs k := by have := hb.1.1 rfl; omega
      rw [if_neg (show ¬ bI true = 0 by decide)]
      obtain ⟨h1, ns, r1, r2, r3, r4, r5⟩ := right (rn l.2.1 (lwd V chs k l)) (p_fr.refl h) N
      rw [r1, p_xV]
      refine ⟨h1, ns, _, _, _, _, _, _, rfl, r2, nrg_mono r3 (by omega) (Nat.le_refl _), r4.mono rfl rfl, fun s hs => ?_⟩
      unfold lkS
      rw [if_neg y1, if_pos y5, if_neg nin]
      have := r5 rn1 s.2 hs.2
      rw [if_pos rfl] at this
      cases hx : lkD K V ch (rn l.2.1 (lwd V chs k l)) l s.2.1 s.2.2 with
      | inl e => rw [hx] at this; exact this
      | inr u =>
        rw [hx] at this
        refine ⟨this.1, fun p hp => ?_, this.2⟩
        rw [r4.cell 350 rfl rfl]
        unfold p_set
        dsimp only
        rw [if_neg (by omega)]
        exact hs.1 p hp
    | false =>
      have nin : lpn V chs k l < kIp chs k := by
        rcases Int.lt_or_le (lpn V chs k l) (kIp chs k) with z | z
        · exact z
        · exact absurd (hb.1.2 z) (by decide)
      rw [if_pos (show bI false = 0 from rfl), p_idx (by omega) (by omega), Int.toNat_natCast, l2]
      have mk := msk_m y5 wr.2 cv.1
      have st2 : (if l.2.1.1 = -1 then am_E (am_D (d + 3)) m_17_167 (.inl 13) [some (am_r (am_a 254)), some (am_i (c : Int)), some (am_i ((oT chs c + i : Nat) : Int)), some (am_i (k : Int)), some (am_i (gl : Int)), some (am_i (gn : Int)), some (am_i (lwd V chs k l)), some (am_i 1), some (am_i (rn l.2.1 (lwd V chs k l))), some (am_i (bI false)), u10] [am_i 0, am_i (am_w ((am_shl 1 (rn l.2.1 (lwd V chs k l))) - 1))] (zS L, h) else am_idx (gl : Int) 700 fun k6 => am_E (am_D (d + 3)) m_17_167 (.inl 13) [some (am_r (am_a 254)), some (am_i (c : Int)), some (am_i ((oT chs c + i : Nat) : Int)), some (am_i (k : Int)), some (am_i (gl : Int)), some (am_i (gn : Int)), some (am_i (lwd V chs k l)), some (am_i 1), some (am_i (rn l.2.1 (lwd V chs k l))), some (am_i (bI false)), u10] [am_i (h 339 k6), am_i (am_w ((am_shl 1 (rn l.2.1 (lwd V chs k l))) - 1))] (zS L, h)) = am_E (am_D (d + 3)) m_17_167 (.inl 13) [some (am_r (am_a 254)), some (am_i (c : Int)), some (am_i ((oT chs c + i : Nat) : Int)), some (am_i (k : Int)), some (am_i (gl : Int)), some (am_i (gn : Int)), some (am_i (lwd V chs k l)), some (am_i 1), some (am_i (rn l.2.1 (lwd V chs k l))), some (am_i (bI false)), u10] [am_i (rlo l.2.1), am_i (am_w ((am_shl 1 (rn l.2.1 (lwd V chs k l))) - 1))] (zS L, h) := by
        unfold rlo
        by_cases w : l.2.1.1 = -1
        · rw [if_pos w, if_pos w]
        · rw [if_neg w, if_neg w, p_idx (by omega) (by omega), Int.toNat_natCast, l3]
      rw [st2, q_17_167_13, mk, p_idx (by omega) (by omega), Int.toNat_natCast]
      -- behind the check
      have fin : ∀ {g : am_H} (nsA : List cF) (w10 : Option am_V), p_fr [] ntF h g → nR (nfoldx P F nsA) g → ∃ h' ns w5 w6 w7 w8 w9 w10, am_E (am_D (d + 3)) m_17_167 (.inl 14) [some (am_r (am_a 254)), some (am_i (c : Int)), some (am_i ((oT chs c + i : Nat) : Int)), some (am_i (k : Int)), some (am_i (gl : Int)), some (am_i (gn : Int)), some (am_i (lwd V chs k l)), some (am_i 1), some (am_i (rn l.2.1 (lwd V chs k l))), some (am_i (bI false)), some (am_i (rmk l.2.1 (lwd V chs k l)))] [] (zS L, g) = am_E (am_D (d + 3)) m_17_167 (.inl 7) [some (am_r (am_a 254)), some (am_i (c : Int)), some (am_i ((oT chs c + i : Nat) : Int)), some (am_i (k : Int)), some (am_i ((oLx chs (oT chs c + i) + (j + 1) : Nat) : Int)), w5, w6, w7, w8, w9, w10] [] (zS L, h') ∧ nR (nfoldx P (nfoldx P F nsA) ns) h' ∧ nrg l.2.2.1 l.2.2.2.2 ns ∧ p_fr ckC ntF h h' ∧ ∀ s, sM chs c ch k s h → (match lkX K V ch X (rn l.2.1 (lwd V chs k l)) l with
          | some e => lstx P e ns
          | none => ns = [] ∧ sM chs c ch k (p_set s.1 (lpn V chs k l).toNat (am_or (s.1 (lpn V chs k l).toNat) (rmk l.2.1 (lwd V chs k l))), s.2) h') := by
        intro g nsA w10 fg Ng
        have vg : g 350 gn = h 350 gn := by rw [fg.cell 350 rfl rfl]
        have fa : p_fr ckC ntF h (am_up g 350 gn (am_or (h 350 gn) (rmk l.2.1 (lwd V chs k l)))) := (fg.mono rfl rfl).upc _ _ _ rfl
        rw [q_17_167_14, p_idx (by omega) (by omega), p_idx (by omega) (by omega), Int.toNat_natCast, vg, p_w (x := (gl : Int) + 1) (by omega) (by omega), gx]
        obtain ⟨h1, ns, r1, r2, r3, r4, r5⟩ := right (rn l.2.1 (lwd V chs k l)) fa (Ng.fr (by rw [p_up_c _ _ _ _ _ (by decide)]) (by rw [p_up_c _ _ _ _ _ (by decide)]))
        rw [r1, p_xV]
        refine ⟨h1, ns, _, _, _, _, _, _, rfl, r2, r3, fa.trans (r4.mono rfl rfl), fun s hs => ?_⟩
        have oa : oM chs c ch s.2 (am_up g 350 gn (am_or (h 350 gn) (rmk l.2.1 (lwd V chs k l)))) := by
          unfold oM
          rw [p_up_c _ _ _ _ 351 (by decide), p_up_c _ _ _ _ 348 (by decide)]
          exact hs.2.nt fg
        have := r5 rn1 s.2 oa
        rw [if_neg (show ¬ false = true by decide)] at this
        cases hx : lkX K V ch X (rn l.2.1 (lwd V chs k l)) l with
        | some e => rw [hx] at this; exact this
        | none =>
          rw [hx] at this
          refine ⟨this.1, fun p hp => ?_, this.2⟩
          rw [r4.cell 350 rfl rfl]
          unfold p_set
          dsimp only
          by_cases ep : p = (lpn V chs k l).toNat
          · rw [if_pos ep, ep, ← hgn', p_up_s, show h 350 gn = s.1 (lpn V chs k l).toNat by rw [hgn']; exact hs.1 _ (by omega)]
          · rw [if_neg ep, p_up_n _ _ _ _ _ _ (Or.inr (by rw [hgn']; unfold gpN; split <;> omega)), fg.cell 350 rfl rfl]
            exact hs.1 p hp
      by_cases w : am_and (h 350 gn) (rmk l.2.1 (lwd V chs k l)) = 0
      · rw [if_pos w]
        obtain ⟨h1, ns, w5, w6, w7, w8, w9, w10, r1, r2, r3, r4, r5⟩ := fin [] none (p_fr.refl h) N
        rw [r1]
        refine ⟨h1, ns, w5, w6, w7, w8, w9, w10, rfl, r2, nrg_mono r3 (by omega) (Nat.le_refl _), r4, fun s hs => ?_⟩
        unfold lkS
        have tv : h 350 gn = s.1 (lpn V chs k l).toNat := by rw [hgn']; exact hs.1 _ (by omega)
        rw [if_neg y1, if_pos y5, if_pos nin, ← tv, if_pos w]
        have := r5 s hs
        rw [← tv] at this
        cases hx : lkX K V ch X (rn l.2.1 (lwd V chs k l)) l with
        | some e => rw [hx] at this; exact this
        | none => rw [hx] at this; exact this
      · obtain ⟨g1', r1, r2, r3⟩ := note 3 l.1 (by decide) t2 (p_fr.refl h) N
        rw [if_neg w, p_idx (by omega) (by omega), Int.toNat_natCast, l1, r1, p_xV]
        obtain ⟨h1, ns, w5, w6, w7, w8, w9, w10, r1', r2', r3', r4', -⟩ := fin [(3, l.1)] none r3 r2
        rw [r1']
        refine ⟨h1, [(3, l.1)] ++ ns, w5, w6, w7, w8, w9, w10, rfl, by rw [nfold_app]; exact r2', nrg_app (nrg1 (Nat.le_refl _) (show l.1 < l.2.2.1 by omega) (show (0 : Int) < 3 by decide)) r3' (by omega) (by omega), r4', fun s hs => ?_⟩
        unfold lkS
        have tv : h 350 gn = s.1 (lpn V chs k l).toNat := by rw [hgn']; exact hs.1 _ (by omega)
        rw [if_neg y1, if_pos y5, if_pos nin, ← tv, if_neg w]
        exact lst_app (lst1 P _) (nrg1 (Nat.le_refl _) (show l.1 < l.2.2.1 by omega) (show (0 : Int) < 3 by decide)) (fun x hx => (r3' x hx).1) (fun x hx hl => hP _ _ hl (by have := r3' x hx; omega))
  · have rt : l.2.1.1 = ((l.1 + 1 : Nat) : Int) ∧ l.1 + 1 < l.2.2.1 := by
      rcases lb with ⟨z, -⟩ | ⟨z1, -, z2⟩
      · exact absurd (show rok l.2.1 (lwd V chs k l) by unfold rok rlo rhi; rw [if_pos z, if_pos z]; omega) y5
      · exact ⟨z1, z2⟩
    obtain ⟨g2, r1, r2, r3⟩ := note 5 (l.1 + 1) (by decide) (by omega) (p_fr.refl h) N
    have f3 : p_fr ckC ntF h g2 := r3.mono rfl rfl
    obtain ⟨h1, ns, r1', r2', r3', r4', -⟩ := right (-1) f3 r2
    rw [pB_f y5, if_pos rfl, if_pos rfl, p_idx (by omega) (by omega), Int.toNat_natCast, l2, rt.1, r1, p_xV, q_17_167_11, out f3, p_xI, if_pos rfl, r1', p_xV, p_w (x := (gl : Int) + 1) (by omega) (by omega), gx]
    refine ⟨h1, [(5, l.1 + 1)] ++ ns, _, _, _, _, _, _, rfl, by rw [nfold_app]; exact r2', nrg_app (nrg_mono (nrg1 (Nat.le_refl _) (show l.1 + 1 < l.2.2.1 by omega) (show (0 : Int) < 5 by decide)) (Nat.le_succ _) (Nat.le_refl _)) r3' (by omega) (by omega), f3.trans (r4'.mono rfl rfl), fun s hs => ?_⟩
    unfold lkS
    rw [if_neg y1, if_neg y5, show l.2.1.1.toNat = l.1 + 1 by omega]
    exact lst_app (lst1 P _) (nrg1 (Nat.le_refl _) (show l.1 + 1 < l.2.2.1 by omega) (show (0 : Int) < 5 by decide)) (fun x hx => (r3' x hx).1) (fun x hx hl => hP _ _ hl (by have := r3' x hx; omega))
end
