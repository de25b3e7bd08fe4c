/-! CHIPS, 27: the model's right sides -/
section
variable {d L : Nat} {K V P : Nat → Int} {W : Nat → List Int} {Z : Nat} {chs : List cCh} {ch : cCh} {c : Nat} {h h' : am_H}
/-- the model's bits of a chip's ownx -/
def oM (chs : List cCh) (c : Nat) (ch : cCh) (s : (Nat → Int) × (Nat → Int)) (h : am_H) : Prop := (∀ j, j < ch.2.1.length → h 351 (oP chs c + j) = s.1 j) ∧ ∀ j, j < ch.2.2.2.2.length → h 348 (oI chs c + j) = s.2 j ∧ (s.2 j = 0 ∨ s.2 j = 1)
theorem oM.nt {s : (Nat → Int) × (Nat → Int)} (H : oM chs c ch s h) (f : p_fr [] ntF h h') : oM chs c ch s h' := by
  unfold oM; rw [f.cell 351 rfl rfl, f.cell 348 rfl rfl]; exact H
def rgC : List Nat := [348, 351]
theorem rg_q (f : p_fr rgC ntF h h') : p_fr nfC ntF h h' := f.mono rfl rfl
theorem nt_q (f : p_fr [] ntF h h') : p_fr nfC ntF h h' := f.mono rfl rfl
/-- what the right side says -/
def rSay (K V P : Nat → Int) (chs : List cCh) (c : Nat) (ch : cCh) (X : Nat → Int) (l : cLk) (b : Bool) (bt : Int) (ns : List cF) (h h' : am_H) : Prop := bt ≠ -1 → ∀ s, oM chs c ch s h → if b = true then (match lkD K V ch bt l s.1 s.2 with
      | .inl e => lstx P e ns
      | .inr u => ns = [] ∧ oM chs c ch u h') else (match lkX K V ch X bt l with
      | some e => lstx P e ns
      | none => ns = [] ∧ oM chs c ch s h')
theorem lst1 (P : Nat → Int) (e : cF) : lstx P e [e] := ⟨List.mem_singleton.2 rfl, fun x hx => by rw [List.mem_singleton.1 hx]; exact Or.inr ⟨rfl, Int.le_refl _⟩⟩
theorem nrg1 {i j : Nat} {e : cF} (h1 : i ≤ e.2) (h2 : e.2 < j) (h3 : 0 < e.1) : nrg i j [e] := fun x hx => by rw [List.mem_singleton.1 hx]; exact ⟨h1, h2, h3⟩
theorem mn_right (E : kEx K V Z) (hP : ∀ x y, x < y → y ≤ Z → P x < P y) (T : cht K V Z ch) (Q : mQ K V P W Z chs h) (hc : chs[c]? = some ch) {q : Nat × List cLk} (hq : q ∈ ch.2.2.2.1) {l : cLk} (hl : l ∈ q.2) {gl : Nat} (hg : gl < 700) (hf : fRl l gl h) {X : Nat → Int} (hX : gM chs c ch X h) (hXr : ∀ j, X j = -1 ∨ 0 ≤ X j) (b : Bool) {bt : Int} {F : Option (Int × Int)} (N : nR F h) : ∃ h' ns, am_D (d + 3) 17 166 [am_r (am_a 254), am_i (c : Int), am_i (gl : Int), am_i (bI b), am_i bt] (zS L, h) = pV L h' ∧ nR (nfoldx P F ns) h' ∧ nrg l.2.2.1 l.2.2.2.2 ns ∧ p_fr rgC ntF h h' ∧ rSay K V P chs c ch X l b bt ns h h' := by
  have l16 := Q.2.1.2
  have z2 := Q.1.1.1
  have hcl := (List.getElem?_eq_some_iff.1 hc).1
  obtain ⟨t0, t1, t2, t3, t4, t5, t6, t7⟩ := cht_lk E T hq hl
  obtain ⟨-, -, -, -, rb⟩ := lkT_rg E.1 t0 t2
  obtain ⟨⟨l1, l2, l3, l4⟩, l5, l6, l7⟩ := hf
  have pt : ∀ t, t ≤ Z → h 258 t = P t := fun t ht => (Q.1.2.1 t ht).2.1
  have rz : l.2.2.1 ≤ Z := by omega
  have kk := kmp_i (Q.1.2.1 l.2.2.1 rz).2.2.2.2
  have re : rin V ch l = ffnd (V l.2.2.1) (cIn V ch) 0 := rfl
  have pe : rpn V ch l = ffnd (V l.2.2.1) (cNm V ch) 0 := rfl
  have ir := ffnd_rg (cIn V ch) (V l.2.2.1) 0
  have pr := ffnd_rg (cNm V ch) (V l.2.2.1) 0
  have il : (cIn V ch).length = ch.2.2.2.2.length := by unfold cIn; rw [List.length_map]
  have pl : (cNm V ch).length = ch.2.1.length := by unfold cNm; rw [List.length_map]
  have iin := oI_n hc
  have ipn := oP_n hc
  have itk : oI chs (c + 1) ≤ (aI chs).length := flat_le _ chs (c + 1)
  have ptk : oP chs (c + 1) ≤ (aP chs).length := flat_le cpM chs (c + 1)
  obtain ⟨b1, b2, b3, b4⟩ := Q.2.2.1
  have hli := T.2.1.1 q hq l hl
  rw [D_17_166, p_idx (by omega) (by omega), Int.toNat_natCast, l5, p_idx (by omega) (by omega), Int.toNat_natCast, (Q.1.2.1 l.2.2.1 rz).1]
  -- a note at the right side
  have note : ∀ (n : Int) (t : Nat) {g : am_H} {F' : Option (Int × Int)}, 0 < n → t ≤ Z → p_fr [] ntF h g → nR F' g → ∃ h', am_D (d + 2) 17 58 [am_r (am_a 254), am_i n, am_i (t : Int)] (zS L, g) = pV L h' ∧ nR (nfoldx P F' [(n, t)]) h' ∧ p_fr [] ntF h h' := fun n t {g F'} hn ht fg Ng => by
    obtain ⟨h', r1, r2, r3⟩ := mn_note (d := d + 1) (L := L) (P := P) Ng hn (show t < 2002 by omega) (by rw [fg.cell 258 rfl rfl]; exact pt t ht)
    exact ⟨h', r1, r2, fg.trans r3⟩
  by_cases kr : K l.2.2.1 = 2
  · rw [if_pos (kk.2.1.2 kr), mn_own (d := d) Q hc (cht_pn T) rz kr, p_xI, ← pe]
    rw [← pe, pl] at pr
    rw [← re, il] at ir
    by_cases y1 : rpn V ch l = -1
    · have ii : rin V ch l ≠ -1 := by
        rcases hli kr with z | z
        · rcases pr with ⟨-, w⟩ | w
          · exact absurd z w
          · omega
        · rcases ir with ⟨-, w⟩ | w
          · exact absurd z w
          · omega
      have ij : (rin V ch l).toNat < ch.2.2.2.2.length := by omega
      obtain ⟨gi, hgi⟩ : ∃ gi, gi = oI chs c + (rin V ch l).toNat := ⟨_, rfl⟩
      have ie : (oI chs c : Int) + rin V ch l = (gi : Int) := by omega
      rw [if_pos y1, if_pos rfl, mn_inn (d := d) Q hc (cht_in E T) rz kr, p_xI, ← re, if_neg ii, ie, p_idx (by omega) (by omega), Int.toNat_natCast, l6]
      have xv : h 347 gi = X (rin V ch l).toNat := by rw [hgi]; exact hX _ ij
      -- the end: the flag
      have e7 : ∀ {g : am_H} (u1 u2 u4 u5 u6 u8 u9 : Option am_V), p_fr [] ntF h g → ∃ h', am_E (am_D (d + 2)) m_17_166 (.inl 7) [some (am_r (am_a 254)), u1, u2, some (am_i (bI b)), u4, u5, u6, some (am_i (gi : Int)), u8, u9] [] (zS L, g) = pV L h' ∧ (h' 254 69 = g 254 69 ∧ h' 254 70 = g 254 70) ∧ p_fr rgC ntF h h' ∧ (∀ s, oM chs c ch s h → (b = true ∧ s.2 (rin V ch l).toNat = 0 → oM chs c ch (s.1, p_set s.2 (rin V ch l).toNat 1) h') ∧ (b = false → oM chs c ch s h')) := by
        intro g u1 u2 u4 u5 u6 u8 u9 fg
        have v8 : g 348 gi = h 348 gi := by rw [fg.cell 348 rfl rfl]
        have g1 : ∀ v : Int, (am_up g 348 gi v 254 69 = g 254 69 ∧ am_up g 348 gi v 254 70 = g 254 70) ∧ p_fr rgC ntF h (am_up g 348 gi v) := fun v => ⟨⟨by rw [p_up_c _ _ _ _ _ (by decide)], by rw [p_up_c _ _ _ _ _ (by decide)]⟩, (fg.mono rfl rfl).upc _ _ _ rfl⟩
        have o1 : ∀ (v : Int) (s : (Nat → Int) × (Nat → Int)), (v = 0 ∨ v = 1) → oM chs c ch s h → oM chs c ch (s.1, p_set s.2 (rin V ch l).toNat v) (am_up g 348 gi v) := fun v s hv hs => by
          refine ⟨fun j hj => ?_, fun j hj => ?_⟩
          · rw [p_up_c _ _ _ _ _ (by decide), fg.cell 351 rfl rfl]; exact hs.1 j hj
          · unfold p_set
            dsimp only
            by_cases ej : j = (rin V ch l).toNat
            · rw [if_pos ej, ej, ← hgi, p_up_s]; exact ⟨rfl, hv⟩
            · rw [if_neg ej, p_up_n _ _ _ _ _ _ (Or.inr (by omega)), fg.cell 348 rfl rfl]; exact hs.2 j hj
        have o2 : ∀ (s : (Nat → Int) × (Nat → Int)), oM chs c ch s h → h 348 gi = s.2 (rin V ch l).toNat ∧ (h 348 gi = 0 ∨ h 348 gi = 1) := fun s hs => by
          obtain ⟨z1, z3⟩ := hs.2 _ ij
          rw [← hgi] at z1
          exact ⟨z1, by rw [z1]; exact z3⟩
        have o3 : ∀ (v : Int) (s : (Nat → Int) × (Nat → Int)), (v = 0 ∨ v = 1) → oM chs c ch s h → s.2 (rin V ch l).toNat = v → oM chs c ch s (am_up g 348 gi v) := fun v s hv' hs hv => by
          have := o1 v s hv' hs
          rw [← hv, show p_set s.2 (rin V ch l).toNat (s.2 (rin V ch l).toNat) = s.2 by unfold p_set; funext j; split; rename_i e; rw [e]; rfl] at this
          rw [← hv]
          exact this
        rw [q_17_166_7, p_idx (by omega) (by omega), Int.toNat_natCast, v8, p_idx (by omega) (by omega), p_idx (by omega) (by omega), Int.toNat_natCast, p_bit0, p_bit1]
        by_cases w1 : h 348 gi = 0
        · rw [if_pos w1]
          cases b with
          | false =>
            rw [if_pos (show bI false = 0 from rfl)]
            exact ⟨_, rfl, (g1 0).1, (g1 0).2, fun s hs => ⟨fun z => (by cases z.1), fun _ => o3 0 s (Or.inl rfl) hs (by rw [← (o2 s hs).1]; exact w1)⟩⟩
          | true =>
            rw [if_neg (show ¬ bI true = 0 by decide)]
            exact ⟨_, rfl, (g1 1).1, (g1 1).2, fun s hs => ⟨fun _ => o1 1 s (Or.inr rfl) hs, fun z => by cases z⟩⟩
        · rw [if_neg w1]
          exact ⟨_, rfl, (g1 1).1, (g1 1).2, fun s hs => ⟨fun z => absurd (by rw [(o2 s hs).1]; exact z.2) w1, fun z => o3 1 s (Or.inr rfl) hs (by
            rcases (o2 s hs).2 with y | y
            · exact absurd y w1
            · rw [← (o2 s hs).1]; exact y)⟩⟩
      -- a range
      have st1 : ∀ (A : am_H → Option am_O), ∃ g ns1, (if l.2.2.2.1.1 = -1 then A h else am_idx (gl : Int) 700 fun k24 => am_xV (zS L) (am_D (d + 2) 17 58 [am_r (am_a 254), am_i 5, am_i (h 342 k24)] (zS L, h)) (am_up1 (zS L)) fun h25 => A h25) = A g ∧ nR (nfoldx P F ns1) g ∧ p_fr [] ntF h g ∧ (l.2.2.2.1.1 = -1 ∧ ns1 = [] ∨ l.2.2.2.1.1 ≠ -1 ∧ ns1 = [(5, l.2.2.2.1.1.toNat)] ∧ l.2.2.1 < l.2.2.2.1.1.toNat ∧ l.2.2.2.1.1.toNat < l.2.2.2.2) := by
        intro A
        by_cases y : l.2.2.2.1.1 = -1
        · rw [if_pos y]
          exact ⟨h, [], rfl, N, p_fr.refl h, Or.inl ⟨y, rfl⟩⟩
        · have rt : l.2.2.2.1.1 = ((l.2.2.1 + 1 : Nat) : Int) ∧ l.2.2.1 + 1 < l.2.2.2.2 := by
            rcases rb with z | z
            · exact absurd z y
            · exact z
          obtain ⟨h1, r1, r2, r3⟩ := note 5 (l.2.2.1 + 1) (by decide) (by omega) (p_fr.refl h) N
          rw [if_neg y, p_idx (by omega) (by omega), Int.toNat_natCast, l6, rt.1, r1, p_xV]
          refine ⟨h1, _, rfl, ?_, r3, Or.inr ⟨by omega, rfl, by omega, by omega⟩⟩
          rw [show ((l.2.2.1 + 1 : Nat) : Int).toNat = l.2.2.1 + 1 by omega]
          exact r2
      obtain ⟨g1, ns1, q1, N1, f1, c1⟩ := st1 (fun hh => am_E (am_D (d + 2)) m_17_166 (.inl 3) [some (am_r (am_a 254)), some (am_i (c : Int)), some (am_i (gl : Int)), some (am_i (bI b)), some (am_i bt), some (am_i (l.2.2.1 : Int)), some (am_i (-1)), some (am_i (gi : Int)), none, none] [] (zS L, hh))
      rw [q1]
      -- the name
      have st2 : ∃ g2 ns2, am_E (am_D (d + 2)) m_17_166 (.inl 3) [some (am_r (am_a 254)), some (am_i (c : Int)), some (am_i (gl : Int)), some (am_i (bI b)), some (am_i bt), some (am_i (l.2.2.1 : Int)), some (am_i (-1)), some (am_i (gi : Int)), none, none] [] (zS L, g1) = am_E (am_D (d + 2)) m_17_166 (.inl 5) [some (am_r (am_a 254)), some (am_i (c : Int)), some (am_i (gl : Int)), some (am_i (bI b)), some (am_i bt), some (am_i (l.2.2.1 : Int)), some (am_i (-1)), some (am_i (gi : Int)), none, none] [] (zS L, g2) ∧ nR (nfoldx P (nfoldx P F ns1) ns2) g2 ∧ p_fr [] ntF h g2 ∧ (b = false ∧ X (rin V ch l).toNat = 0 ∧ ns2 = [(4, l.2.2.1)] ∨ b = false ∧ X (rin V ch l).toNat ≠ 0 ∧ ns2 = [] ∨ b = true ∧ h 348 gi = 0 ∧ ns2 = [] ∨ b = true ∧ h 348 gi ≠ 0 ∧ ns2 = [(3, l.2.2.1)]) := by
        rw [q_17_166_3]
        cases b with
        | false =>
          rw [if_pos (show bI false = 0 from rfl), if_pos (show bI false = 0 from rfl), p_idx (by omega) (by omega), Int.toNat_natCast, show g1 347 gi = X (rin V ch l).toNat by rw [f1.cell 347 rfl rfl]; exact xv]
          by_cases w : X (rin V ch l).toNat = 0
          · obtain ⟨h1, r1, r2, r3⟩ := note 4 l.2.2.1 (by decide) rz f1 N1
            rw [if_pos w, r1, p_xV]
            exact ⟨h1, _, rfl, r2, r3, Or.inl ⟨rfl, w, rfl⟩⟩
          · rw [if_neg w]
            exact ⟨g1, [], rfl, N1, f1, Or.inr (Or.inl ⟨rfl, w, rfl⟩)⟩
        | true =>
          rw [if_neg (show ¬ bI true = 0 by decide), p_idx (by omega) (by omega), Int.toNat_natCast, show g1 348 gi = h 348 gi by rw [f1.cell 348 rfl rfl]]
          by_cases w : h 348 gi = 0
          · rw [if_pos w, if_neg (show ¬ bI true = 0 by decide)]
            exact ⟨g1, [], rfl, N1, f1, Or.inr (Or.inr (Or.inl ⟨rfl, w, rfl⟩))⟩
          · obtain ⟨h1, r1, r2, r3⟩ := note 3 l.2.2.1 (by decide) rz f1 N1
            rw [if_neg w, r1, p_xV, if_neg (show ¬ bI true = 0 by decide)]
            exact ⟨h1, _, rfl, r2, r3, Or.inr (Or.inr (Or.inr ⟨rfl, w, rfl⟩))⟩
      obtain ⟨g2, ns2, q2, N2, f2, c2⟩ := st2
      rw [q2]
      -- the width
      have st3 : ∃ g3 ns3, am_E (am_D (d + 2)) m_17_166 (.inl 5) [some (am_r (am_a 254)), some (am_i (c : Int)), some (am_i (gl : Int)), some (am_i (bI b)), some (am_i bt), some (am_i (l.2.2.1 : Int)), some (am_i (-1)), some (am_i (gi : Int)), none, none] [] (zS L, g2) = am_E (am_D (d + 2)) m_17_166 (.inl 7) [some (am_r (am_a 254)), some (am_i (c : Int)), some (am_i (gl : Int)), some (am_i (bI b)), some (am_i bt), some (am_i (l.2.2.1 : Int)), some (am_i (-1)), some (am_i (gi : Int)), none, none] [] (zS L, g3) ∧ nR (nfoldx P (nfoldx P (nfoldx P F ns1) ns2) ns3) g3 ∧ p_fr [] ntF h g3 ∧ ((b = false ∧ 0 < X (rin V ch l).toNat ∧ l.2.2.2.1.1 = -1 ∧ bt ≠ -1 ∧ X (rin V ch l).toNat ≠ bt) ∧ ns3 = [(5, l.2.2.1)] ∨ ¬ (b = false ∧ 0 < X (rin V ch l).toNat ∧ l.2.2.2.1.1 = -1 ∧ bt ≠ -1 ∧ X (rin V ch l).toNat ≠ bt) ∧ ns3 = []) := by
        rw [q_17_166_5]
        cases b with
        | true =>
          rw [if_neg (show ¬ bI true = 0 by decide)]
          exact ⟨g2, [], rfl, N2, f2, Or.inr ⟨fun z => (by cases z.1), rfl⟩⟩
        | false =>
          have x2 : g2 347 gi = X (rin V ch l).toNat := by rw [f2.cell 347 rfl rfl]; exact xv
          rw [if_pos (show bI false = 0 from rfl), p_idx (by omega) (by omega), Int.toNat_natCast, x2]
          by_cases w1 : 0 < X (rin V ch l).toNat
          · rw [if_pos w1, p_idx (by omega) (by omega), Int.toNat_natCast, show g2 342 gl = l.2.2.2.1.1 by rw [f2.cell 342 rfl rfl]; exact l6]
            by_cases w2 : l.2.2.2.1.1 = -1
            · rw [if_pos w2, q_17_166_6]
              by_cases w3 : bt = -1
              · rw [if_pos w3]
                exact ⟨g2, [], rfl, N2, f2, Or.inr ⟨fun z => z.2.2.2.1 w3, rfl⟩⟩
              · rw [if_neg w3, p_idx (by omega) (by omega), Int.toNat_natCast, x2]
                by_cases w4 : X (rin V ch l).toNat = bt
                · rw [if_pos w4]
                  exact ⟨g2, [], rfl, N2, f2, Or.inr ⟨fun z => z.2.2.2.2 w4, rfl⟩⟩
                · obtain ⟨h1, r1, r2, r3⟩ := note 5 l.2.2.1 (by decide) rz f2 N2
                  rw [if_neg w4, r1, p_xV]
                  exact ⟨h1, _, rfl, r2, r3, Or.inl ⟨⟨rfl, w1, w2, w3, w4⟩, rfl⟩⟩
            · rw [if_neg w2]
              exact ⟨g2, [], rfl, N2, f2, Or.inr ⟨fun z => w2 z.2.2.1, rfl⟩⟩
          · rw [if_neg w1]
            exact ⟨g2, [], rfl, N2, f2, Or.inr ⟨fun z => w1 z.2.1, rfl⟩⟩
      obtain ⟨g3, ns3, q3, N3, f3, c3⟩ := st3
      obtain ⟨h4, q4, e4, f4, o4⟩ := e7 (some (am_i (c : Int))) (some (am_i (gl : Int))) (some (am_i bt)) (some (am_i (l.2.2.1 : Int))) (some (am_i (-1))) none none f3
      rw [q3]
      refine ⟨h4, ns1 ++ ns2 ++ ns3, q4, ?_, ?_, f4, ?_⟩
      · rw [nfold_app, nfold_app]
        exact N3.fr e4.1 e4.2
      · intro x hx
        rcases List.mem_append.1 hx with hx | hx
        · rcases List.mem_append.1 hx with hx | hx
          · rcases c1 with ⟨-, z⟩ | ⟨-, z, z3, z4⟩
            · rw [z] at hx; exact absurd hx List.not_mem_nil
            · rw [z] at hx; rw [List.mem_singleton.1 hx]; exact ⟨Nat.le_of_lt z3, z4, show (0 : Int) < 5 by decide⟩
          · rcases c2 with ⟨-, -, z⟩ | ⟨-, -, z⟩ | ⟨-, -, z⟩ | ⟨-, -, z⟩
            · rw [z] at hx; rw [List.mem_singleton.1 hx]; exact ⟨Nat.le_refl _, t4.2, show (0 : Int) < 4 by decide⟩
            · rw [z] at hx; exact absurd hx List.not_mem_nil
            · rw [z] at hx; exact absurd hx List.not_mem_nil
            · rw [z] at hx; rw [List.mem_singleton.1 hx]; exact ⟨Nat.le_refl _, t4.2, show (0 : Int) < 3 by decide⟩
        · rcases c3 with ⟨-, z⟩ | ⟨-, z⟩
          · rw [z] at hx; rw [List.mem_singleton.1 hx]; exact ⟨Nat.le_refl _, t4.2, show (0 : Int) < 5 by decide⟩
          · rw [z] at hx; exact absurd hx List.not_mem_nil
      · intro hbt s hs
        have pr5 : l.2.2.2.1.1 ≠ -1 → P l.2.2.1 < P l.2.2.2.1.1.toNat := fun z => by
          rcases c1 with ⟨w, -⟩ | ⟨-, -, w3, w4⟩
          · exact absurd w z
          · exact hP _ _ w3 (by omega)
        have g8 : h 348 gi = s.2 (rin V ch l).toNat := by rw [hgi]; exact (hs.2 _ ij).1
        cases b with
        | true =>
          rw [if_pos rfl]
          unfold lkD
          rw [if_pos kr, if_pos y1, ← g8]
          have n3 : ns3 = [] := by rcases c3 with ⟨⟨z, -⟩, -⟩ | ⟨-, z⟩; cases z; exact z
          rw [n3, List.append_nil]
          rcases c2 with ⟨z, -⟩ | ⟨z, -⟩ | ⟨-, z, n2⟩ | ⟨-, z, n2⟩
          · cases z
          · cases z
          · rw [if_pos z, n2, List.append_nil]
            rcases c1 with ⟨w, n1⟩ | ⟨w, n1, -⟩
            · rw [if_pos w, n1]
              exact ⟨rfl, (o4 s hs).1 ⟨rfl, by rw [← g8]; exact z⟩⟩
            · rw [if_neg w, n1]
              exact lst1 P _
          · rw [if_neg z, n2]
            refine ⟨List.mem_append_right _ (List.mem_singleton.2 rfl), fun x hx => ?_⟩
            rcases List.mem_append.1 hx with hx | hx
            · rcases c1 with ⟨w, n1⟩ | ⟨w, n1, -⟩
              · rw [n1] at hx; exact absurd hx List.not_mem_nil
              · rw [n1] at hx; rw [List.mem_singleton.1 hx]; exact Or.inl (pr5 w)
            · rw [List.mem_singleton.1 hx]; exact Or.inr ⟨rfl, Int.le_refl _⟩
        | false =>
          rw [if_neg (by decide)]
          unfold lkX
          rw [if_pos kr, if_pos y1]
          rcases c2 with ⟨-, z, n2⟩ | ⟨-, z, n2⟩ | ⟨z, -⟩ | ⟨z, -⟩
          · have n3 : ns3 = [] := by
              rcases c3 with ⟨⟨-, w, -⟩, -⟩ | ⟨-, w⟩
              · omega
              · exact w
            rw [if_pos z, n2, n3, List.append_nil]
            refine ⟨List.mem_append_right _ (List.mem_singleton.2 rfl), fun x hx => ?_⟩
            rcases List.mem_append.1 hx with hx | hx
            · rcases c1 with ⟨w, n1⟩ | ⟨w, n1, -⟩
              · rw [n1] at hx; exact absurd hx List.not_mem_nil
              · rw [n1] at hx; rw [List.mem_singleton.1 hx]; exact Or.inl (pr5 w)
            · rw [List.mem_singleton.1 hx]; exact Or.inr ⟨rfl, Int.le_refl _⟩
          · rw [if_neg z, n2, List.append_nil]
            have xr := hXr (rin V ch l).toNat
            rcases c1 with ⟨w, n1⟩ | ⟨w, n1, -⟩
            · rw [if_pos w, n1, List.nil_append]
              by_cases v : X (rin V ch l).toNat = -1 ∨ X (rin V ch l).toNat = bt
              · rw [if_pos v]
                rcases c3 with ⟨⟨-, v1, -, -, v2⟩, -⟩ | ⟨-, n3⟩
                · omega
                · exact ⟨n3, (o4 s hs).2 rfl⟩
              · rw [if_neg v]
                rcases c3 with ⟨-, n3⟩ | ⟨v1, -⟩
                · rw [n3]; exact lst1 P _
                · exact absurd ⟨rfl, by omega, w, hbt, by omega⟩ v1
            · rw [if_neg w, n1]
              have n3 : ns3 = [] := by
                rcases c3 with ⟨⟨-, -, v, -⟩, -⟩ | ⟨-, v⟩
                · exact absurd v w
                · exact v
              rw [n3, List.append_nil]
              exact lst1 P _
          · cases z
          · cases z
    · -- a pin
      have pj : (rpn V ch l).toNat < ch.2.1.length := by omega
      obtain ⟨gn, hgn⟩ : ∃ gn, gn = oP chs c + (rpn V ch l).toNat := ⟨_, rfl⟩
      have ge : (oP chs c : Int) + rpn V ch l = (gn : Int) := by omega
      obtain ⟨p1, p2, p3, p4⟩ := Q.2.2.2.2.2.1 c ch hc _ _ (List.getElem?_eq_getElem pj)
      rw [← hgn] at p3 p4
      have we : h 332 gn = rwd V ch l := by
        rw [p4]
        unfold rwd cWs
        rw [List.getD_eq_getElem?_getD, List.getElem?_map, List.getElem?_eq_getElem pj]; rfl
      have wr := rwd_rg (V := V) ch l
      have io : (ch.2.2.1 ≤ (rpn V ch l).toNat) ↔ ¬ rpn V ch l < ch.2.2.1 := by omega
      rw [if_neg y1, if_neg (by omega), ge, p_idx (by omega) (by omega), Int.toNat_natCast, p3]
      by_cases m1 : (if ch.2.2.1 ≤ (rpn V ch l).toNat then (1 : Int) else 0) = bI b
      · have ob : b = true ↔ ¬ rpn V ch l < ch.2.2.1 := by
          rw [← io]
          cases b with
          | true =>
            refine ⟨fun _ => ?_, fun _ => rfl⟩
            rcases Nat.lt_or_ge (rpn V ch l).toNat ch.2.2.1 with z | z
            · rw [if_neg (by omega)] at m1; exact absurd m1 (by decide)
            · exact z
          | false =>
            refine ⟨fun z => (by cases z), fun z => ?_⟩
            rw [if_pos z] at m1; exact absurd m1 (by decide)
        have l7' : l.2.2.2.1.1 ≠ -1 → h 343 gl = l.2.2.2.1.2.1 ∧ h 344 gl = l.2.2.2.1.2.2 := l7
        rw [if_pos m1, p_idx (by omega) (by omega), p_idx (by omega) (by omega), p_idx (by omega) (by omega), p_idx (by omega) (by omega), Int.toNat_natCast, Int.toNat_natCast, l6, we, mn_fits (d := d + 1) (r := l.2.2.2.1) (w := rwd V ch l) wr.1 l7', p_xI]
        by_cases y5 : rok l.2.2.2.1 (rwd V ch l)
        · rw [pB_t y5, if_neg (show ¬ (1 : Int) = 0 by decide), p_idx (by omega) (by omega), p_idx (by omega) (by omega), p_idx (by omega) (by omega), Int.toNat_natCast, l6, mn_bits (d := d + 1) (r := l.2.2.2.1) (w := rwd V ch l) l7' t7, p_xI]
          have cv := rlo_rg (r := l.2.2.2.1) (w := rwd V ch l) t7 wr
          -- the width
          have st1 : ∀ (A : am_H → Option am_O), ∃ g ns1, (if bt = -1 then A h else if rn l.2.2.2.1 (rwd V ch l) = bt then A h else am_xV (zS L) (am_D (d + 2) 17 58 [am_r (am_a 254), am_i 5, am_i (l.2.2.1 : Int)] (zS L, h)) (am_up1 (zS L)) fun h17 => A h17) = A g ∧ nR (nfoldx P F ns1) g ∧ p_fr [] ntF h g ∧ ((bt = -1 ∨ rn l.2.2.2.1 (rwd V ch l) = bt) ∧ ns1 = [] ∨ (bt ≠ -1 ∧ rn l.2.2.2.1 (rwd V ch l) ≠ bt) ∧ ns1 = [(5, l.2.2.1)]) := by
            intro A
            by_cases w1 : bt = -1
            · rw [if_pos w1]; exact ⟨h, [], rfl, N, p_fr.refl h, Or.inl ⟨Or.inl w1, rfl⟩⟩
            rw [if_neg w1]
            by_cases w2 : rn l.2.2.2.1 (rwd V ch l) = bt
            · rw [if_pos w2]; exact ⟨h, [], rfl, N, p_fr.refl h, Or.inl ⟨Or.inr w2, rfl⟩⟩
            · obtain ⟨h1, r1, r2, r3⟩ := note 5 l.2.2.1 (by decide) rz (p_fr.refl h) N
              rw [if_neg w2, r1, p_xV]
              exact ⟨h1, _, rfl, r2, r3, Or.inr ⟨⟨w1, w2⟩, rfl⟩⟩
          obtain ⟨g1, ns1, q1, N1, f1, c1⟩ := st1 (fun hh => am_E (am_D (d + 2)) m_17_166 (.inl 14) [some (am_r (am_a 254)), some (am_i (c : Int)), some (am_i (gl : Int)), some (am_i (bI b)), some (am_i bt), some (am_i (l.2.2.1 : Int)), some (am_i (gn : Int)), some (am_i (rwd V ch l)), some (am_i (rn l.2.2.2.1 (rwd V ch l))), none] [] (zS L, hh))
          rw [q1, q_17_166_14]
          have rg1 : nrg l.2.2.1 l.2.2.2.2 ns1 := by
            rcases c1 with ⟨-, z⟩ | ⟨-, z⟩
            · rw [z]; exact nrg_nil _ _
            · rw [z]; exact nrg1 (Nat.le_refl _) t4.2 (show (0 : Int) < 5 by decide)
          cases b with
          | false =>
            have nin : rpn V ch l < ch.2.2.1 := by
              rcases Int.lt_or_le (rpn V ch l) ch.2.2.1 with z | z
              · exact z
              · exact absurd (ob.2 (by omega)) (by decide)
            rw [if_pos (show bI false = 0 from rfl)]
            refine ⟨g1, ns1, rfl, N1, rg1, f1.mono rfl rfl, fun hbt s hs => ?_⟩
            rw [if_neg (by decide)]
            unfold lkX
            rw [if_pos kr, if_neg y1, if_pos nin, if_pos y5]
            rcases c1 with ⟨z, n1⟩ | ⟨z, n1⟩
            · rw [if_pos (by rcases z with w | w; exact absurd w hbt; exact w)]
              exact ⟨n1, hs.nt f1⟩
            · rw [if_neg z.2, n1]
              exact lst1 P _
          | true =>
            have nin : ¬ rpn V ch l < ch.2.2.1 := ob.1 rfl
            rw [if_neg (show ¬ bI true = 0 by decide), p_idx (by omega) (by omega), Int.toNat_natCast, show g1 342 gl = l.2.2.2.1.1 by rw [f1.cell 342 rfl rfl]; exact l6]
            have mk := msk_m y5 wr.2 cv.1
            have st2 : (if l.2.2.2.1.1 = -1 then am_E (am_D (d + 2)) m_17_166 (.inl 17) [some (am_r (am_a 254)), some (am_i (c : Int)), some (am_i (gl : Int)), some (am_i (bI true)), some (am_i bt), some (am_i (l.2.2.1 : Int)), some (am_i (gn : Int)), some (am_i (rwd V ch l)), some (am_i (rn l.2.2.2.1 (rwd V ch l))), none] [am_i 0, am_i (am_w ((am_shl 1 (rn l.2.2.2.1 (rwd V ch l))) - 1))] (zS L, g1) else am_idx (gl : Int) 700 fun k2 => am_E (am_D (d + 2)) m_17_166 (.inl 17) [some (am_r (am_a 254)), some (am_i (c : Int)), some (am_i (gl : Int)), some (am_i (bI true)), some (am_i bt), some (am_i (l.2.2.1 : Int)), some (am_i (gn : Int)), some (am_i (rwd V ch l)), some (am_i (rn l.2.2.2.1 (rwd V ch l))), none] [am_i (g1 343 k2), am_i (am_w ((am_shl 1 (rn l.2.2.2.1 (rwd V ch l))) - 1))] (zS L, g1)) = am_E (am_D (d + 2)) m_17_166 (.inl 17) [some (am_r (am_a 254)), some (am_i (c : Int)), some (am_i (gl : Int)), some (am_i (bI true)), some (am_i bt), some (am_i (l.2.2.1 : Int)), some (am_i (gn : Int)), some (am_i (rwd V ch l)), some (am_i (rn l.2.2.2.1 (rwd V ch l))), none] [am_i (rlo l.2.2.2.1), am_i (am_w ((am_shl 1 (rn l.2.2.2.1 (rwd V ch l))) - 1))] (zS L, g1) := by
              unfold rlo
              by_cases w : l.2.2.2.1.1 = -1
              · rw [if_pos w, if_pos w]
              · rw [if_neg w, if_neg w, p_idx (by omega) (by omega), Int.toNat_natCast, f1.cell 343 rfl rfl, (l7 w).1]
            rw [st2, q_17_166_17, mk, p_idx (by omega) (by omega), Int.toNat_natCast, show g1 351 gn = h 351 gn by rw [f1.cell 351 rfl rfl]]
            have o1 : ∀ (g : am_H) (s : (Nat → Int) × (Nat → Int)), p_fr [] ntF h g → oM chs c ch s h → oM chs c ch (p_set s.1 (rpn V ch l).toNat (am_or (s.1 (rpn V ch l).toNat) (rmk l.2.2.2.1 (rwd V ch l))), s.2) (am_up g 351 gn (am_or (h 351 gn) (rmk l.2.2.2.1 (rwd V ch l)))) := fun g s fg hs => by
              refine ⟨fun j hj => ?_, fun j hj => ?_⟩
              · unfold p_set
                dsimp only
                by_cases ej : j = (rpn V ch l).toNat
                · rw [if_pos ej, ej, ← hgn, p_up_s, show h 351 gn = s.1 (rpn V ch l).toNat by rw [hgn]; exact hs.1 _ pj]
                · rw [if_neg ej, p_up_n _ _ _ _ _ _ (Or.inr (by omega)), fg.cell 351 rfl rfl]; exact hs.1 j hj
              · rw [p_up_c _ _ _ _ _ (by decide), fg.cell 348 rfl rfl]; exact hs.2 j hj
            by_cases w : am_and (h 351 gn) (rmk l.2.2.2.1 (rwd V ch l)) = 0
            · rw [if_pos w, p_idx (by omega) (by omega), p_idx (by omega) (by omega), Int.toNat_natCast, show g1 351 gn = h 351 gn by rw [f1.cell 351 rfl rfl]]
              refine ⟨_, ns1, rfl, N1.fr (by rw [p_up_c _ _ _ _ _ (by decide)]) (by rw [p_up_c _ _ _ _ _ (by decide)]), rg1, (f1.mono rfl rfl).upc _ _ _ rfl, fun hbt s hs => ?_⟩
              rw [if_pos rfl]
              unfold lkD
              have qv : h 351 gn = s.1 (rpn V ch l).toNat := by rw [hgn]; exact hs.1 _ pj
              rw [if_pos kr, if_neg y1, if_neg nin, if_pos y5, ← qv, if_pos w]
              rcases c1 with ⟨z, n1⟩ | ⟨z, n1⟩
              · rw [if_pos (by rcases z with w | w; exact absurd w hbt; exact w)]
                refine ⟨n1, ?_⟩
                have := o1 g1 s f1 hs
                rw [← qv] at this
                exact this
              · rw [if_neg z.2, n1]
                exact lst1 P _
            · obtain ⟨h1, r1, r2, r3⟩ := note 3 l.2.2.1 (by decide) rz f1 N1
              rw [if_neg w, r1, p_xV, p_idx (by omega) (by omega), p_idx (by omega) (by omega)]
              refine ⟨_, ns1 ++ [(3, l.2.2.1)], rfl, ?_, ?_, (r3.mono rfl rfl).upc _ _ _ rfl, fun hbt s hs => ?_⟩
              · rw [nfold_app]
                exact r2.fr (by rw [p_up_c _ _ _ _ _ (by decide)]) (by rw [p_up_c _ _ _ _ _ (by decide)])
              · intro x hx
                rcases List.mem_append.1 hx with hx | hx
                · exact rg1 x hx
                · rw [List.mem_singleton.1 hx]; exact ⟨Nat.le_refl _, t4.2, show (0 : Int) < 3 by decide⟩
              · rw [if_pos rfl]
                unfold lkD
                have qv : h 351 gn = s.1 (rpn V ch l).toNat := by rw [hgn]; exact hs.1 _ pj
                rw [if_pos kr, if_neg y1, if_neg nin, if_pos y5, ← qv, if_neg w]
                refine ⟨List.mem_append_right _ (List.mem_singleton.2 rfl), fun x hx => ?_⟩
                rcases List.mem_append.1 hx with hx | hx
                · rcases c1 with ⟨z, n1⟩ | ⟨z, n1⟩
                  · rw [n1] at hx; exact absurd hx List.not_mem_nil
                  · rw [n1] at hx; rw [List.mem_singleton.1 hx]; exact Or.inr ⟨rfl, show (3 : Int) ≤ 5 by decide⟩
                · rw [List.mem_singleton.1 hx]; exact Or.inr ⟨rfl, Int.le_refl _⟩
        · have rt : l.2.2.2.1.1 = ((l.2.2.1 + 1 : Nat) : Int) ∧ l.2.2.1 + 1 < l.2.2.2.2 := by
            rcases rb with z | z
            · exact absurd (show rok l.2.2.2.1 (rwd V ch l) by unfold rok rlo rhi; rw [if_pos z, if_pos z]; omega) y5
            · exact z
          obtain ⟨h1, r1, r2, r3⟩ := note 5 (l.2.2.1 + 1) (by decide) (by omega) (p_fr.refl h) N
          rw [pB_f y5, if_pos rfl, p_idx (by omega) (by omega), Int.toNat_natCast, l6, rt.1, r1, p_xV]
          refine ⟨h1, [(5, l.2.2.1 + 1)], rfl, r2, nrg1 (Nat.le_succ _) rt.2 (show (0 : Int) < 5 by decide), r3.mono rfl rfl, fun hbt s hs => ?_⟩
          have tn : l.2.2.2.1.1.toNat = l.2.2.1 + 1 := by omega
          cases b with
          | true =>
            rw [if_pos rfl]
            unfold lkD
            rw [if_pos kr, if_neg y1, if_neg (ob.1 rfl), if_neg y5, tn]
            exact lst1 P _
          | false =>
            have nin : rpn V ch l < ch.2.2.1 := by
              rcases Int.lt_or_le (rpn V ch l) ch.2.2.1 with z | z
              · exact z
              · exact absurd (ob.2 (by omega)) (by decide)
            rw [if_neg (by decide)]
            unfold lkX
            rw [if_pos kr, if_neg y1, if_pos nin, if_neg y5, tn]
            exact lst1 P _
      · obtain ⟨h1, r1, r2, r3⟩ := note 4 l.2.2.1 (by decide) rz (p_fr.refl h) N
        rw [if_neg m1]
        refine ⟨h1, [(4, l.2.2.1)], by rw [r1, p_xV], r2, nrg1 (Nat.le_refl _) t4.2 (show (0 : Int) < 4 by decide), r3.mono rfl rfl, fun hbt s hs => ?_⟩
        cases b with
        | true =>
          have nin : rpn V ch l < ch.2.2.1 := by
            rcases Int.lt_or_le (rpn V ch l) ch.2.2.1 with z | z
            · exact z
            · exact absurd (by rw [if_pos (by omega)]; rfl) m1
          rw [if_pos rfl]
          unfold lkD
          rw [if_pos kr, if_neg y1, if_pos nin]
          exact lst1 P _
        | false =>
          have nin : ¬ rpn V ch l < ch.2.2.1 := fun z => m1 (by rw [if_neg (by omega)]; rfl)
          rw [if_neg (by decide)]
          unfold lkX
          rw [if_pos kr, if_neg y1, if_neg nin]
          exact lst1 P _
  · rw [if_neg (fun z => kr (kk.2.1.1 z))]
    cases b with
    | false =>
      rw [if_pos (show bI false = 0 from rfl)]
      refine ⟨h, [], rfl, N, nrg_nil _ _, p_fr.refl h, fun hb s hs => ?_⟩
      rw [if_neg (by decide)]
      unfold lkX
      rw [if_neg kr]
      exact ⟨rfl, hs⟩
    | true =>
      rw [if_neg (show ¬ bI true = 0 by decide)]
      obtain ⟨h1, r1, r2, r3⟩ := note 4 l.2.2.1 (by decide) rz (p_fr.refl h) N
      refine ⟨h1, [(4, l.2.2.1)], by rw [r1, p_xV], r2, nrg1 (Nat.le_refl _) t4.2 (show (0 : Int) < 4 by decide), r3.mono rfl rfl, fun hb s hs => ?_⟩
      rw [if_pos rfl]
      unfold lkD
      rw [if_neg kr]
      exact lst1 P _
end
