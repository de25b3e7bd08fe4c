/-! CHIPS, 12: the model's ranges and links -/
/-- all that the model has read: chips (name, first pin, first part, first inner name), pins (name, number, OUT), parts (name, first link), links, inner names -/
abbrev fM : Type := List (Nat × Nat × Nat × Nat) × List (Nat × Int × Bool) × List (Nat × Nat) × List cLk × List Nat
def c_w (V : Nat → Int) (num : Int) : Int := if num = -1 then 1 else if V num.toNat < 1 ∨ 16 < V num.toNat then 1 else V num.toNat
def fRc (F : fM) (h : am_H) : Prop := (h 254 122 = (F.1.length : Int) ∧ F.1.length ≤ 16) ∧ (h 254 125 = (F.2.1.length : Int) ∧ F.2.1.length ≤ 192) ∧ (h 254 131 = (F.2.2.1.length : Int) ∧ F.2.2.1.length ≤ 384) ∧ (h 254 134 = (F.2.2.2.1.length : Int) ∧ F.2.2.2.1.length ≤ 550) ∧ (h 254 144 = (F.2.2.2.2.length : Int) ∧ F.2.2.2.2.length ≤ 550)
def fRl (l : cLk) (k : Nat) (h : am_H) : Prop := (h 337 k = (l.1 : Int) ∧ h 338 k = l.2.1.1 ∧ h 339 k = l.2.1.2.1 ∧ h 340 k = l.2.1.2.2) ∧ h 341 k = (l.2.2.1 : Int) ∧ h 342 k = l.2.2.2.1.1 ∧ (l.2.2.2.1.1 ≠ -1 → h 343 k = l.2.2.2.1.2.1 ∧ h 344 k = l.2.2.2.1.2.2)
def fR (V : Nat → Int) (F : fM) (h : am_H) : Prop := fRc F h ∧ (∀ k c, F.1[k]? = some c → h 328 k = (c.1 : Int) ∧ h 329 k = (c.2.1 : Int) ∧ h 334 k = (c.2.2.1 : Int) ∧ h 345 k = (c.2.2.2 : Int)) ∧ (∀ k p, F.2.1[k]? = some p → h 331 k = (p.1 : Int) ∧ h 333 k = p.2.1 ∧ h 330 k = (if p.2.2 = true then 1 else 0) ∧ h 332 k = c_w V p.2.1) ∧ (∀ k t, F.2.2.1[k]? = some t → h 335 k = (t.1 : Int) ∧ h 336 k = (t.2 : Int)) ∧ (∀ k l, F.2.2.2.1[k]? = some l → fRl l k h) ∧ ∀ (k t : Nat), F.2.2.2.2[k]? = some t → h 346 k = (t : Int)
theorem fR.lim {V : Nat → Int} {F : fM} {h : am_H} (R : fR V F h) : mcL h := by
  obtain ⟨⟨⟨a1, a2⟩, ⟨b1, b2⟩, ⟨c1, c2⟩, ⟨d1, d2⟩, e⟩, -⟩ := R
  unfold mcL
  rw [a1, c1, d1]; omega
/-- what a step that reads no more than tokens changes -/
theorem fR.fr {V : Nat → Int} {F : fM} {h h' : am_H} (R : fR V F h) (f : p_fr [] [(254, 10), (254, 148), (254, 149), (254, 150)] h h') : fR V F h' := by
  unfold fR fRc fRl
  rw [f 254 122 rfl rfl, f 254 125 rfl rfl, f 254 131 rfl rfl, f 254 134 rfl rfl, f 254 144 rfl rfl, f.cell 328 rfl rfl, f.cell 329 rfl rfl, f.cell 330 rfl rfl, f.cell 331 rfl rfl, f.cell 332 rfl rfl, f.cell 333 rfl rfl, f.cell 334 rfl rfl, f.cell 335 rfl rfl, f.cell 336 rfl rfl, f.cell 337 rfl rfl, f.cell 338 rfl rfl, f.cell 339 rfl rfl, f.cell 340 rfl rfl, f.cell 341 rfl rfl, f.cell 342 rfl rfl, f.cell 343 rfl rfl, f.cell 344 rfl rfl, f.cell 345 rfl rfl, f.cell 346 rfl rfl]
  exact R
section
variable {d L : Nat} {K V P : Nat → Int} {W : Nat → List Int} {Z i : Nat} {g h : am_H}
/-- a name in a row of tokens, for pins (329, 331) -/
theorem mx_pinl (R : mR K V P W Z h) {t c lo : Nat} (ht : t ≤ Z) (kt : K t = 2) {l : List Nat} (hc : c + 1 < 18) (hl : lo + l.length ≤ 200) (h1 : h 329 (c + 1) = ((lo + l.length : Nat) : Int)) (hp : ∀ (k a : Nat), l[k]? = some a → h 331 (lo + k) = (a : Int) ∧ a ≤ Z ∧ K a = 2) : ∀ (m k : Nat), k + m = l.length → am_E (am_D (d + 1)) m_17_151 (.inl 1) [some (am_r (am_a 254)), some (am_i (c : Int)), some (am_i (t : Int)), some (am_i ((lo + k : Nat) : Int))] [] (zS L, h) = pI L (if ffnd (V t) ((l.drop k).map V) (lo + k) = -1 then -1 else ffnd (V t) ((l.drop k).map V) (lo + k)) h
  | 0, k, hk => by
    rw [q_17_151_1, p_w (by omega) (by omega), p_idx (by omega) (by omega), show ((c : Int) + 1).toNat = c + 1 by omega, h1, if_neg (by omega), List.drop_eq_nil_of_le (by omega)]
    rfl
  | m + 1, k, hk => by
    have hkl : k < l.length := by omega
    have hd : l.drop k = l[k] :: l.drop (k + 1) := List.drop_eq_getElem_cons hkl
    obtain ⟨p1, p2, p3⟩ := hp k _ (List.getElem?_eq_getElem hkl)
    rw [q_17_151_1, p_w (by omega) (by omega), p_idx (by omega) (by omega), show ((c : Int) + 1).toNat = c + 1 by omega, h1, if_pos (by omega), p_idx (by omega) (by omega), Int.toNat_natCast, p1, mx_like R p2 ht p3 kt, p_xI, hd, List.map_cons, ffnd_c, p_w (x := ((lo + k : Nat) : Int) + 1) (by omega) (by omega)]
    by_cases z : V l[k] = V t
    · rw [pB_t z, if_neg (by decide), if_pos z, if_neg (by omega)]
    · rw [pB_f z, if_pos rfl, if_neg z]
      exact mx_pinl R ht kt hc hl h1 hp m (k + 1) (by omega)
theorem ffnd_sh (x : Int) : ∀ (l : List Int) (i j : Nat), ffnd x l (i + j) = if ffnd x l j = -1 then -1 else (i : Int) + ffnd x l j
  | [], i, j => rfl
  | y :: l, i, j => by
    rw [ffnd_c, ffnd_c]
    by_cases z : y = x
    · rw [if_pos z, if_pos z, if_neg (by omega)]; omega
    · rw [if_neg z, if_neg z, show i + j + 1 = i + (j + 1) by omega]
      exact ffnd_sh x l i (j + 1)
theorem mx_pinOf (R : mR K V P W Z h) {t c lo : Nat} (ht : t ≤ Z) (kt : K t = 2) {l : List Nat} (hc : c + 1 < 18) (hl : lo + l.length ≤ 200) (h0 : h 329 c = (lo : Int)) (h1 : h 329 (c + 1) = ((lo + l.length : Nat) : Int)) (hp : ∀ (k a : Nat), l[k]? = some a → h 331 (lo + k) = (a : Int) ∧ a ≤ Z ∧ K a = 2) : am_D (d + 2) 17 151 [am_r (am_a 254), am_i (c : Int), am_i (t : Int)] (zS L, h) = pI L (if ffnd (V t) (l.map V) 0 = -1 then -1 else (lo : Int) + ffnd (V t) (l.map V) 0) h := by
  rw [D_17_151, p_idx (by omega) (by omega), Int.toNat_natCast, h0]
  have r := mx_pinl (d := d) (L := L) R ht kt hc hl h1 hp l.length 0 (by omega)
  rw [Nat.add_zero, List.drop_zero] at r
  refine r.trans ?_
  rw [ffnd_sh (V t) (l.map V) lo 0]
  by_cases z : ffnd (V t) (l.map V) 0 = -1
  · rw [if_pos z, if_pos rfl]
  · have := ffnd_rg (l.map V) (V t) 0
    rw [if_neg z, if_neg (by omega)]
theorem mx_innl (R : mR K V P W Z h) {t c lo : Nat} (ht : t ≤ Z) (kt : K t = 2) {l : List Nat} (hc : c + 1 < 18) (hl : lo + l.length ≤ 700) (h1 : h 345 (c + 1) = ((lo + l.length : Nat) : Int)) (hp : ∀ (k a : Nat), l[k]? = some a → h 346 (lo + k) = (a : Int) ∧ a ≤ Z ∧ K a = 2) : ∀ (m k : Nat), k + m = l.length → am_E (am_D (d + 1)) m_17_152 (.inl 1) [some (am_r (am_a 254)), some (am_i (c : Int)), some (am_i (t : Int)), some (am_i ((lo + k : Nat) : Int))] [] (zS L, h) = pI L (if ffnd (V t) ((l.drop k).map V) (lo + k) = -1 then -1 else ffnd (V t) ((l.drop k).map V) (lo + k)) h
  | 0, k, hk => by
    rw [q_17_152_1, p_w (by omega) (by omega), p_idx (by omega) (by omega), show ((c : Int) + 1).toNat = c + 1 by omega, h1, if_neg (by omega), List.drop_eq_nil_of_le (by omega)]
    rfl
  | m + 1, k, hk => by
    have hkl : k < l.length := by omega
    have hd : l.drop k = l[k] :: l.drop (k + 1) := List.drop_eq_getElem_cons hkl
    obtain ⟨p1, p2, p3⟩ := hp k _ (List.getElem?_eq_getElem hkl)
    rw [q_17_152_1, p_w (by omega) (by omega), p_idx (by omega) (by omega), show ((c : Int) + 1).toNat = c + 1 by omega, h1, if_pos (by omega), p_idx (by omega) (by omega), Int.toNat_natCast, p1, mx_like R p2 ht p3 kt, p_xI, hd, List.map_cons, ffnd_c, p_w (x := ((lo + k : Nat) : Int) + 1) (by omega) (by omega)]
    by_cases z : V l[k] = V t
    · rw [pB_t z, if_neg (by decide), if_pos z, if_neg (by omega)]
    · rw [pB_f z, if_pos rfl, if_neg z]
      exact mx_innl R ht kt hc hl h1 hp m (k + 1) (by omega)
theorem mx_innOf (R : mR K V P W Z h) {t c lo : Nat} (ht : t ≤ Z) (kt : K t = 2) {l : List Nat} (hc : c + 1 < 18) (hl : lo + l.length ≤ 700) (h0 : h 345 c = (lo : Int)) (h1 : h 345 (c + 1) = ((lo + l.length : Nat) : Int)) (hp : ∀ (k a : Nat), l[k]? = some a → h 346 (lo + k) = (a : Int) ∧ a ≤ Z ∧ K a = 2) : am_D (d + 2) 17 152 [am_r (am_a 254), am_i (c : Int), am_i (t : Int)] (zS L, h) = pI L (if ffnd (V t) (l.map V) 0 = -1 then -1 else (lo : Int) + ffnd (V t) (l.map V) 0) h := by
  rw [D_17_152, p_idx (by omega) (by omega), Int.toNat_natCast, h0]
  have r := mx_innl (d := d) (L := L) R ht kt hc hl h1 hp l.length 0 (by omega)
  rw [Nat.add_zero, List.drop_zero] at r
  refine r.trans ?_
  rw [ffnd_sh (V t) (l.map V) lo 0]
  by_cases z : ffnd (V t) (l.map V) 0 = -1
  · rw [if_pos z, if_pos rfl]
  · have := ffnd_rg (l.map V) (V t) 0
    rw [if_neg z, if_neg (by omega)]
/-- a number -/
theorem mx_num (N : mcN K V P W Z i g h) (B : mcL h) : (K i = 3 ∧ am_D (d + 3) 17 148 [am_r (am_a 254)] (zS L, h) = pI L (i : Int) (am_up h 254 10 ((i + 1 : Nat) : Int)) ∧ mcN K V P W Z (i + 1) g (am_up h 254 10 ((i + 1 : Nat) : Int))) ∨ (K i ≠ 3 ∧ ∃ v h', am_D (d + 3) 17 148 [am_r (am_a 254)] (zS L, h) = pI L v h' ∧ mcB P g (csx K i) h' ∧ p_fr [] [(254, 11), (254, 12)] h h') := by
  have ub := N.ub
  obtain ⟨a1, a2, a3, a4, a5⟩ := N.1.2.1 i N.2.2.1
  have kk := kmp_i a5
  rw [D_17_148, N.2.1, p_idx (by omega) (by omega), Int.toNat_natCast, a1]
  by_cases c : K i = 3
  · left
    obtain ⟨r1, r2⟩ := mx_go (d := d + 1) (L := L) N (by rw [c]; omega)
    refine ⟨c, ?_, r2⟩
    rw [if_pos (kk.2.2.1.2 c), r1, p_xV, p_up_s, p_w (by omega) (by omega), show ((i + 1 : Nat) : Int) - 1 = (i : Int) by omega]
  · right
    obtain ⟨h', r1, r2⟩ := mx_syntax (d := d) (L := L) N B
    refine ⟨c, am_w (h' 254 10 - 1), h', ?_, r2⟩
    rw [if_neg (fun z => c (kk.2.2.1.1 z)), r1, p_xV]
theorem mcL.up {h : am_H} (B : mcL h) {k : Nat} {v : Int} (hk : k ≠ 134 ∧ k ≠ 122 ∧ k ≠ 131) : mcL (am_up h 254 k v) := by
  unfold mcL
  rw [p_up_n _ _ _ _ _ _ (Or.inr hk.1.symm), p_up_n _ _ _ _ _ _ (Or.inr hk.2.1.symm), p_up_n _ _ _ _ _ _ (Or.inr hk.2.2.symm)]
  exact B
def rgF : List (Nat × Nat) := [(254, 10), (254, 148), (254, 149), (254, 150)]
theorem mx_range (N : mcN K V P W Z i g h) (B : mcL h) : match c_rng K V i with
      | .inl e => ∃ h', am_D (d + 4) 17 150 [am_r (am_a 254)] (zS L, h) = pV L h' ∧ mcB P g e h' ∧ p_fr [] ((254, 11) :: (254, 12) :: rgF) h h'
      | .inr q => ∃ h1, am_D (d + 4) 17 150 [am_r (am_a 254)] (zS L, h) = pV L h1 ∧ mcN K V P W Z q.2.2.2 g h1 ∧ p_fr [] rgF h h1 ∧ h1 254 148 = q.1 ∧ h1 254 149 = q.2.1 ∧ h1 254 150 = q.2.2.1 := by
  obtain ⟨h0, e0⟩ : ∃ h0, h0 = am_up (am_up (am_up h 254 148 (-1)) 254 149 0) 254 150 0 := ⟨_, rfl⟩
  have N0 : mcN K V P W Z i g h0 := by rw [e0]; exact ((N.up (Or.inr rfl) (by omega)).up (Or.inr rfl) (by omega)).up (Or.inr rfl) (by omega)
  have B0 : mcL h0 := by rw [e0]; exact ((B.up (by decide)).up (by decide)).up (by decide)
  have f0 : p_fr [] rgF h h0 := by rw [e0]; exact (((p_fr.refl h).upf _ _ _ rfl).upf _ _ _ rfl).upf _ _ _ rfl
  have x0 : h0 254 148 = -1 ∧ h0 254 149 = 0 ∧ h0 254 150 = 0 := by
    rw [e0]
    exact ⟨by rw [p_up_n _ _ _ _ _ _ (Or.inr (by decide)), p_up_n _ _ _ _ _ _ (Or.inr (by decide)), p_up_s], by rw [p_up_n _ _ _ _ _ _ (Or.inr (by decide)), p_up_s], by rw [p_up_s]⟩
  rw [D_17_150, ← e0, mx_isSign N0 91 (by decide) (by decide), p_xI]
  unfold c_rng
  by_cases c1 : cSg K V 91 i
  · rw [if_pos c1, pB_t c1, if_neg (show ¬ (1 : Int) = 0 by decide), N0.2.1]
    obtain ⟨h1, e1⟩ : ∃ h1, h1 = am_up h0 254 148 (i : Int) := ⟨_, rfl⟩
    have N1 : mcN K V P W Z i g h1 := by rw [e1]; exact N0.up (Or.inr rfl) (by omega)
    have B1 : mcL h1 := by rw [e1]; exact B0.up (by decide)
    rw [← e1]
    obtain ⟨r2, N2⟩ := mx_go (d := d + 2) (L := L) N1 (by rw [c1.1]; omega)
    have B2 := B1.up (k := 10) (v := ((i + 1 : Nat) : Int)) (by decide)
    obtain ⟨h2, e2⟩ : ∃ h2, h2 = am_up h1 254 10 ((i + 1 : Nat) : Int) := ⟨_, rfl⟩
    rw [← e2] at r2 N2 B2
    rw [r2, p_xV]
    have E2f : ∀ {e : cF} {h' : am_H} {x1 x2 : Int}, mcB P g e h' → p_fr [] ((254, 11) :: (254, 12) :: rgF) h h' → ∃ h'', am_E (am_D (d + 3)) m_17_150 (.inl 2) [some (am_r (am_a 254)), some (am_i x1), some (am_i x2)] [] (zS L, h') = pV L h'' ∧ mcB P g e h'' ∧ p_fr [] ((254, 11) :: (254, 12) :: rgF) h h'' := fun {e h' x1 x2} Be fe => by
      have Be' := Be
      obtain ⟨-, ⟨y1, y2⟩, -⟩ := Be'
      exact ⟨h', by rw [q_17_150_2, mz_needSign Be, p_xV, if_pos (by omega)], Be, fe⟩
    -- the closing bracket
    have close : ∀ {j : Nat} {hj : am_H} {a b : Nat}, mcN K V P W Z j g hj → mcL hj → p_fr [] rgF h hj → hj 254 148 = (i : Int) → a ≤ Z → b ≤ Z → K a = 3 → K b = 3 → match (if cSg K V 93 j then .inr ((i : Int), V a, V b, j + 1) else .inl (csx K j) : cF ⊕ (Int × Int × Int × Nat)) with
        | .inl e => ∃ h', am_E (am_D (d + 3)) m_17_150 (.inl 2) [some (am_r (am_a 254)), some (am_i (a : Int)), some (am_i (b : Int))] [] (zS L, hj) = pV L h' ∧ mcB P g e h' ∧ p_fr [] ((254, 11) :: (254, 12) :: rgF) h h'
        | .inr q => ∃ h1, am_E (am_D (d + 3)) m_17_150 (.inl 2) [some (am_r (am_a 254)), some (am_i (a : Int)), some (am_i (b : Int))] [] (zS L, hj) = pV L h1 ∧ mcN K V P W Z q.2.2.2 g h1 ∧ p_fr [] rgF h h1 ∧ h1 254 148 = q.1 ∧ h1 254 149 = q.2.1 ∧ h1 254 150 = q.2.2.1 := by
      intro j hj a b Nj Bj fj xj ha hb ka kb
      have z2 := N.1.1.1
      rw [q_17_150_2]
      rcases mx_needSign (d := d) (L := L) Nj Bj 93 (by decide) (by decide) with ⟨z, h', r1, r2, fr⟩ | ⟨z, r1, Nn⟩
      · rw [if_neg z]
        have r2' := r2
        obtain ⟨-, ⟨y1, y2⟩, -⟩ := r2'
        exact ⟨h', by rw [r1, p_xV, if_pos (by omega)], r2, (fj.mono rfl rfl).trans (fr.mono rfl rfl)⟩
      · rw [if_pos z, r1, p_xV, Nn.2.2.2.1, if_neg (by decide), p_idx (by omega) (by omega), p_idx (by omega) (by omega), Int.toNat_natCast, Int.toNat_natCast, (Nn.1.2.1 a ha).2.2.1 (Or.inr ka), (Nn.1.2.1 b hb).2.2.1 (Or.inr kb)]
        refine ⟨_, rfl, (Nn.up (Or.inr rfl) (by omega)).up (Or.inr rfl) (by omega), ((fj.upf _ _ _ rfl).upf _ _ _ rfl).upf _ _ _ rfl, ?_, ?_, p_up_s _ _ _ _⟩
        · rw [p_up_n _ _ _ _ _ _ (Or.inr (by decide)), p_up_n _ _ _ _ _ _ (Or.inr (by decide)), p_up_n _ _ _ _ _ _ (Or.inr (by decide))]; exact xj
        · rw [p_up_n _ _ _ _ _ _ (Or.inr (by decide)), p_up_s]
    have f2 : p_fr [] rgF h h2 := by rw [e2, e1]; exact (f0.upf _ _ _ rfl).upf _ _ _ rfl
    have x2 : h2 254 148 = (i : Int) := by rw [e2, p_up_n _ _ _ _ _ _ (Or.inr (by decide)), e1, p_up_s]
    rcases mx_num (d := d) (L := L) N2 B2 with ⟨k3, r3, N3⟩ | ⟨k3, v, h', r3, b3, fr3⟩
    · rw [if_pos k3, r3, p_xI, N3.2.2.2.1, if_pos rfl]
      obtain ⟨h3, e3⟩ : ∃ h3, h3 = am_up h2 254 10 ((i + 1 + 1 : Nat) : Int) := ⟨_, rfl⟩
      rw [← e3] at N3 ⊢
      have B3 : mcL h3 := by rw [e3]; exact B2.up (by decide)
      have f3 : p_fr [] rgF h h3 := by rw [e3]; exact f2.upf _ _ _ rfl
      have x3 : h3 254 148 = (i : Int) := by rw [e3, p_up_n _ _ _ _ _ _ (Or.inr (by decide))]; exact x2
      rw [mx_isDots N3, p_xI]
      have l1 := N2.2.2.1
      by_cases c3 : cSg K V 256 (i + 2)
      · have c3' : cSg K V 256 (i + 1 + 1) := c3
        rw [if_pos c3, pB_t c3', if_neg (show ¬ (1 : Int) = 0 by decide)]
        obtain ⟨r4, N4⟩ := mx_go (d := d + 2) (L := L) N3 (by rw [c3'.1]; omega)
        have B4 := B3.up (k := 10) (v := ((i + 1 + 1 + 1 : Nat) : Int)) (by decide)
        obtain ⟨h4, e4⟩ : ∃ h4, h4 = am_up h3 254 10 ((i + 1 + 1 + 1 : Nat) : Int) := ⟨_, rfl⟩
        rw [← e4] at r4 N4 B4
        have f4 : p_fr [] rgF h h4 := by rw [e4]; exact f3.upf _ _ _ rfl
        have x4 : h4 254 148 = (i : Int) := by rw [e4, p_up_n _ _ _ _ _ _ (Or.inr (by decide))]; exact x3
        rw [r4, p_xV]
        rcases mx_num (d := d) (L := L) N4 B4 with ⟨k5, r5, N5⟩ | ⟨k5, v, h', r5, b5, fr5⟩
        · rw [if_pos k5, r5, p_xI]
          have B5 := B4.up (k := 10) (v := ((i + 1 + 1 + 1 + 1 : Nat) : Int)) (by decide)
          exact close N5 B5 (f4.upf _ _ _ rfl) (by rw [p_up_n _ _ _ _ _ _ (Or.inr (by decide))]; exact x4) l1 N4.2.2.1 k3 k5
        · rw [if_neg k5, r5, p_xI]
          exact E2f b5 ((f4.mono rfl rfl).trans (fr5.mono rfl rfl))
      · have c3' : ¬ cSg K V 256 (i + 1 + 1) := c3
        rw [if_neg c3, pB_f c3', if_pos rfl]
        exact close N3 B3 f3 x3 l1 l1 k3 k3
    · rw [if_neg k3, r3, p_xI]
      have b3' := b3
      obtain ⟨-, ⟨y1, y2⟩, -⟩ := b3'
      rw [if_neg (by omega)]
      exact E2f b3 ((f2.mono rfl rfl).trans (fr3.mono rfl rfl))
  · rw [if_neg c1, pB_f c1, if_pos rfl]
    exact ⟨h0, rfl, N0, f0, x0⟩
end
