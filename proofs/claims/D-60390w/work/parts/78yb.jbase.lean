/-! RUN, 0: the model's memory beside the machine's; reading, writing, errors -/
/-- blocks of the heap, in order from an address on -/
def bS (lo : Int) : List (Int × Int) → Prop
  | [] => True
  | q :: r => lo ≤ q.1 ∧ 1 ≤ q.2 ∧ q.1 + q.2 ≤ 14336 ∧ bS (q.1 + q.2) r
/-- the machine's rows of blocks -/
def vBk (m : Nat → Int) (bl : List (Int × Int)) : Prop := (m 16 = 16520 ∧ m 17 = 16640 ∧ m 18 = (bl.length : Int) ∧ bl.length ≤ 100) ∧ (∀ j q, bl[j]? = some q → m (16520 + j) = q.1 ∧ m (16640 + j) = q.2) ∧ bS 2048 bl
/-- the model's -/
def bk (h : am_H) : List (Int × Int) := (List.range (h 254 81).toNat).map fun b => (h 309 b, h 310 b)
/-- keys -/
def kyR (ky : List Int) (h : am_H) : Prop := h 254 102 = (ky.length : Int) ∧ ky.length ≤ 200 ∧ ∀ j c, ky[j]? = some c → h 319 j = c ∧ 0 ≤ c ∧ c ≤ 255
def MR (ky : List Int) (G : vG) (h : am_H) : Prop :=
  (∀ a : Nat, v_pl (a : Int) → G.1 a = h 308 a) ∧ (∃ bl, vBk G.1 bl ∧ (0 ≤ h 254 81 ∧ h 254 81 ≤ 100) ∧ bl.Perm (bk h)) ∧ (h 254 108 = if G.1 19 = 0 then 0 else 1) ∧
  (h 254 103 = (G.2.1 : Int) ∧ G.2.1 ≤ ky.length ∧ kyR ky h) ∧ (h 254 106 = (G.2.2.length : Int) ∧ G.2.2.length ≤ 3000 ∧ ∀ j c, G.2.2[j]? = some c → h 320 j = c ∧ 0 ≤ c ∧ c ≤ 255) ∧ (∀ a, rg16 (G.1 a))
/-- what a call of the system may change -/
def jC : List Nat := [308, 309, 310, 320]
def jF : List (Nat × Nat) := [(254, 81), (254, 99), (254, 100), (254, 103), (254, 106), (254, 108)]
/-- what it leaves alone in the machine's memory: the text's statics -/
def vfr (G G' : vG) : Prop := ∀ a, 20 ≤ a → a < 2048 → G'.1 a = G.1 a
/-- an outcome on both sides -/
def JO (ky : List Int) (G : vG) (h : am_H) (o : vO) (h' : am_H) : Prop := MR ky o.2 h' ∧ vfr G o.2 ∧ p_fr jC jF h h' ∧ (match o.1 with
  | .inl v => h' 254 99 = -1 ∧ h' 254 100 = h 254 100 ∧ rg16 v
  | .inr e => h' 254 99 = e.1 ∧ 0 ≤ e.1 ∧ h' 254 100 = (if e.1 = 3 then e.2 else h 254 100))
/-- the model goes on behind an error: nothing changes any more -/
def erh (n : Int) (h : am_H) : am_H := if h 254 99 = -1 then am_up (am_up h 254 99 3) 254 100 n else h
section
variable (d L : Nat) (h : am_H)
theorem m_err (n : Int) : am_D (d + 1) 17 77 [am_r (am_a 254), am_i n] (zS L, h) = pV L (erh n h) := by
  rw [D_17_77]; unfold erh; split <;> rfl
theorem m_s16 (x : Int) : am_D (d + 1) 17 76 [am_i x] (zS L, h) = pI L (am_s16 x) h := by rw [D_17_76]
theorem m_pl (x : Int) : am_D (d + 1) 17 78 [am_i x] (zS L, h) = pI L (pB (v_pl x)) h := by
  rw [D_17_78]
  by_cases c1 : x < 2048
  · rw [if_pos c1, q_17_78_1]
    by_cases c2 : x < 16384
    · rw [if_pos c2, p_bit0, pB_f (by unfold v_pl; omega)]
    · rw [if_neg c2]
      by_cases c3 : 16511 < x
      · rw [if_pos c3, p_bit0, pB_f (by unfold v_pl; omega)]
      · rw [if_neg c3, p_bit1, pB_t (by unfold v_pl; omega)]
  · rw [if_neg c1]
    by_cases c0 : 14335 < x
    · rw [if_pos c0, q_17_78_1]
      by_cases c2 : x < 16384
      · rw [if_pos c2, p_bit0, pB_f (by unfold v_pl; omega)]
      · rw [if_neg c2]
        by_cases c3 : 16511 < x
        · rw [if_pos c3, p_bit0, pB_f (by unfold v_pl; omega)]
        · rw [if_neg c3, p_bit1, pB_t (by unfold v_pl; omega)]
    · rw [if_neg c0, p_bit1, pB_t (by unfold v_pl; omega)]
theorem m_read (a : Int) : am_D (d + 2) 17 79 [am_r (am_a 254), am_i a] (zS L, h) = if v_pl (am_s16 a) then pI L (h 308 (am_s16 a).toNat) h else pI L 0 (erh 20 h) := by
  rw [D_17_79, m_s16, p_xI, m_pl, p_xI]
  by_cases c : v_pl (am_s16 a)
  · rw [pB_t c, if_neg (by decide), m_pl, p_xI, pB_t c, if_neg (by decide), p_idx (by unfold v_pl at c; omega) (by unfold v_pl at c; omega), if_pos c]
  · rw [pB_f c, if_pos rfl, m_err, p_xV, m_pl, p_xI, pB_f c, if_pos rfl, if_neg c]
theorem m_write (a v : Int) : am_D (d + 2) 17 80 [am_r (am_a 254), am_i a, am_i v] (zS L, h) = pV L (if h 254 99 = -1 then (if v_pl (am_s16 a) then am_up h 308 (am_s16 a).toNat (am_s16 v) else erh 20 h) else h) := by
  rw [D_17_80, m_s16, p_xI, m_pl, p_xI]
  by_cases c : v_pl (am_s16 a)
  · rw [pB_t c, if_neg (by decide), q_17_80_1]
    by_cases e : h 254 99 = -1
    · rw [if_pos e, m_s16, p_xI, p_idx (by unfold v_pl at c; omega) (by unfold v_pl at c; omega), if_pos e, if_pos c]
    · rw [if_neg e, if_neg e]
  · rw [pB_f c, if_pos rfl, m_err, p_xV, q_17_80_1]
    by_cases e : h 254 99 = -1
    · have : erh 20 h 254 99 = 3 := by unfold erh; rw [if_pos e, p_up_n _ _ _ _ _ _ (Or.inr (by decide)), p_up_s]
      rw [this, if_neg (by decide), if_pos e, if_neg c]
    · have : erh 20 h = h := by unfold erh; rw [if_neg e]
      rw [this, if_neg e, if_neg e]
end
section
variable {ky : List Int} {G : vG} {h : am_H}
theorem vfr_refl (G : vG) : vfr G G := fun _ _ _ => rfl
theorem vfr.trans {G1 G2 : vG} (a : vfr G G1) (b : vfr G1 G2) : vfr G G2 := fun x h1 h2 => (b x h1 h2).trans (a x h1 h2)
theorem erh_t {n : Int} (e : h 254 99 = -1) : erh n h = am_up (am_up h 254 99 3) 254 100 n := if_pos e
theorem erh_f {n : Int} (e : h 254 99 ≠ -1) : erh n h = h := if_neg e
theorem erh_99 {n : Int} (e : h 254 99 = -1) : erh n h 254 99 = 3 := by rw [erh_t e, p_up_n _ _ _ _ _ _ (Or.inr (by decide)), p_up_s]
theorem erh_100 {n : Int} (e : h 254 99 = -1) : erh n h 254 100 = n := by rw [erh_t e, p_up_s]
theorem erh_c {n : Int} {a : Nat} (ha : a ≠ 254) : erh n h a = h a := by
  unfold erh; split
  · rw [p_up_c _ _ _ _ _ ha, p_up_c _ _ _ _ _ ha]
  · rfl
theorem erh_f2 {n : Int} {k : Nat} (h1 : k ≠ 99) (h2 : k ≠ 100) : erh n h 254 k = h 254 k := by
  unfold erh; split
  · rw [p_up_n _ _ _ _ _ _ (Or.inr h2), p_up_n _ _ _ _ _ _ (Or.inr h1)]
  · rfl
theorem erh_fr {n : Int} : p_fr jC jF h (erh n h) := by
  unfold erh; split
  · exact ((p_fr.refl h).upf _ _ _ rfl).upf _ _ _ rfl
  · exact p_fr.refl h
theorem MR.same {h' : am_H} (R : MR ky G h) (hc : ∀ a, a = 308 ∨ a = 309 ∨ a = 310 ∨ a = 319 ∨ a = 320 → h' a = h a) (hf : ∀ k, k = 81 ∨ k = 102 ∨ k = 103 ∨ k = 106 ∨ k = 108 → h' 254 k = h 254 k) : MR ky G h' := by
  unfold MR kyR bk at *
  rw [hc 308 (by omega), hc 309 (by omega), hc 310 (by omega), hc 319 (by omega), hc 320 (by omega), hf 81 (by omega), hf 102 (by omega), hf 103 (by omega), hf 106 (by omega), hf 108 (by omega)]
  exact R
theorem MR.erh (R : MR ky G h) (n : Int) : MR ky G (erh n h) := R.same (fun a ha => erh_c (by omega)) (fun k hk => erh_f2 (by omega) (by omega))
/-- an error on both sides -/
theorem JO_err (R : MR ky G h) (e : h 254 99 = -1) (n : Int) : JO ky G h (.inr (3, n), G) (erh n h) := ⟨R.erh n, vfr_refl G, erh_fr, erh_99 e, show (0 : Int) ≤ 3 by decide, erh_100 e⟩
theorem JO_ret (R : MR ky G h) (e : h 254 99 = -1) {v : Int} (hv : rg16 v) : JO ky G h (.inl v, G) h := ⟨R, vfr_refl G, p_fr.refl h, e, rfl, hv⟩
theorem MR.rg (R : MR ky G h) (a : Nat) : rg16 (G.1 a) := R.2.2.2.2.2 a
theorem MR.rd (R : MR ky G h) {a : Int} (c : v_pl a) : h 308 a.toNat = G.1 a.toNat := (R.1 a.toNat (by unfold v_pl at *; omega)).symm
/-- a word is written on both sides -/
theorem MR.wr (R : MR ky G h) {a : Int} (c : v_pl a) {v : Int} (hv : rg16 v) : MR ky (p_set G.1 a.toNat v, G.2) (am_up h 308 a.toNat v) := by
  obtain ⟨r1, ⟨bl, ⟨⟨b1, b2, b3, b4⟩, b5, b6⟩, r2, r3⟩, r4, r5, r6, r7⟩ := R
  have f : ∀ k, am_up h 308 a.toNat v 254 k = h 254 k := fun k => by rw [p_up_c _ _ _ _ _ (by decide)]
  have na : ∀ j : Nat, ¬ v_pl (j : Int) → j ≠ a.toNat := fun j hj z => hj (by unfold v_pl at *; omega)
  have n16 := na 16 (by unfold v_pl; omega)
  have n17 := na 17 (by unfold v_pl; omega)
  have n18 := na 18 (by unfold v_pl; omega)
  have n19 := na 19 (by unfold v_pl; omega)
  refine ⟨fun j hj => ?_, ⟨bl, ⟨⟨?_, ?_, ?_, b4⟩, fun j q hq => ?_, b6⟩, ?_, ?_⟩, ?_, ?_, ?_, fun j => ?_⟩
  · show p_set G.1 a.toNat v j = _
    by_cases z : j = a.toNat
    · rw [z, p_set_s, p_up_s]
    · rw [p_set_n _ _ _ _ z, p_up_n _ _ _ _ _ _ (Or.inr z)]; exact r1 j hj
  · exact (p_set_n _ _ _ _ n16).trans b1
  · exact (p_set_n _ _ _ _ n17).trans b2
  · exact (p_set_n _ _ _ _ n18).trans b3
  · have hj : j < bl.length := (List.getElem?_eq_some_iff.1 hq).1
    dsimp only
    rw [p_set_n _ _ _ _ (na (16520 + j) (by unfold v_pl; omega)), p_set_n _ _ _ _ (na (16640 + j) (by unfold v_pl; omega))]
    exact b5 j q hq
  · rw [f]; exact r2
  · unfold bk; rw [f, p_up_c _ _ _ _ _ (by decide), p_up_c _ _ _ _ _ (by decide)]; exact r3
  · rw [f]; simp only [p_set_n _ _ _ _ n19]; exact r4
  · unfold kyR; rw [f, f, p_up_c _ _ _ _ _ (by decide)]; exact r5
  · rw [f, p_up_c _ _ _ _ _ (by decide)]; exact r6
  · show rg16 (p_set G.1 a.toNat v j)
    by_cases z : j = a.toNat
    · rw [z, p_set_s]; exact hv
    · rw [p_set_n _ _ _ _ z]; exact r7 j
theorem vfr_wr {a : Int} (c : v_pl a) (v : Int) : vfr G (p_set G.1 a.toNat v, G.2) := fun j h1 h2 => p_set_n _ _ _ _ (by unfold v_pl at c; omega)
theorem jfr_wr (a : Nat) (v : Int) : p_fr jC jF h (am_up h 308 a v) := (p_fr.refl h).upc _ _ _ rfl
/-- JO over two steps -/
theorem JO.pre {G1 : vG} {h1 h2 : am_H} {o : vO} (f : vfr G G1) (p : p_fr jC jF h h1) (e : h1 254 100 = h 254 100) (J : JO ky G1 h1 o h2) : JO ky G h o h2 := by
  obtain ⟨a, b, c, x⟩ := J
  refine ⟨a, f.trans b, p.trans c, ?_⟩
  rcases o with ⟨v | q, G2⟩
  · exact ⟨x.1, x.2.1.trans e, x.2.2⟩
  · refine ⟨x.1, x.2.1, ?_⟩
    rw [x.2.2, e]
end
