/-! LOAD, 15: both readings, from the same text -/
section
variable {N0 ws : List (List Int)} {sc ss : Nat → Int} {cc cs : Nat → Nat} {h hc hm : am_H} {t : Nat → Int} {n k' : Nat}
theorem Rz_id (e1 : h 213 3 = 9) (e2 : h 217 5 = 49) : Rz h = h := by
  funext c k
  unfold Rz
  by_cases z : c = 217 ∧ k = 5
  · rw [z.1, z.2, p_up_s, e2]
  · rw [p_up_n _ _ _ _ _ _ (by omega)]
    by_cases z2 : c = 213 ∧ k = 3
    · rw [z2.1, z2.2, p_up_s, e1]
    · rw [p_up_n _ _ _ _ _ _ (by omega)]
theorem SY_h {b20 b21 : Nat} {h h' c : am_H} (e1 : h' 297 = h 297) (e2 : h' 300 = h 300) (e3 : h' 301 = h 301) (Y : SY b20 b21 sc ss cc cs h c) : SY b20 b21 sc ss cc cs h' c := by
  unfold SY at *
  rw [e1, e2, e3]; exact Y
/-- the tokens of a text -/
def tkZ (t : Nat → Int) (n : Nat) (N0 : List (List Int)) : Nat := (lx_toks t n 1000 (n + 1) 0 0 N0).1.length - 1
def tkN (t : Nat → Int) (n : Nat) (N0 : List (List Int)) : List (List Int) := (lx_toks t n 1000 (n + 1) 0 0 N0).2
theorem lo_at (d e L L2 : Nat) (hd : pc_ds 2 ≤ d + 5) (hcl : am_cl 168 ≤ 10000) (I : LST N0 ws sc ss cc cs h) (C : cPre N0 t n k' h hc) (hn : n ≤ 4000) (M : lm_S t n (lx_mods t n ws 1000 (n + 1) 0 0) hm) (m10 : hm 254 10 = 0) (m51 : 0 ≤ hm 254 51 ∧ hm 254 51 ≤ 142) (e297 : hm 297 = h 297 ∧ hm 298 = h 298 ∧ hm 299 = h 299 ∧ hm 300 = h 300 ∧ hm 301 = h 301) (x1 : Int) (u1 : Option am_V) :
    mG t n (tkN t n N0) (hc 241) (hc 242) (hc 243) sc ss (tkZ t n N0) (hc 212 27) (hc 212 26) hm ∧
    (∀ i, i ≤ tkZ t n N0 → hc 241 i = 4 → ∀ j, j < (hc 242 i).toNat → hc 3 ((hc 243 i + 1).toNat + j) = t ((hc 243 i + 1).toNat + j) ∧ 0 ≤ t ((hc 243 i + 1).toNat + j) ∧ t ((hc 243 i + 1).toNat + j) ≤ 255) ∧
    ((∃ (x : Int × Int) (h' g' h2 : am_H), 0 < x.1 ∧ am_E (am_D (d + 10)) m_7_26 (.inl 3) [some (am_r (am_a 212)), u1, some (am_i 0), some (am_i 0)] [] (zS L, hc) = pI L x.1 h' ∧ h' 212 9 = x.1 ∧ h' 212 10 = x.2 ∧ p_fr [] pc_pf g' h' ∧ (cQ 9 49 1572 hc g' ∧ ce_ok g') ∧ mLd e L2 x1 hm = pI L2 x.1 h2 ∧ h2 254 4 = x.2 ∧ p_fr mq_C mq_F hm h2 ∧ 0 ≤ h2 254 51 ∧ h2 254 51 ≤ 142) ∨
     (∃ es p S c0 c' hr h1 h', okL (hc 241) (hc 243) (hc 242) sc ss cc cs 9 49 4 1572 152 (tkZ t n N0) (hc 212 27) (hc 212 26) hc hm es p S c0 c' hr h1 ∧ am_E (am_D (d + 10)) m_7_26 (.inl 3) [some (am_r (am_a 212)), u1, some (am_i 0), some (am_i 0)] [] (zS L, hc) = pI L 0 h' ∧ (p_fr [] pc_ps c'.1 h' ∧ ce_ok c'.1) ∧
      mLd e L2 x1 hm = am_E (am_D (e + 15)) m_17_68 (.inl 7) [some (am_r (am_a 254)), some (am_i x1), some (am_i 0)] [] (zS L2, h7m h1))) := by
  obtain ⟨SFh, ⟨e14, e15, e16, e17⟩, told, nms, ⟨k2899, k243⟩, ⟨r1, r2, r3, r4⟩, -, -⟩ := I
  obtain ⟨LC, ⟨c83, c84, c12, c19, c2⟩, ⟨t213, t217, t15, t20, t21, t22, t23, t10⟩, A, fr, hi, p243, txt⟩ := C
  have SFc := SF_agr A SFh
  obtain ⟨⟨Y, Yw, Yn, R⟩, ⟨b1, b2, ne⟩, ⟨⟨mm1, mm2⟩, mm3, mm4⟩, Sk, Bg, ⟨W, w21, w398, w1960, Wr⟩, Skn⟩ := SFc
  obtain ⟨A1, A2, A3, ⟨a211, a297, a298, a299, a300, a301⟩, A5, A6⟩ := A
  rw [Rz_id t213 t217] at Sk Skn
  have tk := fun k (hk : k < n) => LC.1.rg hk
  obtain ⟨sh1, sh2, sh3, sh4⟩ := lx_shape tk (most := 1000) (n + 1) 0 0 N0 (by omega) (by omega) (by omega)
  obtain ⟨G, g01, g02, g03⟩ := lx_grow (t := t) (n := n) (most := 1000) (n + 1) 0 0 N0
  have hFl : (lx_toks t n 1000 (n + 1) 0 0 N0).2.length ≤ 1400 := by rw [g01, List.length_append]; omega
  have Tk : tokR t n (tkN t n N0) (hc 241) (hc 242) (hc 243) (tkZ t n N0) hm := tokR_of (hc0 := hc) (m := n + 1) (by omega) tk W w21 hFl hn LC M
  obtain ⟨K1, K2⟩ := LC.2.2.1
  have zl : tkZ t n N0 + 1 = (lx_toks t n 1000 (n + 1) 0 0 N0).1.length := by unfold tkZ; omega
  have zg : ∃ q, (lx_toks t n 1000 (n + 1) 0 0 N0).1[tkZ t n N0]? = some q := ⟨_, List.getElem?_eq_getElem (by omega)⟩
  obtain ⟨q, hq⟩ := zg
  have hz := (sh3 _ q hq).2.2.2.2 zl
  have kz := K2 _ q hq
  have idx : ∀ w, w ∈ N0 → w ∈ tkN t n N0 ∧ (tkN t n N0).idxOf w = N0.idxOf w := fun w hw => by
    unfold tkN
    rw [g01]
    exact ⟨List.mem_append_left _ hw, by rw [List.idxOf_append, if_pos hw]⟩
  have B : mG t n (tkN t n N0) (hc 241) (hc 242) (hc 243) sc ss (tkZ t n N0) (hc 212 27) (hc 212 26) hm := by
    refine ⟨Tk, fun k hk => (M.1.2.2 k hk).1, ⟨fun c hc' => ?_, fun s hs hs2 => ?_, ?_⟩, ⟨(idx _ mm1).1, by rw [mm2, (idx _ mm1).2]⟩, ⟨(idx _ mm3).1, by rw [mm4, (idx _ mm3).2]⟩, ?_, ⟨m10, m51⟩, M.1.1⟩
    · obtain ⟨w, z1, z2, z3⟩ := Yw.1 c hc'
      exact ⟨w, by rw [e297.2.1, ← a298]; exact z1, (idx w z2).1, by rw [z3, (idx w z2).2]⟩
    · rw [e297.1, ← a297] at hs2
      obtain ⟨w, z1, z2, z3⟩ := Yw.2.1 s hs hs2
      exact ⟨w, by rw [e297.2.2.1, ← a299]; exact z1, (idx w z2).1, by rw [z3, (idx w z2).2]⟩
    · rw [e297.1, ← a297]; exact Yw.2.2
    · intro s _
      rw [e297.2.2.2.1, ← a300]
      exact Y.2.2.2.2.2.2.2.2 s
  have hY : ∃ Y, tkZ t n N0 ≤ Y ∧ Y < 4500 ∧ (hc 241 Y = 0 ∨ hc 241 Y = 6) := ⟨2899, by omega, by decide, Or.inl (by rw [hi 241 2899 (by omega) (by decide)]; exact k2899)⟩
  have f223 : hc 223 5 = h 223 5 := fr 223 5 rfl rfl
  have f229 : hc 229 5 = h 229 5 := fr 229 5 rfl rfl
  have f2353 : hc 235 3 = h 235 3 := fr 235 3 rfl rfl
  have f2354 : hc 235 4 = h 235 4 := fr 235 4 rfl rfl
  have kzz : hc 241 (tkZ t n N0) = 0 ∨ hc 241 (tkZ t n N0) = 6 ∨ tkZ t n N0 = 1000 := by rw [kz.1]; omega
  have cg : cG (hc 241) (hc 242) (hc 243) (tkZ t n N0) hc hc := by
    refine ⟨p_fr.refl hc, t23, rfl, rfl, rfl, ⟨by rw [c83]; decide, by rw [c84]; decide, by rw [f2353]; exact r1, by rw [f2354]; omega, by rw [t213]; decide, by rw [t217]; decide, by rw [f223]; exact r3, by rw [f229]; exact r4⟩, ⟨by omega, ?_, fun i hi2 => (Tk.2.2.2.2.1 i hi2).2, hY⟩, Nat.zero_le _, fun q1 q2 => ?_⟩
    · rcases kzz with z | z | z
      · exact Or.inl z
      · exact Or.inr (Or.inl z)
      · exact Or.inr (Or.inr ⟨rfl, z⟩)
    · apply Classical.byContradiction
      intro z
      have z0 : tkZ t n N0 = 0 := by omega
      rw [z0] at kzz
      rcases kzz with w | w | w
      · exact q1 w
      · exact q2 w
      · omega
  have cs : cS 9 49 4 1572 152 (hc 6) hc := ⟨⟨t20, t213, t21, t217, t22, rfl⟩, ⟨c83, c84⟩, by rw [f2354]; exact r2, by decide⟩
  have h6 : ∀ i, i < (tkN t n N0).length → 0 ≤ hc 6 i ∧ hc 6 i < 18000 := fun i hi2 => by
    have gi := List.getElem?_eq_getElem hi2
    have := (LC.2.2.2.2.2 i _ gi).1
    have := pn_pos_le gi
    unfold tkN at this
    rw [‹hc 6 i = _›]
    unfold tkN at *
    omega
  refine ⟨B, fun i hi2 h4 j hj => ?_, lo_join d e L L2 hd cg cs h6 hY (SY_h (by rw [e297.1, a297]) (by rw [e297.2.2.2.1, a300]) (by rw [e297.2.2.2.2, a301]) Y) Skn LC.1.1 rfl rfl B hcl u1 x1⟩
  have gi := List.getElem?_eq_getElem (show i < (lx_toks t n 1000 (n + 1) 0 0 N0).1.length by omega)
  obtain ⟨y1, y2, y3⟩ := K2 i _ gi
  have st := lx_toks_str (n + 1) 0 0 N0 i _ gi (by rw [← y1]; exact h4) j (by rw [← y2]; exact hj)
  have pq := p243 i
  rw [show ((lx_toks t n 1000 (n + 1) 0 0 N0).1[i]).2.2.toNat + 1 + j = (hc 243 i + 1).toNat + j by rw [← y3]; omega] at st
  have := LC.1.2.2 _ st.1
  omega
end
