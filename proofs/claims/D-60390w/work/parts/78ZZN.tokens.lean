/-! PURE LAYER, 119: both sides' tokens, as the grammar wants them -/
/-- kinds as the model has them -/
def kM (K : Nat → Int) (Z i : Nat) : Int := if i ≤ Z then (if i = 1000 ∧ 1 ≤ K i ∧ K i ≤ 5 then 7 else K i) else 0
/-- what a text's tokens are: on both sides, and with names -/
def tokR (t : Nat → Int) (n : Nat) (F : List (List Int)) (K V P : Nat → Int) (Z : Nat) (hm : am_H) : Prop :=
  (1 ≤ F.length ∧ F.length ≤ 1400 ∧ n ≤ 4000) ∧ Z ≤ 1000 ∧ (∀ i, i < Z → 1 ≤ K i ∧ K i ≤ 5) ∧ (K Z = 0 ∨ K Z = 6 ∨ (Z = 1000 ∧ 1 ≤ K Z ∧ K Z ≤ 5)) ∧
  (∀ i, i ≤ Z → lx_q n (K i, V i, P i) ∧ -32768 ≤ V i ∧ V i ≤ 32767) ∧ (∀ i j, i < j → j ≤ Z → P i < P j) ∧
  (∀ i, i ≤ Z → hm 257 i = mp_k (kM K Z i) ∧ hm 258 i = P i ∧ ((K i = 1 ∨ K i = 3 ∨ K i = 4 ∨ K i = 5) → kM K Z i ≠ 7 → hm 260 i = V i) ∧ (K i = 4 → kM K Z i ≠ 7 → hm 259 i = V i + 2)) ∧
  (∀ i, i ≤ Z → K i = 2 → kM K Z i ≠ 7 → 21 ≤ V i ∧ ∃ a z : Nat, P i = a ∧ hm 259 i = z ∧ 1 ≤ z ∧ z ≤ 16 ∧ lx_span t a (a + z) ∈ F ∧ V i = (F.idxOf (lx_span t a (a + z)) : Nat) ∧ a + z ≤ n ∧ ∀ j, a ≤ j → j < a + z → t j ≠ 32)
section
variable {t : Nat → Int} {n : Nat} {K V P : Nat → Int} {Z : Nat} {hm : am_H} {F : List (List Int)}
theorem kM_7 {i : Nat} (h : kM K Z i ≠ 7) (hi : i ≤ Z) : kM K Z i = K i := by
  unfold kM at *
  rw [if_pos hi] at *
  by_cases c : i = 1000 ∧ 1 ≤ K i ∧ K i ≤ 5
  · rw [if_pos c] at h; exact absurd rfl h
  · rw [if_neg c]
theorem kM_lt {i : Nat} (h : i < 1000) (hi : i ≤ Z) : kM K Z i = K i := by
  unfold kM
  rw [if_pos hi, if_neg (by omega)]
theorem tokR.tx (T : tokR t n F K V P Z hm) : tx K (kM K Z) V Z := by
  obtain ⟨-, t1, t2, t3, t4, t5, t6, t7⟩ := T
  refine ⟨t1, t2, t3, fun i hi h4 => (((t4 i hi).1.2.1) h4).1, fun i hi => ?_, fun i hi => ?_⟩
  · unfold kM; rw [if_pos hi]
  · unfold kM; rw [if_neg (by omega)]
theorem tokR.mpT (T : tokR t n F K V P Z hm) : mp_T (kM K Z) V P Z hm := by
  obtain ⟨-, t1, t2, t3, t4, t5, t6, t7⟩ := T
  have hk : ∀ i, i ≤ Z → (kM K Z i = K i ∧ 0 ≤ K i ∧ K i ≤ 6) ∨ kM K Z i = 7 := by
    intro i hi
    by_cases c : kM K Z i = 7
    · exact Or.inr c
    · refine Or.inl ⟨kM_7 c hi, ?_⟩
      by_cases e : i = Z
      · rw [e]; omega
      · have := t2 i (by omega); omega
  refine ⟨t1, ?_, fun i hi => ?_⟩
  · rcases t3 with z | z | ⟨z1, z2, z3⟩
    · left; rw [kM, if_pos (Nat.le_refl _), if_neg (by omega)]; exact z
    · right; left; rw [kM, if_pos (Nat.le_refl _), if_neg (by omega)]; exact z
    · right; right; rw [kM, if_pos (Nat.le_refl _), if_pos ⟨z1, z2, z3⟩]
  · obtain ⟨a1, a2, a3, a4⟩ := t6 i hi
    obtain ⟨b1, b2, b3⟩ := t4 i hi
    refine ⟨a1, a2, ?_, ⟨b2, b3⟩, fun z => ?_, fun z => ?_, fun z => ?_⟩
    · rcases hk i hi with h | h
      · omega
      · omega
    · rcases hk i hi with h | h
      · exact a3 (by omega) (by omega)
      · omega
    · rcases hk i hi with h | h
      · exact (b1.2.1 (by dsimp only; omega)).1
      · omega
    · rcases hk i hi with h | h
      · exact b1.2.2.1 (by dsimp only; omega)
      · omega
theorem tokR.I (T : tokR t n F K V P Z hm) : mp_I (kM K Z) Z 0 := by
  obtain ⟨-, t1, t2, t3, t4, t5, t6, t7⟩ := T
  refine ⟨Nat.zero_le _, fun h0 h6 h7 => ?_⟩
  by_cases e : Z = 0
  · exfalso
    subst e
    rcases t3 with z | z | z
    · exact h0 (by unfold kM; rw [if_pos (Nat.le_refl _), if_neg (by omega)]; exact z)
    · exact h6 (by unfold kM; rw [if_pos (Nat.le_refl _), if_neg (by omega)]; exact z)
    · omega
  · omega
theorem tokR.pcI (T : tokR t n F K V P Z hm) : pc_I K Z 0 := by
  obtain ⟨-, t1, t2, t3, t4, t5, t6, t7⟩ := T
  refine ⟨Nat.zero_le _, fun h0 h6 => ?_⟩
  by_cases e : Z = 0
  · exfalso; subst e; rcases t3 with z | z | z
    · exact h0 z
    · exact h6 z
    · omega
  · omega
theorem tokR.pcZ (T : tokR t n F K V P Z hm) (hY : ∃ Y, Z ≤ Y ∧ Y < 4500 ∧ (K Y = 0 ∨ K Y = 6)) : pc_Z K V false Z := by
  obtain ⟨-, t1, t2, t3, t4, t5, t6, t7⟩ := T
  refine ⟨by omega, ?_, fun i hi => (t4 i hi).2, hY⟩
  rcases t3 with z | z | z
  · exact Or.inl z
  · exact Or.inr (Or.inl z)
  · exact Or.inr (Or.inr ⟨rfl, z.1⟩)
theorem tokR.tkP (T : tokR t n F K V P Z hm) : tkP (kM K Z) P := by
  obtain ⟨-, t1, t2, t3, t4, t5, t6, t7⟩ := T
  intro i j hij hj h
  refine t5 i j hij ?_
  by_cases c : j ≤ Z
  · exact c
  · exfalso; unfold kM at h; rw [if_neg c] at h; exact h rfl
theorem gx_count_Y {Y : Nat} (hY : K Y = 0 ∨ K Y = 6) : ∀ (f k : Nat) (o m : Int) (b : Bool) (a : Nat), k ≤ Y → Y < k + f → ∃ v, gx_count K V a f k o m b = some v
  | 0, k, o, m, b, a, h1, h2 => by omega
  | f + 1, k, o, m, b, a, h1, h2 => by
    unfold gx_count
    by_cases c : K k = 0 ∨ K k = 6
    · rw [if_pos c]; exact ⟨_, rfl⟩
    · rw [if_neg c]
      dsimp only
      by_cases e : (if K k = 5 ∧ (V k = 40 ∨ V k = 91) then o + 1 else if K k = 5 ∧ (V k = 41 ∨ V k = 93) then o - 1 else o) = 0
      · rw [if_pos e]; exact ⟨_, rfl⟩
      · rw [if_neg e]
        have : k ≠ Y := fun z => c (by rw [z]; exact hY)
        exact gx_count_Y hY f (k + 1) _ _ _ _ (by omega) (by omega)
theorem tokR.tkc (T : tokR t n F K V P Z hm) (hY : ∃ Y, Z ≤ Y ∧ Y < 4500 ∧ (K Y = 0 ∨ K Y = 6)) {n6 : Nat → Int} (h6 : ∀ i, i < F.length → 0 ≤ n6 i ∧ n6 i < 18000) : tkc K (kM K Z) V P n6 := by
  obtain ⟨⟨t01, t02, t03⟩, t1, t2, t3, t4, t5, t6, t7⟩ := T
  have le : ∀ i, kM K Z i ≠ 0 → i ≤ Z := fun i h => by
    by_cases c : i ≤ Z
    · exact c
    · exfalso; unfold kM at h; rw [if_neg c] at h; exact h rfl
  refine ⟨fun i hi h0 => (kM_lt hi (le i h0)).symm, fun i hi h2 => ?_, fun i hi h4 => ?_, fun j hj h2 => ?_⟩
  · have l := le i (by rw [h2]; decide)
    rw [kM_lt hi l] at h2
    obtain ⟨a1, a, z, -, -, -, -, a2, a3, -⟩ := t7 i l h2 (by rw [kM_lt hi l]; omega)
    have hi := List.idxOf_lt_length_iff.mpr a2
    rw [a3, Int.toNat_natCast]
    exact ⟨by omega, by omega, h6 _ hi⟩
  · have l := le i (by rw [h4]; decide)
    rw [kM_lt hi l] at h4
    obtain ⟨b1, -⟩ := t4 i l
    obtain ⟨c1, c2, c3⟩ := b1.2.1 h4
    have c4 := b1.2.2.2.2.2
    dsimp only at c2 c3 c4
    exact ⟨c2, c4.1, by omega⟩
  · have l := le j (by rw [h2]; decide)
    have jz : j < Z := by
      rw [kM_lt hj l] at h2
      by_cases e : j = Z
      · exfalso; rw [e] at h2; rcases t3 with z | z | z
        · omega
        · omega
        · omega
      · omega
    obtain ⟨Y, y1, y2, y3⟩ := hY
    exact gx_count_Y y3 4500 (j + 1) 0 0 false (j + 1) (by omega) (by omega)
/-- from the two readings -/
theorem tokR_of {ws N : List (List Int)} {hc hc0 : am_H} {m k' : Nat} (hm0 : n < m) (ht : ∀ k, k < n → 0 ≤ t k ∧ t k ≤ 255) (W : lr_W ws N) (hN : 21 ≤ N.length) (hF : (lx_toks t n 1000 m 0 0 N).2.length ≤ 1400) (hn : n ≤ 4000) (SC : lc_S t n k' (lx_toks t n 1000 m 0 0 N).1 (lx_toks t n 1000 m 0 0 N).2 hc) (SM : lm_S t n (lx_mods t n ws 1000 m 0 0) hm) :
    tokR t n (lx_toks t n 1000 m 0 0 N).2 (hc 241) (hc 242) (hc 243) ((lx_toks t n 1000 m 0 0 N).1.length - 1) hm := by
  obtain ⟨s1, s2, s3, s4⟩ := lx_shape ht (most := 1000) m 0 0 N (by omega) (by omega) (by omega)
  obtain ⟨l1, l2⟩ := lr_all (most := 1000) (F := (lx_toks t n 1000 m 0 0 N).2) m 0 0 N W hN (by omega) (by omega) (lr_ext.refl _)
  have nmv := lx_nm (t := t) (n := n) (most := 1000) m 0 0 N
  have mend := fun i z => lx_mend (t := t) (n := n) (ws := ws) (most := 1000) m 0 0 i z (Nat.zero_le _)
  have mnb := fun i z => lx_mnb (t := t) (n := n) (ws := ws) (most := 1000) m 0 0 i z (Nat.zero_le _)
  have ms := lx_mshape (t := t) (n := n) (ws := ws) (most := 1000) m 0 0 (by omega) (by omega) (by omega)
  have lN := (lx_toks_le (t := t) (n := n) (most := 1000) m 0 0 N).1
  generalize (lx_toks t n 1000 m 0 0 N).2 = F at *
  generalize (lx_toks t n 1000 m 0 0 N).1 = l at *
  generalize lx_mods t n ws 1000 m 0 0 = lm at *
  have rowc := SC.2.2.1.2
  have rowm := SM.2.2
  have get : ∀ i, i ≤ l.length - 1 → ∃ q z, l[i]? = some q ∧ lm[i]? = some z := fun i hi => ⟨l[i]'(by omega), lm[i]'(by omega), List.getElem?_eq_getElem (by omega), List.getElem?_eq_getElem (by omega)⟩
  have kinds : ∀ i q, l[i]? = some q → hc 241 i = q.1 ∧ hc 242 i = q.2.1 ∧ hc 243 i = q.2.2 := fun i q h => rowc i q h
  have val : ∀ i q z, l[i]? = some q → lm[i]? = some z → kM (hc 241) (l.length - 1) i = (if z.1 = 7 then 7 else q.1) := by
    intro i q z hq hz
    have hi : i < l.length := by
      apply Classical.byContradiction
      intro w
      rw [List.getElem?_eq_none (by omega)] at hq
      cases hq
    have k := (kinds i q hq).1
    have a := ms i z hz
    have b := l2 i q z hq hz
    have c := (s3 i q hq).2.2.2
    have c0 := (s3 i q hq).2.2.1
    unfold kM
    rw [if_pos (by omega), k]
    by_cases e : z.1 = 7
    · rw [if_pos e]
      have := a.1 e
      have n0 : q.1 ≠ 0 := fun w => this.2.1 (b.2.1.1 w)
      have n6 : q.1 ≠ 6 := fun w => this.2.2 (b.2.2.1.1 w)
      rw [if_pos ⟨by omega, by omega, by omega⟩]
    · rw [if_neg e, if_neg]
      rintro ⟨w1, w2, w3⟩
      refine e (a.2 ⟨by omega, fun w => ?_, fun w => ?_⟩)
      · have := b.2.1.2 w; omega
      · have := b.2.2.1.2 w; omega
  refine ⟨⟨by omega, hF, hn⟩, by omega, fun i hi => ?_, ?_, fun i hi => ?_, fun i j hij hj => ?_, fun i hi => ?_, fun i hi h2 h7 => ?_⟩
  · obtain ⟨q, z, hq, hz⟩ := get i (by omega)
    rw [(kinds i q hq).1]
    exact (s3 i q hq).2.2.2.1 (by omega)
  · obtain ⟨q, z, hq, hz⟩ := get (l.length - 1) (by omega)
    obtain ⟨-, -, c0, -, c⟩ := s3 _ q hq
    rw [(kinds _ q hq).1]
    rcases c (by omega) with w | w | w
    · exact Or.inl w
    · exact Or.inr (Or.inl w)
    · by_cases e0 : q.1 = 0
      · exact Or.inl e0
      · by_cases e6 : q.1 = 6
        · exact Or.inr (Or.inl e6)
        · exact Or.inr (Or.inr ⟨by omega, by omega, by omega⟩)
  · obtain ⟨q, z, hq, hz⟩ := get i hi
    obtain ⟨k1, k2, k3⟩ := kinds i q hq
    rw [k1, k2, k3]
    have b := (s3 i q hq).2.1
    have c0 := (s3 i q hq).2.2.1
    refine ⟨b, ?_, ?_⟩
    · have := b.2.2.2.1; omega
    · obtain ⟨b3, b4, b1, -, b5, -⟩ := b
      by_cases e2 : q.1 = 2
      · have := nmv i q hq e2; omega
      · have := b3; have := b4; have := b1; have := b5
        omega
  · obtain ⟨q, z, hq, hz⟩ := get i (by omega)
    obtain ⟨r, y, hr, hy⟩ := get j hj
    rw [(kinds i q hq).2.2, (kinds j r hr).2.2]
    exact s4 i j q r hq hr hij
  · obtain ⟨q, z, hq, hz⟩ := get i hi
    obtain ⟨k1, k2, k3⟩ := kinds i q hq
    obtain ⟨m1, m2, m3, m4⟩ := rowm i z hz
    have v := val i q z hq hz
    have b := l2 i q z hq hz
    rw [v, m1, m2, k3, k1, k2, m3, m4]
    by_cases e : z.1 = 7
    · rw [if_pos e]
      exact ⟨e, b.1.symm, fun _ w => absurd rfl w, fun _ w => absurd rfl w⟩
    · rw [if_neg e]
      rcases b.2.2.2 with w | w
      · exact absurd w e
      · obtain ⟨w1, w2, w3, w4, w5, w6, w7, -⟩ := w
        refine ⟨?_, b.1.symm, fun h _ => (w6 (by omega) (by omega)).symm, fun h _ => w7 h⟩
        have b0 := b.2.1
        have b6 := b.2.2.1
        have c0 := (s3 i q hq).2.2.1
        unfold mp_k
        by_cases e1 : q.1 = 1
        · rw [if_pos e1]; exact w1.1 e1
        · rw [if_neg e1]
          by_cases e2 : q.1 = 2
          · rw [if_pos e2]; exact w2.1 e2
          · rw [if_neg e2]
            by_cases e3 : q.1 = 3
            · rw [if_pos e3]; exact w3.1 e3
            · rw [if_neg e3]
              by_cases e4 : q.1 = 4
              · rw [if_pos e4]; exact w4.1 e4
              · rw [if_neg e4]
                by_cases e5 : q.1 = 5
                · rw [if_pos e5]; exact w5.1 e5
                · rw [if_neg e5]
                  by_cases e0 : q.1 = 0
                  · rw [e0]; exact b0.1 e0
                  · rw [show q.1 = 6 by omega]; exact b6.1 (by omega)
  · obtain ⟨q, z, hq, hz⟩ := get i hi
    obtain ⟨k1, k2, k3⟩ := kinds i q hq
    obtain ⟨m1, m2, m3, m4⟩ := rowm i z hz
    have v := val i q z hq hz
    rw [k1] at h2
    have e7 : z.1 ≠ 7 := fun e => h7 (by rw [v, if_pos e])
    have b := l2 i q z hq hz
    rcases b.2.2.2 with w | w
    · exact absurd w e7
    · obtain ⟨u1, a, y, u2, u3, u4, u5, u6, u7⟩ := w.2.2.2.2.2.2.2 h2
      rw [k2, k3, m3]
      refine ⟨u1, a, y, by rw [b.1, u2], u3, u4, u5, u6, u7, ?_, fun j j1 j2 => ?_⟩
      · have e1 := w.2.1.1 h2
        have := mend i z hz (by omega) (by omega)
        omega
      · exact mnb i z hz (w.2.1.1 h2) j (by omega) (by omega)
end
