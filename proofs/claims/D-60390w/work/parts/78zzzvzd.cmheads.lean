/-! CHIPS, 30: the model's heads -/
theorem ffnd_first {x : Int} : ∀ {l : List Int} {k i : Nat}, l[k]? = some x → (ffnd x l i = ((i + k : Nat) : Int) ↔ ∀ j, j < k → l[j]? ≠ some x)
  | [], k, i, h => by cases k <;> cases h
  | y :: l, 0, i, h => by
    cases h
    rw [ffnd_c, if_pos rfl]
    exact ⟨fun _ j hj => by omega, fun _ => rfl⟩
  | y :: l, k + 1, i, h => by
    rw [ffnd_c]
    by_cases c : y = x
    · rw [if_pos c]
      refine ⟨fun z => by omega, fun z => ?_⟩
      exact absurd (by rw [← c]; rfl) (z 0 (by omega))
    · rw [if_neg c, show i + (k + 1) = i + 1 + k by omega, ffnd_first (l := l) (k := k) (i := i + 1) h]
      refine ⟨fun z j hj => ?_, fun z j hj => z (j + 1) (by omega)⟩
      cases j with
      | zero => intro w; exact c (Option.some.inj w)
      | succ j => exact z j (by omega)
section
variable {d L : Nat} {K V P : Nat → Int} {W : Nat → List Int} {Z : Nat} {chs : List cCh} {ch : cCh} {c : Nat} {h h' : am_H}
theorem kOf_self (hc : chs[c]? = some ch) : kOf V chs (V ch.1) = some (2 + c) ↔ gix (V ch.1) = -1 ∧ ∀ j ch', j < c → chs[j]? = some ch' → V ch'.1 ≠ V ch.1 := by
  unfold kOf gix
  by_cases h6 : V ch.1 = 6
  · rw [if_pos h6, if_pos h6]
    exact ⟨fun z => by have := Option.some.inj z; omega, fun z => absurd z.1 (by decide)⟩
  by_cases h7 : V ch.1 = 7
  · rw [if_neg h6, if_pos h7, if_neg h6, if_pos h7]
    exact ⟨fun z => by have := Option.some.inj z; omega, fun z => absurd z.1 (by decide)⟩
  rw [if_neg h6, if_neg h7, if_neg h6, if_neg h7]
  have hm : (chs.map fun c => V c.1)[c]? = some (V ch.1) := by rw [List.getElem?_map, hc]; rfl
  have f := ffnd_first (i := 0) hm
  rw [Nat.zero_add] at f
  have r := ffnd_rg (chs.map fun c => V c.1) (V ch.1) 0
  have hin : V ch.1 ∈ (chs.map fun c => V c.1) := List.mem_of_getElem? hm
  have ne : ffnd (V ch.1) (chs.map fun c => V c.1) 0 ≠ -1 := by
    rcases r with ⟨-, z⟩ | z
    · exact absurd hin z
    · omega
  rw [if_neg ne]
  refine ⟨fun z => ⟨rfl, fun j ch' hj hc' w => ?_⟩, fun z => ?_⟩
  · have e := Option.some.inj z
    have := f.1 (by omega) j hj
    rw [List.getElem?_map, hc'] at this
    exact this (by rw [← w]; rfl)
  · have := f.2 (fun j hj w => by
      rw [List.getElem?_map] at w
      cases hc' : chs[j]? with
      | none => rw [hc'] at w; cases w
      | some ch' =>
        rw [hc'] at w
        exact z.2 j ch' hj hc' (Option.some.inj w))
    rw [this]
    congr 1
theorem mn_tw (Q : mQ K V P W Z chs h) (hk : ∀ ch ∈ chs, ch.1 ≤ Z ∧ K ch.1 = 2) (hc : chs[c]? = some ch) (u4 u5 : Option am_V) : ∀ (m k : Nat) (x : Int), k + m = c → (x = 0 ∨ x = 1) → ∃ y : Int, am_E (am_D (d + 1)) m_17_164 (.inl 4) [some (am_r (am_a 254)), some (am_i (c : Int)), some (am_i x), some (am_i (k : Int)), u4, u5] [] (zS L, h) = am_E (am_D (d + 1)) m_17_164 (.inl 4) [some (am_r (am_a 254)), some (am_i (c : Int)), some (am_i y), some (am_i (c : Int)), u4, u5] [] (zS L, h) ∧ (y = 0 ∨ y = 1) ∧ (y = 0 ↔ x = 0 ∧ ∀ j ch', k ≤ j → j < c → chs[j]? = some ch' → V ch'.1 ≠ V ch.1)
  | 0, k, x, hm, hx => ⟨x, by rw [show k = c by omega], hx, fun z => ⟨z, fun j ch' h1 h2 => by omega⟩, fun z => z.1⟩
  | m + 1, k, x, hm, hx => by
    have l16 := Q.2.1.2
    have hcl := (List.getElem?_eq_some_iff.1 hc).1
    have hkc : k < chs.length := by omega
    have hke := List.getElem?_eq_getElem hkc
    have k1 := hk _ (List.mem_of_getElem? hke)
    have k2 := hk _ (List.mem_of_getElem? hc)
    rw [q_17_164_4, if_pos (by omega), p_w (x := (k : Int) + 1) (by omega) (by omega)]
    by_cases x0 : x = 0
    · rw [if_pos x0, p_idx (by omega) (by omega), p_idx (by omega) (by omega), Int.toNat_natCast, Int.toNat_natCast, Q.2.2.2.1 k _ hke, Q.2.2.2.1 c _ hc, mx_like Q.1 k1.1 k2.1 k1.2 k2.2, p_xI]
      by_cases e : V chs[k].1 = V ch.1
      · rw [pB_t e, if_neg (show ¬ (1 : Int) = 0 by decide)]
        obtain ⟨y, r1, r2, r3⟩ := mn_tw Q hk hc u4 u5 m (k + 1) 1 (by omega) (Or.inr rfl)
        refine ⟨y, r1, r2, fun z => absurd (r3.1 z).1 (by decide), fun z => ?_⟩
        exact absurd e (z.2 k _ (Nat.le_refl _) (by omega) hke)
      · rw [pB_f e, if_pos rfl]
        obtain ⟨y, r1, r2, r3⟩ := mn_tw Q hk hc u4 u5 m (k + 1) 0 (by omega) (Or.inl rfl)
        refine ⟨y, r1, r2, fun z => ⟨x0, fun j ch' h1 h2 hj => ?_⟩, fun z => r3.2 ⟨rfl, fun j ch' h1 h2 hj => z.2 j ch' (by omega) h2 hj⟩⟩
        by_cases ej : j = k
        · subst ej; rw [hke] at hj; cases hj; exact e
        · exact (r3.1 z).2 j ch' (by omega) h2 hj
    · rw [if_neg x0]
      obtain ⟨y, r1, r2, r3⟩ := mn_tw Q hk hc u4 u5 m (k + 1) 1 (by omega) (Or.inr rfl)
      exact ⟨y, r1, r2, fun z => absurd (r3.1 z).1 (by decide), fun z => absurd z.1 x0⟩
theorem mn_ag (Q : mQ K V P W Z chs h) (hc : chs[c]? = some ch) (hp : ∀ p ∈ ch.2.1, p.1 ≤ Z ∧ K p.1 = 2) {n : Nat} {p : Nat × Int} (hn : ch.2.1[n]? = some p) (u2 : Option am_V) : ∀ (m k : Nat) (x : Int), k + m = n → (x = 0 ∨ x = 1) → ∃ y : Int, am_E (am_D (d + 1)) m_17_164 (.inl 11) [some (am_r (am_a 254)), some (am_i (c : Int)), u2, some (am_i ((oP chs c + n : Nat) : Int)), some (am_i x), some (am_i ((oP chs c + k : Nat) : Int))] [] (zS L, h) = am_E (am_D (d + 1)) m_17_164 (.inl 11) [some (am_r (am_a 254)), some (am_i (c : Int)), u2, some (am_i ((oP chs c + n : Nat) : Int)), some (am_i y), some (am_i ((oP chs c + n : Nat) : Int))] [] (zS L, h) ∧ (y = 0 ∨ y = 1) ∧ (y = 0 ↔ x = 0 ∧ ∀ j p', k ≤ j → j < n → ch.2.1[j]? = some p' → V p'.1 ≠ V p.1)
  | 0, k, x, hm, hx => ⟨x, by rw [show k = n by omega], hx, fun z => ⟨z, fun j ch' h1 h2 => by omega⟩, fun z => z.1⟩
  | m + 1, k, x, hm, hx => by
    have ipn := oP_n hc
    have ptk : oP chs (c + 1) ≤ (aP chs).length := flat_le cpM chs (c + 1)
    have := Q.2.2.1.1
    have hnl := (List.getElem?_eq_some_iff.1 hn).1
    have hkc : k < ch.2.1.length := by omega
    have hke := List.getElem?_eq_getElem hkc
    have k1 := hp _ (List.mem_of_getElem? hke)
    have k2 := hp _ (List.mem_of_getElem? hn)
    rw [q_17_164_11, if_pos (by omega), p_w (x := ((oP chs c + k : Nat) : Int) + 1) (by omega) (by omega), show ((oP chs c + k : Nat) : Int) + 1 = ((oP chs c + (k + 1) : Nat) : Int) by omega]
    by_cases x0 : x = 0
    · rw [if_pos x0, p_idx (by omega) (by omega), p_idx (by omega) (by omega), Int.toNat_natCast, Int.toNat_natCast, (Q.2.2.2.2.2.1 c ch hc k _ hke).1, (Q.2.2.2.2.2.1 c ch hc n _ hn).1, mx_like Q.1 k1.1 k2.1 k1.2 k2.2, p_xI]
      by_cases e : V ch.2.1[k].1 = V p.1
      · rw [pB_t e, if_neg (show ¬ (1 : Int) = 0 by decide)]
        obtain ⟨y, r1, r2, r3⟩ := mn_ag Q hc hp hn u2 m (k + 1) 1 (by omega) (Or.inr rfl)
        refine ⟨y, r1, r2, fun z => absurd (r3.1 z).1 (by decide), fun z => ?_⟩
        exact absurd e (z.2 k _ (Nat.le_refl _) (by omega) hke)
      · rw [pB_f e, if_pos rfl]
        obtain ⟨y, r1, r2, r3⟩ := mn_ag Q hc hp hn u2 m (k + 1) 0 (by omega) (Or.inl rfl)
        refine ⟨y, r1, r2, fun z => ⟨x0, fun j ch' h1 h2 hj => ?_⟩, fun z => r3.2 ⟨rfl, fun j ch' h1 h2 hj => z.2 j ch' (by omega) h2 hj⟩⟩
        by_cases ej : j = k
        · subst ej; rw [hke] at hj; cases hj; exact e
        · exact (r3.1 z).2 j ch' (by omega) h2 hj
    · rw [if_neg x0]
      obtain ⟨y, r1, r2, r3⟩ := mn_ag Q hc hp hn u2 m (k + 1) 1 (by omega) (Or.inr rfl)
      exact ⟨y, r1, r2, fun z => absurd (r3.1 z).1 (by decide), fun z => absurd z.1 x0⟩
theorem mn_pin1 (hP : ∀ x y, x < y → y ≤ Z → P x < P y) (T : cht K V Z ch) (Q : mQ K V P W Z chs h) (hc : chs[c]? = some ch) {n : Nat} {p : Nat × Int} (hn : ch.2.1[n]? = some p) {F : Option (Int × Int)} (N : nR F h) (u2 u4 u5 : Option am_V) : ∃ h' ns w4 w5, am_E (am_D (d + 1)) m_17_164 (.inl 10) [some (am_r (am_a 254)), some (am_i (c : Int)), u2, some (am_i ((oP chs c + n : Nat) : Int)), u4, u5] [] (zS L, h) = am_E (am_D (d + 1)) m_17_164 (.inl 10) [some (am_r (am_a 254)), some (am_i (c : Int)), u2, some (am_i ((oP chs c + (n + 1) : Nat) : Int)), w4, w5] [] (zS L, h') ∧ nR (nfoldx P F ns) h' ∧ nrg p.1 (if p.2 = -1 then p.1 + 1 else p.1 + 3) ns ∧ p_fr [] ntF h h' ∧ lstO P (if ffnd (V p.1) (cNm V ch) 0 = (n : Int) then (if p.2 = -1 ∨ (1 ≤ V p.2.toNat ∧ V p.2.toNat ≤ 16) then none else some (5, p.2.toNat)) else some (3, p.1)) ns := by
  have l16 := Q.2.1.2
  have z2 := Q.1.1.1
  have hcl := (List.getElem?_eq_some_iff.1 hc).1
  have ipn := oP_n hc
  have ptk : oP chs (c + 1) ≤ (aP chs).length := flat_le cpM chs (c + 1)
  have b1 := Q.2.2.1.1
  have hnl := (List.getElem?_eq_some_iff.1 hn).1
  obtain ⟨q1, q2, q3, q4⟩ := Q.2.2.2.2.2.1 c ch hc n p hn
  obtain ⟨f1, f2, f3⟩ := T.2.2.1 p (List.mem_of_getElem? hn)
  have pt : ∀ t, t ≤ Z → h 258 t = P t := fun t ht => (Q.1.2.1 t ht).2.1
  have note : ∀ (n : Int) (t : Nat) {g : am_H} {F' : Option (Int × Int)}, 0 < n → t ≤ Z → p_fr [] ntF h g → nR F' g → ∃ h', am_D (d + 1) 17 58 [am_r (am_a 254), am_i n, am_i (t : Int)] (zS L, g) = pV L h' ∧ nR (nfoldx P F' [(n, t)]) h' ∧ p_fr [] ntF h h' := fun n t {g F'} hn ht fg Ng => by
    obtain ⟨h', r1, r2, r3⟩ := mn_note (d := d) (L := L) (P := P) Ng hn (show t < 2002 by omega) (by rw [fg.cell 258 rfl rfl]; exact pt t ht)
    exact ⟨h', r1, r2, fg.trans r3⟩
  have nm : (cNm V ch)[n]? = some (V p.1) := by unfold cNm; rw [List.getElem?_map, hn]; rfl
  have ff := ffnd_first (i := 0) nm
  rw [Nat.zero_add] at ff
  obtain ⟨y, r1, r2, r3⟩ := mn_ag (d := d) (L := L) Q hc (cht_pn T) hn u2 n 0 0 (by omega) (Or.inl rfl)
  rw [show oP chs c + 0 = oP chs c from rfl] at r1
  have dup : y = 0 ↔ ffnd (V p.1) (cNm V ch) 0 = (n : Int) := by
    rw [r3, ff]
    refine ⟨fun z j hj w => ?_, fun z => ⟨rfl, fun j p' _ hj hj' w => ?_⟩⟩
    · unfold cNm at w
      rw [List.getElem?_map] at w
      cases hq : ch.2.1[j]? with
      | none => rw [hq] at w; cases w
      | some p' => rw [hq] at w; exact z.2 j p' (by omega) hj hq (Option.some.inj w)
    · refine z j hj ?_
      unfold cNm
      rw [List.getElem?_map, hj', ← w]; rfl
  rw [q_17_164_10, p_w (x := (c : Int) + 1) (by omega) (by omega), p_idx (by omega) (by omega), show ((c : Int) + 1).toNat = c + 1 by omega, (Q.2.2.2.2.1 (c + 1) (by omega)).1, if_pos (by omega), p_idx (by omega) (by omega), Int.toNat_natCast, (Q.2.2.2.2.1 c (by omega)).1, r1, q_17_164_11, if_neg (by omega)]
  -- the first note
  have st1 : ∀ (A : am_H → Option am_O), ∃ g ns1, (if y = 0 then A h else am_idx ((oP chs c + n : Nat) : Int) 200 fun k1 => am_xV (zS L) (am_D (d + 1) 17 58 [am_r (am_a 254), am_i 3, am_i (h 331 k1)] (zS L, h)) (am_up1 (zS L)) fun h2 => A h2) = A g ∧ nR (nfoldx P F ns1) g ∧ p_fr [] ntF h g ∧ (y = 0 ∧ ns1 = [] ∨ y ≠ 0 ∧ ns1 = [(3, p.1)]) := by
    intro A
    by_cases w : y = 0
    · rw [if_pos w]; exact ⟨h, [], rfl, N, p_fr.refl h, Or.inl ⟨w, rfl⟩⟩
    · obtain ⟨h1, x1, x2, x3⟩ := note 3 p.1 (by decide) (by omega) (p_fr.refl h) N
      rw [if_neg w, p_idx (by omega) (by omega), Int.toNat_natCast, q1, x1, p_xV]
      exact ⟨h1, _, rfl, x2, x3, Or.inr ⟨w, rfl⟩⟩
  obtain ⟨g1, ns1, e1, N1, g1f, c1⟩ := st1 (fun hh => am_E (am_D (d + 1)) m_17_164 (.inl 16) [some (am_r (am_a 254)), some (am_i (c : Int)), u2, some (am_i ((oP chs c + n : Nat) : Int)), some (am_i y), some (am_i ((oP chs c + n : Nat) : Int))] [] (zS L, hh))
  rw [e1, q_17_164_16, p_idx (by omega) (by omega), Int.toNat_natCast, show g1 333 (oP chs c + n) = p.2 by rw [g1f.cell 333 rfl rfl]; exact q2, p_w (x := ((oP chs c + n : Nat) : Int) + 1) (by omega) (by omega), show ((oP chs c + n : Nat) : Int) + 1 = ((oP chs c + (n + 1) : Nat) : Int) by omega]
  have one : ∀ {b : Nat}, p.1 < b → nrg p.1 b ns1 := fun {b} hb => by
    rcases c1 with ⟨-, z⟩ | ⟨-, z⟩
    · rw [z]; exact nrg_nil _ _
    · rw [z]; exact nrg1 (Nat.le_refl _) hb (show (0 : Int) < 3 by decide)
  have lone : ∀ {r : Option cF}, r = none → lstO P (if ffnd (V p.1) (cNm V ch) 0 = (n : Int) then r else some (3, p.1)) ns1 := fun {r} hr => by
    rcases c1 with ⟨w, z⟩ | ⟨w, z⟩
    · rw [z, if_pos (dup.1 w), hr]; rfl
    · rw [z, if_neg (fun v => w (dup.2 v))]; exact lst1 P _
  rcases f3 with ⟨y1, y2⟩ | ⟨y1, y2, y3, y4⟩
  · rw [if_pos y1, if_pos (Or.inl y1), if_pos y1]
    exact ⟨g1, ns1, _, _, rfl, N1, one (by omega), g1f, lone rfl⟩
  · have tn : p.2.toNat = p.1 + 2 := by omega
    have n1 : ¬ p.2 = -1 := by omega
    have tv : g1 260 (p.1 + 2) = V (p.1 + 2) := by rw [g1f.cell 260 rfl rfl]; exact (Q.1.2.1 (p.1 + 2) (by omega)).2.2.1 (Or.inr y3)
    have q2' : g1 333 (oP chs c + n) = ((p.1 + 2 : Nat) : Int) := by rw [g1f.cell 333 rfl rfl, q2, y1]
    rw [if_neg n1, if_neg n1, p_idx (by omega) (by omega), Int.toNat_natCast, q2', p_idx (by omega) (by omega), Int.toNat_natCast, tv, tn]
    -- the second note
    have two : (V (p.1 + 2) < 1 ∨ 16 < V (p.1 + 2)) → ∃ h' ns w4 w5, (am_idx ((oP chs c + n : Nat) : Int) 200 fun k4 => am_xV (zS L) (am_D (d + 1) 17 58 [am_r (am_a 254), am_i 5, am_i (g1 333 k4)] (zS L, g1)) (am_up1 (zS L)) fun h5 => am_E (am_D (d + 1)) m_17_164 (.inl 10) [some (am_r (am_a 254)), some (am_i (c : Int)), u2, some (am_i ((oP chs c + (n + 1) : Nat) : Int)), some (am_i y), some (am_i ((oP chs c + n : Nat) : Int))] [] (zS L, h5)) = am_E (am_D (d + 1)) m_17_164 (.inl 10) [some (am_r (am_a 254)), some (am_i (c : Int)), u2, some (am_i ((oP chs c + (n + 1) : Nat) : Int)), w4, w5] [] (zS L, h') ∧ nR (nfoldx P F ns) h' ∧ nrg p.1 (p.1 + 3) ns ∧ p_fr [] ntF h h' ∧ lstO P (if ffnd (V p.1) (cNm V ch) 0 = (n : Int) then (if p.2 = -1 ∨ (1 ≤ V (p.1 + 2) ∧ V (p.1 + 2) ≤ 16) then none else some (5, p.1 + 2)) else some (3, p.1)) ns := by
      intro bad
      obtain ⟨h1, x1, x2, x3⟩ := note 5 (p.1 + 2) (by decide) (by omega) g1f N1
      rw [p_idx (by omega) (by omega), Int.toNat_natCast, q2', x1, p_xV]
      refine ⟨h1, ns1 ++ [(5, p.1 + 2)], _, _, rfl, by rw [nfold_app]; exact x2, nrg_app (one (Nat.lt_succ_self _)) (nrg_mono (nrg1 (e := (5, p.1 + 2)) (Nat.le_refl _) (Nat.lt_succ_self _) (show (0 : Int) < 5 by decide)) (show p.1 + 1 ≤ p.1 + 2 by omega) (Nat.le_refl _)) (by omega) (by omega), x3, ?_⟩
      rw [if_neg (show ¬ (p.2 = -1 ∨ (1 ≤ V (p.1 + 2) ∧ V (p.1 + 2) ≤ 16)) by omega)]
      rcases c1 with ⟨w, z⟩ | ⟨w, z⟩
      · rw [z, if_pos (dup.1 w)]; exact lst1 P _
      · rw [z, if_neg (fun v => w (dup.2 v))]
        refine lst_app (lst1 P _) (nrg1 (Nat.le_refl _) (Nat.lt_succ_self _) (show (0 : Int) < 3 by decide)) (fun x hx => by rw [List.mem_singleton.1 hx]; exact Nat.le_succ _) (fun x hx hl => hP _ _ hl (by rw [List.mem_singleton.1 hx]; dsimp only; omega))
    by_cases w1 : V (p.1 + 2) < 1
    · rw [if_pos w1]
      exact two (Or.inl w1)
    · rw [if_neg w1, p_idx (by omega) (by omega), Int.toNat_natCast, q2', p_idx (by omega) (by omega), Int.toNat_natCast, tv]
      by_cases w2 : 16 < V (p.1 + 2)
      · rw [if_pos w2]
        exact two (Or.inr w2)
      · rw [if_neg w2, if_pos (show p.2 = -1 ∨ (1 ≤ V (p.1 + 2) ∧ V (p.1 + 2) ≤ 16) by omega)]
        exact ⟨g1, ns1, _, _, rfl, N1, one (by omega), g1f, lone rfl⟩
theorem mn_pinA (hP : ∀ x y, x < y → y ≤ Z → P x < P y) (T : cht K V Z ch) (hc : chs[c]? = some ch) (u2 : Option am_V) {b : Nat} (hb : b ≤ Z) : ∀ (m n : Nat) {a : Nat} {F : Option (Int × Int)} {h : am_H} (u4 u5 : Option am_V), n + m = ch.2.1.length → pinT K V (ch.2.1.drop n) a b → mQ K V P W Z chs h → nR F h → ∃ h' ns w3 w4 w5, am_E (am_D (d + 1)) m_17_164 (.inl 10) [some (am_r (am_a 254)), some (am_i (c : Int)), u2, some (am_i ((oP chs c + n : Nat) : Int)), u4, u5] [] (zS L, h) = am_E (am_D (d + 1)) m_17_164 (.inl 1) [some (am_r (am_a 254)), some (am_i ((c + 1 : Nat) : Int)), u2, w3, w4, w5] [] (zS L, h') ∧ nR (nfoldx P F ns) h' ∧ nrg a b ns ∧ p_fr [] ntF h h' ∧ lstO P (pnS V (cNm V ch) (ch.2.1.drop n) n) ns
  | 0, n, a, F, h, u4, u5, hm, T', Q, N => by
    have l16 := Q.2.1.2
    have hcl := (List.getElem?_eq_some_iff.1 hc).1
    have ipn := oP_n hc
    rw [q_17_164_10, p_w (x := (c : Int) + 1) (by omega) (by omega), p_idx (by omega) (by omega), show ((c : Int) + 1).toNat = c + 1 by omega, (Q.2.2.2.2.1 (c + 1) (by omega)).1, if_neg (by omega), List.drop_eq_nil_of_le (by omega), show (c : Int) + 1 = ((c + 1 : Nat) : Int) by omega]
    exact ⟨h, [], _, _, _, rfl, N, nrg_nil _ _, p_fr.refl h, rfl⟩
  | m + 1, n, a, F, h, u4, u5, hm, T', Q, N => by
    have hnl : n < ch.2.1.length := by omega
    rw [List.drop_eq_getElem_cons hnl] at T' ⊢
    obtain ⟨t1, t2, q, t3, t4⟩ := T'
    have hn := List.getElem?_eq_getElem hnl
    obtain ⟨h1, ns1, w4, w5, r1, N1, g1, f1, s1⟩ := mn_pin1 (d := d) (L := L) hP T Q hc hn N u2 u4 u5
    rw [r1]
    obtain ⟨w1, w2⟩ := c_wid_T t3
    dsimp only at w1 w2
    have pr := pinT_rg t4
    obtain ⟨h2, ns2, w3, w4, w5, r2, N2, g2, f2, s2⟩ := mn_pinA hP T hc u2 hb m (n + 1) w4 w5 (by omega) t4 (Q.fr (nt_q f1)) N1
    have g1' : nrg ch.2.1[n].1 q ns1 := by
      refine nrg_mono g1 (Nat.le_refl _) ?_
      rcases w2 with ⟨z1, -⟩ | ⟨z1, -, -, z2⟩
      · rw [if_pos z1]; omega
      · rw [if_neg (by omega)]; omega
    refine ⟨h2, ns1 ++ ns2, w3, w4, w5, r2, by rw [nfold_app]; exact N2, nrg_app (nrg_mono g1' t1 (Nat.le_refl _)) g2 (by omega) (by omega), f1.trans f2, ?_⟩
    have := lstO_app s1 s2 g1' g2 hb hP
    unfold pnS
    by_cases y1 : ffnd (V ch.2.1[n].1) (cNm V ch) 0 = (n : Int)
    · rw [if_pos y1] at this ⊢
      by_cases y2 : ch.2.1[n].2 = -1 ∨ (1 ≤ V ch.2.1[n].2.toNat ∧ V ch.2.1[n].2.toNat ≤ 16)
      · rw [if_pos y2] at this ⊢; exact this
      · rw [if_neg y2] at this ⊢; exact this
    · rw [if_neg y1] at this ⊢; exact this
theorem mn_head (E : kEx K V Z) (G : mWd K V W Z) (hP : ∀ x y, x < y → y ≤ Z → P x < P y) (T : ∀ ch ∈ chs, cht K V Z ch) (hc : chs[c]? = some ch) {b : Nat} (hb : b ≤ Z) (T' : pinT K V ch.2.1 (ch.1 + 1) b) (Q : mQ K V P W Z chs h) {F : Option (Int × Int)} (N : nR F h) (u2 u3 u4 u5 : Option am_V) : ∃ h' ns w2 w3 w4 w5, am_E (am_D (d + 2)) m_17_164 (.inl 1) [some (am_r (am_a 254)), some (am_i (c : Int)), u2, u3, u4, u5] [] (zS L, h) = am_E (am_D (d + 2)) m_17_164 (.inl 1) [some (am_r (am_a 254)), some (am_i ((c + 1 : Nat) : Int)), w2, w3, w4, w5] [] (zS L, h') ∧ nR (nfoldx P F ns) h' ∧ nrg ch.1 b ns ∧ p_fr [] ntF h h' ∧ lstO P (hdS V chs c ch) ns := by
  have l16 := Q.2.1.2
  have z2 := Q.1.1.1
  have hcl := (List.getElem?_eq_some_iff.1 hc).1
  have hcm := List.mem_of_getElem? hc
  have hk : ∀ ch ∈ chs, ch.1 ≤ Z ∧ K ch.1 = 2 := fun ch hch => ⟨by have := (T ch hch).1.2; omega, (T ch hch).1.1⟩
  have k0 := hk ch hcm
  have tl := pinT_rg T'
  obtain ⟨x, hx, hx0⟩ : ∃ x : Int, (x = 0 ∨ x = 1) ∧ (x = 0 ↔ gix (V ch.1) = -1) := by
    by_cases z : gix (V ch.1) = -1
    · exact ⟨0, Or.inl rfl, fun _ => z, fun _ => rfl⟩
    · exact ⟨1, Or.inr rfl, fun w => absurd w (by decide), fun w => absurd w z⟩
  have st0 : am_E (am_D (d + 2)) m_17_164 (.inl 1) [some (am_r (am_a 254)), some (am_i (c : Int)), u2, u3, u4, u5] [] (zS L, h) = am_E (am_D (d + 2)) m_17_164 (.inl 4) [some (am_r (am_a 254)), some (am_i (c : Int)), some (am_i x), some (am_i 0), u4, u5] [] (zS L, h) := by
    rw [q_17_164_1, Q.2.1.1, if_pos (by omega), p_idx (by omega) (by omega), Int.toNat_natCast, Q.2.2.2.1 c ch hc, mn_gate (d := d) Q.1 G k0.1 k0.2, p_xI]
    by_cases z : gix (V ch.1) = -1
    · rw [if_pos z, hx0.2 z]
    · rw [if_neg z, show x = 1 by rcases hx with w | w; exact absurd (hx0.1 w) z; exact w]
  obtain ⟨y, r1, r2, r3⟩ := mn_tw (d := d + 1) (L := L) Q hk hc u4 u5 c 0 x (by omega) hx
  rw [show ((0 : Nat) : Int) = 0 from rfl] at r1
  rw [st0, r1, q_17_164_4, if_neg (by omega)]
  have sl : y = 0 ↔ kOf V chs (V ch.1) = some (2 + c) := by
    rw [r3, kOf_self hc, hx0]
    exact ⟨fun z => ⟨z.1, fun j ch' hj => z.2 j ch' (by omega) hj⟩, fun z => ⟨z.1, fun j ch' _ hj => z.2 j ch' hj⟩⟩
  have go : ∀ {g : am_H} {F' : Option (Int × Int)}, p_fr [] ntF h g → nR F' g → ∃ h' ns w2 w3 w4 w5, am_E (am_D (d + 2)) m_17_164 (.inl 10) [some (am_r (am_a 254)), some (am_i (c : Int)), some (am_i y), some (am_i (oP chs c : Int)), u4, u5] [] (zS L, g) = am_E (am_D (d + 2)) m_17_164 (.inl 1) [some (am_r (am_a 254)), some (am_i ((c + 1 : Nat) : Int)), w2, w3, w4, w5] [] (zS L, h') ∧ nR (nfoldx P F' ns) h' ∧ nrg (ch.1 + 1) b ns ∧ p_fr [] ntF h h' ∧ lstO P (pnS V (cNm V ch) ch.2.1 0) ns := by
    intro g F' fg Ng
    obtain ⟨h2, ns2, w3, w4, w5, x2, N2, g2, f2, s2⟩ := mn_pinA (d := d + 1) (L := L) hP (T ch hcm) hc (some (am_i y)) hb ch.2.1.length 0 u4 u5 (by omega) T' (Q.fr (nt_q fg)) Ng
    rw [show oP chs c + 0 = oP chs c from rfl] at x2
    rw [List.drop_zero] at s2
    exact ⟨h2, ns2, _, w3, w4, w5, x2, N2, g2, fg.trans f2, s2⟩
  unfold hdS
  by_cases w : y = 0
  · obtain ⟨h2, ns2, w2, w3, w4, w5, x2, N2, g2, f2, s2⟩ := go (p_fr.refl h) N
    rw [if_pos w, p_idx (by omega) (by omega), Int.toNat_natCast, (Q.2.2.2.2.1 c (by omega)).1, x2, if_pos (sl.1 w)]
    exact ⟨h2, ns2, w2, w3, w4, w5, rfl, N2, nrg_mono g2 (Nat.le_succ _) (Nat.le_refl _), f2, s2⟩
  · obtain ⟨h1, x1, N1, f1⟩ := mn_note (d := d + 1) (L := L) (P := P) N (show (0 : Int) < 3 by decide) (show ch.1 < 2002 by omega) ((Q.1.2.1 ch.1 k0.1).2.1)
    obtain ⟨h2, ns2, w2, w3, w4, w5, x2, N2, g2, f2, s2⟩ := go f1 N1
    rw [if_neg w, p_idx (by omega) (by omega), Int.toNat_natCast, Q.2.2.2.1 c ch hc, x1, p_xV, p_idx (by omega) (by omega), Int.toNat_natCast, f1.cell 329 rfl rfl, (Q.2.2.2.2.1 c (by omega)).1, x2, if_neg (fun z => w (sl.2 z))]
    refine ⟨h2, [(3, ch.1)] ++ ns2, w2, w3, w4, w5, rfl, by rw [nfold_app]; exact N2, nrg_app (nrg1 (Nat.le_refl _) (Nat.lt_succ_self _) (show (0 : Int) < 3 by decide)) g2 (by omega) (by omega), f2, ?_⟩
    exact lst_app (lst1 P _) (nrg1 (Nat.le_refl _) (Nat.lt_succ_self _) (show (0 : Int) < 3 by decide)) (fun x hx => (g2 x hx).1) (fun x hx hl => hP _ _ hl (by have := g2 x hx; omega))
end
