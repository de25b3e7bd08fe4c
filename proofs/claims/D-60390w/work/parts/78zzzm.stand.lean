/-! LOAD, 12: what stands of the system between calls; names grow behind the system's -/
/-- names are put behind: how many, how long -/
theorem lx_grow {t : Nat → Int} {n most : Nat} : ∀ (m c k : Nat) (N : List (List Int)), ∃ G, (lx_toks t n most m c k N).2 = N ++ G ∧ G.length ≤ (lx_toks t n most m c k N).1.length ∧ pn_used (lx_toks t n most m c k N).2 ≤ pn_used N + 16 * (lx_toks t n most m c k N).1.length
  | 0, c, k, N => ⟨[], by show N = N ++ []; rw [List.append_nil], Nat.le_refl _, by show pn_used N ≤ pn_used N + 16 * 0; omega⟩
  | m + 1, c, k, N => by
    have one : ∀ x, ∃ G, (lx_res t n N x).2.1 = N ++ G ∧ G.length ≤ 1 ∧ pn_used (lx_res t n N x).2.1 ≤ pn_used N + 16 := by
      intro x
      unfold lx_res
      by_cases c2 : (lx_tok t n x).1 = 2
      · rw [if_pos c2]
        dsimp only
        have wl : (lx_span t x (lx_tok t n x).2.2).length ≤ 16 := by
          have e : (lx_span t x (lx_tok t n x).2.2).length = (lx_tok t n x).2.2 - x := by unfold lx_span; simp
          rw [e]
          unfold lx_tok at c2 ⊢
          by_cases c1 : lx_letter (t x)
          · rw [if_pos c1] at c2 ⊢
            by_cases c3 : 16 < lx_word t n n x - x
            · rw [if_pos c3] at c2; cases c2
            · rw [if_neg c3]; dsimp only; omega
          · rw [if_neg c1] at c2
            by_cases c3 : lx_digit (t x)
            · rw [if_pos c3] at c2
              split at c2 <;> cases c2
            · rw [if_neg c3] at c2
              by_cases c4 : t x = 34
              · rw [if_pos c4] at c2
                split at c2 <;> cases c2
              · rw [if_neg c4] at c2
                split at c2 <;> cases c2
        by_cases hw : lx_span t x (lx_tok t n x).2.2 ∈ N
        · rw [pn_add_old hw]
          exact ⟨[], by rw [List.append_nil], by decide, by omega⟩
        · rw [pn_add_new hw]
          exact ⟨[lx_span t x (lx_tok t n x).2.2], rfl, Nat.le_refl 1, by rw [pn_used_app]; omega⟩
      · rw [if_neg c2]
        dsimp only
        exact ⟨[], by rw [List.append_nil], by decide, by omega⟩
    unfold lx_toks
    split
    · exact ⟨[], by rw [List.append_nil], Nat.zero_le _, by show pn_used N ≤ pn_used N + 16 * 1; omega⟩
    · split
      · exact ⟨[], by rw [List.append_nil], Nat.zero_le _, by show pn_used N ≤ pn_used N + 16 * 1; omega⟩
      · split
        · obtain ⟨G, h1, h2, h3⟩ := one (lx_skip t n (n + 1) k).2
          exact ⟨G, h1, h2, h3⟩
        · obtain ⟨G, h1, h2, h3⟩ := one (lx_skip t n (n + 1) k).2
          obtain ⟨G2, i1, i2, i3⟩ := lx_grow m (c + 1) (lx_res t n N (lx_skip t n (n + 1) k).2).2.2 (lx_res t n N (lx_skip t n (n + 1) k).2).2.1
          refine ⟨G ++ G2, ?_, ?_, ?_⟩
          · dsimp only; rw [i1, h1, List.append_assoc]
          · rw [List.length_append, List.length_cons]; omega
          · dsimp only
            rw [List.length_cons]; omega
/-- heaps that agree on the system -/
def AGR (N0 : List (List Int)) (h h' : am_H) : Prop :=
  (∀ i, i < 9 → h' 214 i = h 214 i ∧ h' 215 i = h 215 i ∧ h' 216 i = h 216 i) ∧
  (∀ j, j < 49 → h' 218 j = h 218 j ∧ h' 219 j = h 219 j ∧ h' 220 j = h 220 j ∧ h' 221 j = h 221 j ∧ h' 222 j = h 222 j) ∧
  (∀ k, 25 ≤ k → h' 212 k = h 212 k) ∧ (h' 211 = h 211 ∧ h' 297 = h 297 ∧ h' 298 = h 298 ∧ h' 299 = h 299 ∧ h' 300 = h 300 ∧ h' 301 = h 301) ∧
  (∀ i, i < N0.length → h' 6 i = h 6 i ∧ h' 7 i = h 7 i) ∧ ∀ k, k < pn_used N0 → h' 5 k = h 5 k
theorem AGR.refl (N0 : List (List Int)) (h : am_H) : AGR N0 h h := ⟨fun _ _ => ⟨rfl, rfl, rfl⟩, fun _ _ => ⟨rfl, rfl, rfl, rfl, rfl⟩, fun _ _ => rfl, ⟨rfl, rfl, rfl, rfl, rfl, rfl⟩, fun _ _ => ⟨rfl, rfl⟩, fun _ _ => rfl⟩
theorem AGR.trans {N0 : List (List Int)} {a b c : am_H} (A : AGR N0 a b) (B : AGR N0 b c) : AGR N0 a c := by
  obtain ⟨a1, a2, a3, ⟨a4, a5, a6, a7, a8, a9⟩, a10, a11⟩ := A
  obtain ⟨b1, b2, b3, ⟨b4, b5, b6, b7, b8, b9⟩, b10, b11⟩ := B
  refine ⟨fun i hi => ?_, fun j hj => ?_, fun k hk => (b3 k hk).trans (a3 k hk), ⟨b4.trans a4, b5.trans a5, b6.trans a6, b7.trans a7, b8.trans a8, b9.trans a9⟩, fun i hi => ⟨(b10 i hi).1.trans (a10 i hi).1, (b10 i hi).2.trans (a10 i hi).2⟩, fun k hk => (b11 k hk).trans (a11 k hk)⟩
  · obtain ⟨x1, x2, x3⟩ := a1 i hi
    obtain ⟨y1, y2, y3⟩ := b1 i hi
    exact ⟨y1.trans x1, y2.trans x2, y3.trans x3⟩
  · obtain ⟨x1, x2, x3, x4, x5⟩ := a2 j hj
    obtain ⟨y1, y2, y3, y4, y5⟩ := b2 j hj
    exact ⟨y1.trans x1, y2.trans x2, y3.trans x3, y4.trans x4, y5.trans x5⟩
/-- tables with the system's counts -/
def Rz (h : am_H) : am_H := am_up (am_up h 213 3 9) 217 5 49
def NMR (N0 : List (List Int)) (h : am_H) : Prop := ∀ (i : Nat) (w : List Int), N0[i]? = some w → h 6 i = pn_pos N0 i ∧ h 7 i = w.length ∧ ∀ (j : Nat) (x : Int), w[j]? = some x → h 5 (pn_pos N0 i + j) = x
/-- words of the language, in their row -/
def wsL : List (List Int) → Prop := fun ws => wo_row 170 ws
/-- what is known of the system -/
def SF (N0 : List (List Int)) (ws : List (List Int)) (sc ss : Nat → Int) (cc cs : Nat → Nat) (h : am_H) : Prop :=
  (SY 9 49 sc ss cc cs h h ∧ SYw h N0 sc ss ∧ SYn cs h ∧ NMR N0 h) ∧
  ((∀ i, i < 9 → 0 ≤ h 214 i ∧ h 214 i < (N0.length : Int)) ∧ (∀ j, j < 49 → 0 ≤ h 219 j ∧ h 219 j < (N0.length : Int)) ∧ ∀ w ∈ N0, w ≠ []) ∧
  (([109, 97, 105, 110] ∈ N0 ∧ h 212 27 = (N0.idxOf [109, 97, 105, 110] : Nat)) ∧ ([77, 97, 105, 110] ∈ N0 ∧ h 212 26 = (N0.idxOf [77, 97, 105, 110] : Nat))) ∧
  SKv (Rz h) ∧ (ce_sub (Rz h) (ce_cls (Rz h) (h 212 28)) (h 211 10) = 0 ∧ ce_sub (Rz h) (ce_cls (Rz h) (h 211 11)) (h 211 10) = 37 ∧ ce_sub (Rz h) (ce_cls (Rz h) (h 211 12)) (h 211 13) = 46) ∧
  (lr_W ws N0 ∧ 21 ≤ N0.length ∧ N0.length ≤ 398 ∧ pn_used N0 ≤ 1960 ∧ wo_row 170 ws) ∧ SKn (Rz h)
section
variable {N0 ws : List (List Int)} {sc ss : Nat → Int} {cc cs : Nat → Nat} {h h' : am_H}
theorem p_find_eq {f f' : Nat → Int} {x : Int} : ∀ (m k : Nat), (∀ j, k ≤ j → j < k + m → f' j = f j) → p_find f' x m k = p_find f x m k
  | 0, _, _ => rfl
  | m + 1, k, e => by
    unfold p_find
    rw [e k (Nat.le_refl _) (by omega), p_find_eq m (k + 1) (fun j h1 h2 => e j (by omega) (by omega))]
theorem p_find2_eq {f f' g g' : Nat → Int} {x y : Int} : ∀ (m k : Nat), (∀ j, k ≤ j → j < k + m → f' j = f j ∧ g' j = g j) → p_find2 f' g' x y m k = p_find2 f g x y m k
  | 0, _, _ => rfl
  | m + 1, k, e => by
    unfold p_find2
    rw [(e k (Nat.le_refl _) (by omega)).1, (e k (Nat.le_refl _) (by omega)).2, p_find2_eq m (k + 1) (fun j h1 h2 => e j (by omega) (by omega))]
theorem Rz_cls (A : AGR N0 h h') (x : Int) : ce_cls (Rz h') x = ce_cls (Rz h) x := by
  have e : ∀ g : am_H, ce_cls (Rz g) x = p_find (g 214) x 9 0 := fun g => by
    unfold ce_cls Rz
    rw [p_up_c _ _ _ _ 214 (by decide), p_up_c _ _ _ _ 214 (by decide), p_up_c _ _ _ _ 213 (by decide), p_up_s]; rfl
  rw [e, e]
  exact p_find_eq 9 0 (fun j _ hj => (A.1 j (by omega)).1)
theorem Rz_sub (A : AGR N0 h h') (o x : Int) : ce_sub (Rz h') o x = ce_sub (Rz h) o x := by
  have e : ∀ g : am_H, ce_sub (Rz g) o x = p_find2 (g 218) (g 219) o x 49 0 := fun g => by
    unfold ce_sub Rz
    rw [p_up_c _ _ _ _ 218 (by decide), p_up_c _ _ _ _ 218 (by decide), p_up_c _ _ _ _ 219 (by decide), p_up_c _ _ _ _ 219 (by decide), p_up_s]; rfl
  rw [e, e]
  exact p_find2_eq 49 0 (fun j _ hj => ⟨(A.2.1 j (by omega)).1, (A.2.1 j (by omega)).2.1⟩)
theorem Rz_c (c : Nat) (h1 : c ≠ 213) (h2 : c ≠ 217) : Rz h c = h c := by
  unfold Rz; rw [p_up_c _ _ _ _ _ h2, p_up_c _ _ _ _ _ h1]
theorem Rz_sys (A : AGR N0 h h') {a b : Nat} (ha : 25 ≤ a) (hb : 25 ≤ b) : sysS (Rz h') a b = sysS (Rz h) a b := by
  unfold sysS
  rw [Rz_cls A, Rz_sub A, Rz_c 212 (by decide) (by decide), Rz_c 212 (by decide) (by decide), A.2.2.1 a ha, A.2.2.1 b hb]
theorem pn_pos_lt {i : Nat} {w : List Int} (hi : N0[i]? = some w) (hne : w ≠ []) : pn_pos N0 i < pn_used N0 := by
  have := pn_pos_le hi
  have : 0 < w.length := List.length_pos_iff.2 hne
  omega
theorem hid_agr (A : AGR N0 h h') (R : NMR N0 h) (ne : ∀ w ∈ N0, w ≠ []) {x : Int} (hx : 0 ≤ x ∧ x < (N0.length : Int)) : ce_hid h' x ↔ ce_hid h x := by
  have hl : x.toNat < N0.length := by omega
  have g := List.getElem?_eq_getElem hl
  obtain ⟨r1, -, -⟩ := R _ _ g
  have lt := pn_pos_lt g (ne _ (List.mem_of_getElem? g))
  unfold ce_hid
  rw [(A.2.2.2.2.1 x.toNat hl).1, r1, A.2.2.2.2.2 _ (by omega)]
theorem SF_agr (A : AGR N0 h h') (F : SF N0 ws sc ss cc cs h) : SF N0 ws sc ss cc cs h' := by
  obtain ⟨⟨Y, Yw, Yn, R⟩, ⟨b1, b2, ne⟩, ⟨⟨m1, m2⟩, m3, m4⟩, Sk, ⟨g1, g2, g3⟩, W, Skn⟩ := F
  have A' := A
  obtain ⟨a1, a2, a3, ⟨a4, a5, a6, a7, a8, a9⟩, a10, a11⟩ := A
  have hid := fun {x : Int} (hx : 0 ≤ x ∧ x < (N0.length : Int)) => hid_agr A' R ne hx
  have R' : NMR N0 h' := by
    intro i w hi
    obtain ⟨r1, r2, r3⟩ := R i w hi
    have hl : i < N0.length := (List.getElem?_eq_some_iff.1 hi).1
    refine ⟨by rw [(a10 i hl).1]; exact r1, by rw [(a10 i hl).2]; exact r2, fun j x hj => ?_⟩
    have := pn_pos_le hi
    have hj2 : j < w.length := (List.getElem?_eq_some_iff.1 hj).1
    rw [a11 _ (by omega)]; exact r3 j x hj
  refine ⟨⟨?_, ?_, ?_, R'⟩, ⟨fun i hi => by rw [(a1 i hi).1]; exact b1 i hi, fun j hj => by rw [(a2 j hj).2.1]; exact b2 j hj, ne⟩, ⟨⟨m1, by rw [a3 27 (by decide)]; exact m2⟩, m3, by rw [a3 26 (by decide)]; exact m4⟩, ?_, ⟨?_, ?_, ?_⟩, W, ?_⟩
  · obtain ⟨y1, y2, y3, y4, y5, y6, y7, y8, y9⟩ := Y
    have scb : ∀ q, q < 8 → 0 ≤ sc q ∧ sc q < (N0.length : Int) := fun q hq => by
      have := b1 (cc q) (y1 q hq).1
      rw [(y1 q hq).2.1] at this; exact this
    refine ⟨fun q hq => ?_, fun i hi hh => ?_, fun i j hi hj e => ?_, fun q s hq h1 h2 => ?_, fun j hj => by rw [(a2 j hj).1]; exact y5 j hj, fun j q hj hq e hh => ?_, fun i j hi hj e1 e2 => ?_, by rw [a5]; exact y8, by rw [a8]; exact y9⟩
    · obtain ⟨z1, z2, z3⟩ := y1 q hq
      exact ⟨z1, by rw [(a1 _ z1).1]; exact z2, fun z => z3 ((hid (scb q hq)).1 z)⟩
    · rw [(a1 i hi).1] at hh
      exact y2 i hi (fun z => hh ((hid (b1 i hi)).2 z))
    · rw [(a1 i hi).1, (a1 j hj).1] at e
      exact y3 i j hi hj e
    · rw [a5] at h1 h2
      obtain ⟨z1, z2, z3, z4, z5, z6, z7⟩ := y4 q s hq h1 h2
      obtain ⟨w1, w2, w3, w4, w5⟩ := a2 _ z1
      rw [w1, w2, w3, w4, w5, a5, a8, a9]
      refine ⟨z1, z2, z3, fun z => z4 ((hid ?_).1 z), z5, z6, z7⟩
      have := b2 _ z1
      rw [z3] at this; exact this
    · rw [(a2 j hj).1] at e
      rw [(a2 j hj).2.1] at hh
      obtain ⟨s, z1, z2, z3⟩ := y6 j q hj hq e (fun z => hh ((hid (b2 j hj)).2 z))
      exact ⟨s, by rw [a5]; exact z1, by rw [a5]; exact z2, z3⟩
    · rw [(a2 i hi).1, (a2 j hj).1] at e1
      rw [(a2 i hi).2.1, (a2 j hj).2.1] at e2
      exact y7 i j hi hj e1 e2
  · unfold SYw
    rw [a5, a6, a7]; exact Yw
  · unfold SYn
    rw [a5, a8, a9]; exact Yn
  · obtain ⟨⟨k1, k2, k3, k4, k5⟩, n3, n15, n20, n10, n11⟩ := Sk
    have e : ∀ k, k < 49 → Rz h' 222 k = Rz h 222 k := fun k hk => by rw [Rz_c 222 (by decide) (by decide), Rz_c 222 (by decide) (by decide), (a2 k hk).2.2.2.2]
    exact ⟨⟨by rw [Rz_sys A' (by decide) (by decide)]; exact k1, by rw [Rz_sys A' (by decide) (by decide)]; exact k2, by rw [Rz_sys A' (by decide) (by decide)]; exact k3, by rw [Rz_sys A' (by decide) (by decide)]; exact k4, by rw [Rz_sys A' (by decide) (by decide)]; exact k5⟩, by rw [e 3 (by decide)]; exact n3, by rw [e 15 (by decide)]; exact n15, by rw [e 20 (by decide)]; exact n20, by rw [e 10 (by decide)]; exact n10, by rw [e 11 (by decide)]; exact n11⟩
  · rw [Rz_cls A', Rz_sub A', a3 28 (by decide), a4]; exact g1
  · rw [Rz_cls A', Rz_sub A', a4]; exact g2
  · rw [Rz_cls A', Rz_sub A', a4]; exact g3
  · obtain ⟨k1, k2, k3, k4, k5⟩ := Skn
    exact ⟨by rw [Rz_sys A' (by decide) (by decide)]; exact k1, by rw [Rz_sys A' (by decide) (by decide)]; exact k2, by rw [Rz_sys A' (by decide) (by decide)]; exact k3, by rw [Rz_sys A' (by decide) (by decide)]; exact k4, by rw [Rz_sys A' (by decide) (by decide)]; exact k5⟩
end
/-- what stands between calls, for texts -/
def LST (N0 ws : List (List Int)) (sc ss : Nat → Int) (cc cs : Nat → Nat) (h : am_H) : Prop :=
  SF N0 ws sc ss cc cs h ∧ (h 1 4 = 1572 ∧ h 1 5 = 9623 ∧ h 1 6 = (N0.length : Int) ∧ h 1 7 = 152) ∧
  ((h 1 19 = 0 ∧ h 213 3 = 9 ∧ h 217 5 = 49 ∧ h 212 15 = 4) ∨ (h 1 19 = 1 ∧ h 212 20 = 9 ∧ h 212 21 = 49 ∧ h 212 22 = 4)) ∧
  ((h 4 3 = (N0.length : Int) ∧ h 4 4 = (pn_used N0 : Int)) ∨ ((N0.length : Int) < h 4 3 ∧ h 6 N0.length = (pn_used N0 : Int))) ∧
  (h 241 2899 = 0 ∧ ∀ t, 0 ≤ h 243 t ∧ h 243 t ≤ 16000) ∧ ((0 ≤ h 235 3 ∧ h 235 3 ≤ 8000) ∧ (0 ≤ h 235 4 ∧ h 235 4 ≤ 100000) ∧ (0 ≤ h 223 5 ∧ h 223 5 ≤ 50) ∧ (0 ≤ h 229 5 ∧ h 229 5 ≤ 50)) ∧ TRS h ∧ (0 ≤ h 254 51 ∧ h 254 51 ≤ 142)
