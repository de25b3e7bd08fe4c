/-! CHIPS, 55: the board: the component finds; what a gate's rows are -/
section
variable {d L : Nat} {K V : Nat → Int} {Z : Nat} {chs : List cCh} {ch : cCh} {h : am_H}
theorem FD_rt {S : Nat → Int} {W : Nat} : ∀ (N w : Nat) {r : Nat}, FD S W N w r → r < W ∧ S r = (r : Int)
  | 0, w, r, ⟨h1, h2, h3⟩ => by rw [h3]; exact ⟨h1, h2⟩
  | N + 1, w, r, ⟨_, w', _, _, h4⟩ => FD_rt N w' h4
theorem FD_un {S : Nat → Int} {W : Nat} : ∀ (N N' w : Nat) {r r' : Nat}, FD S W N w r → FD S W N' w r' → r = r'
  | 0, 0, w, r, r', ⟨_, _, h3⟩, ⟨_, _, h3'⟩ => by rw [h3, h3']
  | 0, N' + 1, w, r, r', ⟨_, h2, _⟩, ⟨_, w', q1, q2, _⟩ => by rw [h2] at q1; exact absurd (Int.natCast_inj.1 q1).symm q2
  | N + 1, 0, w, r, r', ⟨_, w', q1, q2, _⟩, ⟨_, h2, _⟩ => by rw [h2] at q1; exact absurd (Int.natCast_inj.1 q1).symm q2
  | N + 1, N' + 1, w, r, r', ⟨_, w', q1, _, q3⟩, ⟨_, w2, p1, _, p3⟩ => by
    rw [q1] at p1
    have := Int.natCast_inj.1 p1
    subst this
    exact FD_un N N' w' q3 p3
theorem cf_loop {S : Nat → Int} {W : Nat} (hW : W ≤ 40002) (hS : h 196 = S) (u1 : Option am_V) : ∀ (N w : Nat) {r : Nat}, FD S W N w r → am_E (am_D d) m_2_2 (.inl 1) [some (am_r (am_a 195)), u1, some (am_i (w : Int))] [] (zS L, h) = pI L (r : Int) h
  | 0, w, r, ⟨h1, h2, h3⟩ => by rw [q_2_2_1, p_idx (by omega) (by omega), Int.toNat_natCast, hS, if_pos h2, h3]
  | N + 1, w, r, ⟨h1, w', h2, h3, h4⟩ => by
    rw [q_2_2_1, p_idx (by omega) (by omega), Int.toNat_natCast, hS, if_neg (by rw [h2]; omega), p_idx (by omega) (by omega), Int.toNat_natCast, h2]
    exact cf_loop hW hS u1 N w' h4
theorem cf_find {W N w r : Nat} (hW : W ≤ 40002) (H : FD (h 196) W N w r) : am_D (d + 1) 2 2 [am_r (am_a 195), am_i (w : Int)] (zS L, h) = pI L (r : Int) h := by
  rw [D_2_2]
  exact cf_loop hW rfl _ N w H
theorem fd_down (Y : kY K V Z chs) (LK : kL K V chs) (hin : ∀ ch ∈ chs, ch.2.2.1 < ch.2.1.length) {S A B O D : Nat → Int} {W : Nat} (S0 : S 0 = 0) : ∀ (m c β γ : Nat) (ch : cCh), rkx V chs c < m → chs[c]? = some ch → 2 ≤ β → β + bAll K V chs c ≤ W → CN K V chs S A B O D m c β γ → ∀ x, inb V ch ≤ x → x < ownx K V chs ch → ∃ N r, FD S W N (β + x) r
  | 0, _, _, _, _, hr, _, _, _, _, _, _, _ => by omega
  | m + 1, c, β, γ, ch, hr, hc, hβ, hB, CNn, x, hx1, hx2 => by
    obtain ⟨C1, C2⟩ := CNn ch hc
    have hcm := List.mem_of_getElem? hc
    have be := bAll_eq (K := K) Y.1 hc
    have s1 := C1 x hx1 hx2
    cases hf : finO K V chs ch ch.2.2.2.1 0 (fun _ => none) x with
    | none =>
      rw [hf] at s1
      dsimp only at s1
      by_cases z : x < wsm V ch.2.1
      · rw [if_pos z] at s1
        exact ⟨1, 0, by omega, 0, s1, by omega, by omega, S0, rfl⟩
      · rw [if_neg z] at s1
        exact ⟨0, β + x, by omega, s1, rfl⟩
    | some py =>
      obtain ⟨p, y⟩ := py
      rw [hf] at s1
      dsimp only at s1
      rcases finO_some ch.2.2.2.1 0 (fun q hq k hk l hl => ⟨(LK ch hcm q hq k hk l hl).1, (LK ch hcm q hq k hk l hl).2.1.1, (LK ch hcm q hq k hk l hl).2.2.1⟩) hf with z | ⟨a, q, k, hp, ha, hk, y1, y2⟩
      · cases z
      dsimp only at ha y1 y2
      rw [Nat.zero_add] at ha
      subst ha
      have hqm := List.mem_of_getElem? hp
      have hkl := kOf_rg hk
      obtain ⟨⟨a1, a2, a3⟩, -⟩ := kO_in Y hin hc hp hk
      obtain ⟨e1, e2, e3⟩ := C2 p q k hp hk
      have stepC : ∀ N r, FD S W N (β + kO K V chs ch p + y) r → FD S W (N + 1) (β + x) r := fun N r h => ⟨by omega, _, s1, by omega, h⟩
      by_cases k2 : k < 2
      · obtain ⟨u1, u2, u3, u4, u5, u6⟩ := gate_eq (K := K) (V := V) (chs := chs) k2
        have ye : y = ibt V chs k := by omega
        subst ye
        obtain ⟨v1, -⟩ := e2 k2
        exact ⟨1, _, stepC 0 _ ⟨by omega, v1, rfl⟩⟩
      · obtain ⟨ck, w1, w2, w3, w4, w5, w6, w7, w8, w9, w10⟩ := kid_eq Y hin hkl (show 2 ≤ k by omega)
        have rkk := rk_lt Y.1 (a := c) (b := k - 2) ⟨ch, q, hc, hqm, by rw [hk, show 2 + (k - 2) = k by omega]⟩
        have io := (inb_own (K := K) (V := V) (chs := chs) (hin ck (List.mem_of_getElem? w1))).2
        obtain ⟨N, r, q1⟩ := fd_down Y LK hin (W := W) S0 m (k - 2) (β + kO K V chs ch p) (γ + gO V chs ch p) ck (by omega) w1 (by omega) (by omega) (e3 (by omega)) y (by omega) (by omega)
        exact ⟨N + 1, r, stepC N r q1⟩
theorem fd_up (Y : kY K V Z chs) (LK : kL K V chs) (hin : ∀ ch ∈ chs, ch.2.2.1 < ch.2.1.length) {S A B O D : Nat → Int} {W : Nat} (S0 : S 0 = 0) (S1 : S 1 = 1) : ∀ (m c β γ n g : Nat) (ch : cCh), rkx V chs c < m → chs[c]? = some ch → 2 ≤ β → β + bAll K V chs c ≤ W → CN K V chs S A B O D m c β γ → (∀ x, x < inb V ch → ∃ N r, FD S W N (β + x) r) → ∀ i j w y k, GP K V chs m c β γ n g i j w y k → ∀ x, x < ibt V chs k → ∃ N r, FD S W N (w + x) r
  | 0, _, _, _, _, _, _, hr, _, _, _, _, _, _, _, _, _, _, _ => by omega
  | m + 1, c, β, γ, n, g, ch, hr, hc, hβ, hB, CNn, IN, i, j, w, y, k, ⟨ch', p, q, k', hc', hp, hk, H⟩ => by
    rw [hc] at hc'
    injection hc' with hc'
    subst hc'
    have hcm := List.mem_of_getElem? hc
    have hqm := List.mem_of_getElem? hp
    have hkl := kOf_rg hk
    obtain ⟨C1, C2⟩ := CNn ch hc
    have be := bAll_eq (K := K) Y.1 hc
    obtain ⟨⟨a1, a2, a3⟩, -⟩ := kO_in Y hin hc hp hk
    obtain ⟨e1, e2, e3⟩ := C2 p q k' hp hk
    obtain ⟨t1, ibk, -⟩ := pbt_tot (K := K) Y.1 hkl hin
    have down := fd_down (S := S) (A := A) (B := B) (O := O) (D := D) Y LK hin (W := W) S0 (m + 1) c β γ ch hr hc hβ hB CNn
    have PI : ∀ x, x < ibt V chs k' → ∃ N r, FD S W N (β + kO K V chs ch p + x) r := by
      intro x hx
      have s1 := e1 x hx
      have zero : S (β + kO K V chs ch p + x) = 0 → ∃ N r, FD S W N (β + kO K V chs ch p + x) r := fun s2 => ⟨1, 0, by omega, 0, s2, by omega, by omega, S0, rfl⟩
      cases hf : finP K V chs k' ch q x with
      | none =>
        rw [hf] at s1
        exact zero s1
      | some v =>
        rw [hf] at s1
        dsimp only at s1
        have lks := LK ch hcm q hqm k' hk
        rcases fPl_some (Nat.le_of_lt (hin ch hcm)) q.2 (fun l hl => ⟨(lks l hl).1, (lks l hl).2.1.1, (lks l hl).2.2.1⟩) (fun v hv => by cases hv) hf with z | z | ⟨z1, z2⟩
        · rw [z] at s1
          exact zero s1
        · rw [z] at s1
          have s2 : S (β + kO K V chs ch p + x) = 1 := s1
          exact ⟨1, 1, by omega, 1, s2, by omega, by omega, S1, rfl⟩
        · obtain ⟨a, rfl⟩ : ∃ a : Nat, v = (a : Int) := ⟨v.toNat, by omega⟩
          have s2 : S (β + kO K V chs ch p + x) = ((β + a : Nat) : Int) := by rw [s1]; unfold encv; rw [if_neg (by omega), if_neg (by omega)]; omega
          have : ∃ N r, FD S W N (β + a) r := by
            by_cases ai : a < inb V ch
            · exact IN a ai
            · exact down a (by omega) (by omega)
          obtain ⟨N, r, q1⟩ := this
          exact ⟨N + 1, r, by omega, _, s2, by omega, q1⟩
    rcases H with ⟨k2, rfl, rfl, rfl, rfl, rfl⟩ | ⟨k2, H⟩
    · exact PI
    · obtain ⟨ck, w1, w2, w3, w4, w5, w6, w7, w8, w9, w10⟩ := kid_eq Y hin hkl k2
      have rkk := rk_lt Y.1 (a := c) (b := k' - 2) ⟨ch, q, hc, hqm, by rw [hk, show 2 + (k' - 2) = k' by omega]⟩
      exact fd_up Y LK hin S0 S1 m (k' - 2) (β + kO K V chs ch p) (γ + gO V chs ch p) (n + mD K V chs ch (p + 1)) (g + mH V chs ch (p + 1)) ck (by omega) w1 (by omega) (by omega) (e3 k2) (fun x hx => PI x (by omega)) i j w y k H
/-- what the component's, the model's rows say of a gate -/
theorem GP_C {S A B O D : Nat → Int} : ∀ (m c β γ n g : Nat) {i j w y k : Nat}, CN K V chs S A B O D m c β γ → GP K V chs m c β γ n g i j w y k → S (w + ibt V chs k) = ((w + ibt V chs k : Nat) : Int) ∧ A i = (w : Int) ∧ B i = ((if k = 0 then w + 1 else w : Nat) : Int) ∧ O i = ((w + ibt V chs k : Nat) : Int) ∧ D i = (if k = 1 then 1 else 0)
  | 0, _, _, _, _, _, _, _, _, _, _, _, H => False.elim H
  | m + 1, c, β, γ, n, g, i, j, w, y, k, C, ⟨ch, p, q, k', hc, hp, hk, H⟩ => by
    obtain ⟨-, g2, g3⟩ := (C ch hc).2 p q k' hp hk
    rcases H with ⟨k2, rfl, rfl, rfl, rfl, rfl⟩ | ⟨k2, H⟩
    · exact g2 k2
    · exact GP_C m _ _ _ _ _ (g3 k2) H
theorem GP_M {F G Q I : Nat → Int} : ∀ (m c β γ b n g : Nat) {i j w y k : Nat}, MN K V chs F G Q I m c b n g → GP K V chs m c β γ n g i j w y k → gatM V chs y j k G Q I
  | 0, _, _, _, _, _, _, _, _, _, _, _, _, H => False.elim H
  | m + 1, c, β, γ, b, n, g, i, j, w, y, k, C, ⟨ch, p, q, k', hc, hp, hk, H⟩ => by
    obtain ⟨-, g2, g3⟩ := (C ch hc).2.2 p q k' hp hk
    rcases H with ⟨k2, rfl, rfl, rfl, rfl, rfl⟩ | ⟨k2, H⟩
    · exact g2 k2
    · exact GP_M m _ _ _ _ _ _ (g3 k2) H
end
