/-! CHIPS, 52: the board: gates of both sides -/
section
variable (K V : Nat → Int) (chs : List cCh)
/-- gate i of the component, j of the model: where their wires, bits begin; kind -/
def GP : Nat → Nat → Nat → Nat → Nat → Nat → Nat → Nat → Nat → Nat → Nat → Prop
  | 0 => fun _ _ _ _ _ _ _ _ _ _ => False
  | m + 1 => fun c β γ n g i j w y k => ∃ ch p q k', chs[c]? = some ch ∧ ch.2.2.2.1[p]? = some q ∧ kOf V chs (V q.1) = some k' ∧ (k' < 2 ∧ k = k' ∧ i = γ + gO V chs ch p ∧ j = g + mGx V chs ch p ∧ w = β + kO K V chs ch p ∧ y = n + mOx K V chs ch p ∨ 2 ≤ k' ∧ GP m (k' - 2) (β + kO K V chs ch p) (γ + gO V chs ch p) (n + mD K V chs ch (p + 1)) (g + mH V chs ch (p + 1)) i j w y k)
/-- an ownx bit of some chip -/
def IO : Nat → Nat → Nat → Nat → Prop
  | 0, _, _, _ => False
  | m + 1, c, β, w => ∃ ch, chs[c]? = some ch ∧ (β ≤ w ∧ w < β + ownx K V chs ch ∨ ∃ p q k, ch.2.2.2.1[p]? = some q ∧ kOf V chs (V q.1) = some k ∧ 2 ≤ k ∧ IO m (k - 2) (β + kO K V chs ch p) w)
end
section
variable {K V : Nat → Int} {Z : Nat} {chs : List cCh}
theorem kO_in (Y : kY K V Z chs) (hin : ∀ ch ∈ chs, ch.2.2.1 < ch.2.1.length) {c : Nat} {ch : cCh} (hc : chs[c]? = some ch) {p k : Nat} {q : Nat × List cLk} (hp : ch.2.2.2.1[p]? = some q) (hk : kOf V chs (V q.1) = some k) :
    (ownx K V chs ch ≤ kO K V chs ch p ∧ kO K V chs ch (p + 1) = kO K V chs ch p + tot K V chs k ∧ kO K V chs ch (p + 1) ≤ bAll K V chs c) ∧ (gO V chs ch (p + 1) = gO V chs ch p + gts V chs k ∧ gO V chs ch (p + 1) ≤ gAll V chs c) ∧ (mOx K V chs ch (p + 1) = mOx K V chs ch p + owk K V chs k ∧ mOx K V chs ch (p + 1) ≤ mOx K V chs ch ch.2.2.2.1.length ∧ mOx K V chs ch ch.2.2.2.1.length ≤ mD K V chs ch (p + 1) ∧ mD K V chs ch p = mD K V chs ch (p + 1) + rsk K V chs k ∧ mD K V chs ch p ≤ mD K V chs ch 0) ∧ (mGx V chs ch (p + 1) = mGx V chs ch p + g1k k ∧ mGx V chs ch (p + 1) ≤ mGx V chs ch ch.2.2.2.1.length ∧ mGx V chs ch ch.2.2.2.1.length ≤ mH V chs ch (p + 1) ∧ mH V chs ch p = mH V chs ch (p + 1) + gck V chs k ∧ mH V chs ch p ≤ mH V chs ch 0) := by
  have hpl := (List.getElem?_eq_some_iff.1 hp).1
  obtain ⟨n1, n2, n3, n4, n5⟩ := mO_n (K := K) hp hk
  obtain ⟨m1, m2, m3, -⟩ := mO_mono (K := K) (V := V) (chs := chs) ch (show p + 1 ≤ ch.2.2.2.1.length by omega)
  obtain ⟨-, -, -, m4, m5⟩ := mO_mono (K := K) (V := V) (chs := chs) ch (Nat.zero_le p)
  have d1 : mOx K V chs ch ch.2.2.2.1.length ≤ mD K V chs ch (p + 1) := by unfold mD; omega
  have d2 : mGx V chs ch ch.2.2.2.1.length ≤ mH V chs ch (p + 1) := by unfold mH; omega
  obtain ⟨l1, l2, l3⟩ := kO_le (K := K) Y.1 hc hp hk
  obtain ⟨x1, x2⟩ := kO_n (K := K) hp hk
  exact ⟨⟨l1, x1, by omega⟩, ⟨x2, by omega⟩, ⟨n1, m1, d1, n4, m4⟩, n2, m2, d2, n5, m5⟩
/-- a kid's numbers -/
theorem kid_eq (Y : kY K V Z chs) (hin : ∀ ch ∈ chs, ch.2.2.1 < ch.2.1.length) {k : Nat} (hk : k < 2 + chs.length) (k2 : 2 ≤ k) : ∃ ck, chs[k - 2]? = some ck ∧ owk K V chs k = ownx K V chs ck ∧ tot K V chs k = bAll K V chs (k - 2) ∧ rsk K V chs k = mD K V chs ck 0 ∧ gts V chs k = gAll V chs (k - 2) ∧ gck V chs k = mH V chs ck 0 ∧ mH V chs ck 0 = gAll V chs (k - 2) ∧ g1k k = 0 ∧ ibt V chs k = inb V ck ∧ pbt V chs k = wsm V ck.2.1 := by
  obtain ⟨o1, o2, o3, o4⟩ := owk_tot (K := K) Y.1 hin hk
  obtain ⟨ck, w1, w2, w3, w4⟩ := o4 k2
  obtain ⟨e1, e2⟩ := mO_end (K := K) Y.1 hin w1 (fun q hq => (Y.2.1 ck (List.mem_of_getElem? w1) q hq).2)
  have gk : gck V chs k = gAll V chs (k - 2) := by unfold gck; rw [if_neg (by omega)]
  have gt : gts V chs k = gAll V chs (k - 2) := by unfold gts; rw [if_neg (by omega)]
  have g1 : g1k k = 0 := by unfold g1k; rw [if_neg (by omega)]
  obtain ⟨ck', q1, q2, q3, q4⟩ := (pbt_tot (K := K) Y.1 hk hin).2.2 k2
  rw [w1] at q1
  injection q1 with q1
  subst q1
  exact ⟨ck, w1, w2, w3, by omega, gt, by omega, e2, g1, w4, q3⟩
theorem gate_eq {k : Nat} (k2 : k < 2) : owk K V chs k = pbt V chs k ∧ tot K V chs k = pbt V chs k ∧ gts V chs k = 1 ∧ g1k k = 1 ∧ pbt V chs k = ibt V chs k + 1 ∧ pbt V chs k = 3 - k := by
  rcases (show k = 0 ∨ k = 1 by omega) with rfl | rfl <;> exact ⟨rfl, rfl, rfl, rfl, rfl, rfl⟩
theorem GP_rg (Y : kY K V Z chs) (hin : ∀ ch ∈ chs, ch.2.2.1 < ch.2.1.length) : ∀ (m c β γ n g i j w y k : Nat) (ch : cCh), chs[c]? = some ch → GP K V chs m c β γ n g i j w y k → k < 2 ∧ (β + ownx K V chs ch ≤ w ∧ w + pbt V chs k ≤ β + bAll K V chs c) ∧ (γ ≤ i ∧ i < γ + gAll V chs c) ∧ (g ≤ j ∧ j < g + mH V chs ch 0) ∧ n ≤ y ∧ y + pbt V chs k ≤ n + mD K V chs ch 0
  | 0, _, _, _, _, _, _, _, _, _, _, _, _, H => False.elim H
  | m + 1, c, β, γ, n, g, i, j, w, y, k, ch, hc, ⟨ch', p, q, k', hc', hp, hk, H⟩ => by
    rw [hc] at hc'
    injection hc' with hc'
    subst hc'
    obtain ⟨⟨a1, a2, a3⟩, ⟨b1, b2⟩, ⟨c1, c2, c3, c4, c5⟩, d1, d2, d3, d4, d5⟩ := kO_in Y hin hc hp hk
    rcases H with ⟨k2, rfl, rfl, rfl, rfl, rfl⟩ | ⟨k2, H⟩
    · obtain ⟨e1, e2, e3, e4, e5, e6⟩ := gate_eq (K := K) (V := V) (chs := chs) k2
      exact ⟨k2, ⟨by omega, by omega⟩, ⟨by omega, by omega⟩, ⟨by omega, by omega⟩, by omega, by omega⟩
    · obtain ⟨ck, w1, w2, w3, w4, w5, w6, w7, w8, w9, w10⟩ := kid_eq Y hin (kOf_rg hk) k2
      obtain ⟨r1, ⟨r2, r3⟩, ⟨r4, r5⟩, ⟨r6, r7⟩, r8, r9⟩ := GP_rg Y hin m _ _ _ _ _ _ _ _ _ _ ck w1 H
      exact ⟨r1, ⟨by omega, by omega⟩, ⟨by omega, by omega⟩, ⟨by omega, by omega⟩, by omega, by omega⟩
theorem kO_le2 (ch : cCh) {a b : Nat} (hab : a + 1 ≤ b) : kO K V chs ch (a + 1) ≤ kO K V chs ch b ∧ gO V chs ch (a + 1) ≤ gO V chs ch b ∧ mOx K V chs ch (a + 1) ≤ mOx K V chs ch b ∧ mGx V chs ch (a + 1) ≤ mGx V chs ch b ∧ mD K V chs ch b ≤ mD K V chs ch (a + 1) ∧ mH V chs ch b ≤ mH V chs ch (a + 1) := by
  obtain ⟨x1, x2⟩ := kO_mono (K := K) (V := V) (chs := chs) ch hab
  obtain ⟨y1, y2, -, y4, y5⟩ := mO_mono (K := K) (V := V) (chs := chs) ch hab
  exact ⟨x1, x2, y1, y2, y4, y5⟩
theorem GP_un (Y : kY K V Z chs) (hin : ∀ ch ∈ chs, ch.2.2.1 < ch.2.1.length) : ∀ (m c β γ n g : Nat) {i j w y k i' j' w' y' k' : Nat}, GP K V chs m c β γ n g i j w y k → GP K V chs m c β γ n g i' j' w' y' k' → (i = i' ∨ j = j' ∨ (w ≤ w' + ibt V chs k' ∧ w' ≤ w + ibt V chs k) ∨ (y ≤ y' + ibt V chs k' ∧ y' ≤ y + ibt V chs k)) → i = i' ∧ j = j' ∧ w = w' ∧ y = y' ∧ k = k'
  | 0, _, _, _, _, _, _, _, _, _, _, _, _, _, _, _, H, _, _ => False.elim H
  | m + 1, c, β, γ, n, g, i, j, w, y, k, i', j', w', y', k', ⟨ch, p, q, l, hc, hp, hk, H⟩, ⟨ch', p', q', l', hc', hp', hk', H'⟩, U => by
    rw [hc] at hc'
    injection hc' with hc'
    subst hc'
    obtain ⟨⟨a1, a2, a3⟩, ⟨b1, b2⟩, ⟨c1, c2, c3, c4, c5⟩, d1, d2, d3, d4, d5⟩ := kO_in Y hin hc hp hk
    obtain ⟨⟨a1', a2', a3'⟩, ⟨b1', b2'⟩, ⟨c1', c2', c3', c4', c5'⟩, d1', d2', d3', d4', d5'⟩ := kO_in Y hin hc hp' hk'
    -- ranges
    have rg : ∀ {p l i j w y k : Nat}, ((ownx K V chs ch ≤ kO K V chs ch p ∧ kO K V chs ch (p + 1) = kO K V chs ch p + tot K V chs l ∧ kO K V chs ch (p + 1) ≤ bAll K V chs c) ∧ (gO V chs ch (p + 1) = gO V chs ch p + gts V chs l ∧ gO V chs ch (p + 1) ≤ gAll V chs c) ∧ (mOx K V chs ch (p + 1) = mOx K V chs ch p + owk K V chs l ∧ mOx K V chs ch (p + 1) ≤ mOx K V chs ch ch.2.2.2.1.length ∧ mOx K V chs ch ch.2.2.2.1.length ≤ mD K V chs ch (p + 1) ∧ mD K V chs ch p = mD K V chs ch (p + 1) + rsk K V chs l ∧ mD K V chs ch p ≤ mD K V chs ch 0) ∧ (mGx V chs ch (p + 1) = mGx V chs ch p + g1k l ∧ mGx V chs ch (p + 1) ≤ mGx V chs ch ch.2.2.2.1.length ∧ mGx V chs ch ch.2.2.2.1.length ≤ mH V chs ch (p + 1) ∧ mH V chs ch p = mH V chs ch (p + 1) + gck V chs l ∧ mH V chs ch p ≤ mH V chs ch 0)) → l < 2 + chs.length → (l < 2 ∧ k = l ∧ i = γ + gO V chs ch p ∧ j = g + mGx V chs ch p ∧ w = β + kO K V chs ch p ∧ y = n + mOx K V chs ch p ∨ 2 ≤ l ∧ GP K V chs m (l - 2) (β + kO K V chs ch p) (γ + gO V chs ch p) (n + mD K V chs ch (p + 1)) (g + mH V chs ch (p + 1)) i j w y k) → (γ + gO V chs ch p ≤ i ∧ i < γ + gO V chs ch (p + 1)) ∧ (β + kO K V chs ch p ≤ w ∧ w + ibt V chs k < β + kO K V chs ch (p + 1)) ∧ (g + mGx V chs ch p ≤ j ∧ j < g + mGx V chs ch (p + 1) ∨ g + mH V chs ch (p + 1) ≤ j ∧ j < g + mH V chs ch p) ∧ (n + mOx K V chs ch p ≤ y ∧ y + ibt V chs k < n + mOx K V chs ch (p + 1) ∨ n + mD K V chs ch (p + 1) ≤ y ∧ y + ibt V chs k < n + mD K V chs ch p) := by
      intro p l i j w y k ⟨⟨a1, a2, a3⟩, ⟨b1, b2⟩, ⟨c1, c2, c3, c4, c5⟩, d1, d2, d3, d4, d5⟩ hl H
      rcases H with ⟨k2, rfl, rfl, rfl, rfl, rfl⟩ | ⟨k2, H⟩
      · obtain ⟨e1, e2, e3, e4, e5, e6⟩ := gate_eq (K := K) (V := V) (chs := chs) k2
        exact ⟨⟨by omega, by omega⟩, ⟨by omega, by omega⟩, Or.inl ⟨by omega, by omega⟩, Or.inl ⟨by omega, by omega⟩⟩
      · obtain ⟨ck, w1, w2, w3, w4, w5, w6, w7, w8, w9, w10⟩ := kid_eq Y hin hl k2
        obtain ⟨r1, ⟨r2, r3⟩, ⟨r4, r5⟩, ⟨r6, r7⟩, r8, r9⟩ := GP_rg Y hin m _ _ _ _ _ _ _ _ _ _ ck w1 H
        obtain ⟨-, -, -, -, e5, -⟩ := gate_eq (K := K) (V := V) (chs := chs) r1
        exact ⟨⟨by omega, by omega⟩, ⟨by omega, by omega⟩, Or.inr ⟨by omega, by omega⟩, Or.inr ⟨by omega, by omega⟩⟩
    obtain ⟨i1, w1, j1, y1⟩ := rg ⟨⟨a1, a2, a3⟩, ⟨b1, b2⟩, ⟨c1, c2, c3, c4, c5⟩, d1, d2, d3, d4, d5⟩ (kOf_rg hk) H
    obtain ⟨i2, w2, j2, y2⟩ := rg ⟨⟨a1', a2', a3'⟩, ⟨b1', b2'⟩, ⟨c1', c2', c3', c4', c5'⟩, d1', d2', d3', d4', d5'⟩ (kOf_rg hk') H'
    have pe : p = p' := by
      rcases Nat.lt_trichotomy p p' with z | z | z
      · exfalso
        obtain ⟨z1, z2, z3, z4, z5, z6⟩ := kO_le2 (K := K) (V := V) (chs := chs) ch z
        rcases U with u | u | u | u
        · omega
        · omega
        · omega
        · omega
      · exact z
      · exfalso
        obtain ⟨z1, z2, z3, z4, z5, z6⟩ := kO_le2 (K := K) (V := V) (chs := chs) ch z
        rcases U with u | u | u | u
        · omega
        · omega
        · omega
        · omega
    subst pe
    rw [hp] at hp'
    injection hp' with hp'
    subst hp'
    rw [hk] at hk'
    injection hk' with hk'
    subst hk'
    rcases H with ⟨k2, rfl, rfl, rfl, rfl, rfl⟩ | ⟨k2, H⟩
    · rcases H' with ⟨-, rfl, rfl, rfl, rfl, rfl⟩ | ⟨k3, -⟩
      · exact ⟨rfl, rfl, rfl, rfl, rfl⟩
      · omega
    · rcases H' with ⟨k3, -⟩ | ⟨-, H'⟩
      · omega
      · exact GP_un Y hin m _ _ _ _ _ H H' U
/-- every gate has a partner -/
theorem GP_ex (Y : kY K V Z chs) (hin : ∀ ch ∈ chs, ch.2.2.1 < ch.2.1.length) : ∀ (m c β γ n g i : Nat) (ch : cCh), rkx V chs c < m → chs[c]? = some ch → γ ≤ i → i < γ + gAll V chs c → ∃ j w y k, GP K V chs m c β γ n g i j w y k
  | 0, _, _, _, _, _, _, _, hr, _, _, _ => by omega
  | m + 1, c, β, γ, n, g, i, ch, hr, hc, h1, h2 => by
    have e := (kO_end (K := K) Y.1 hc).2
    have hcm := List.mem_of_getElem? hc
    -- the part whose gate it is
    have : ∀ P, P ≤ ch.2.2.2.1.length → i < γ + gO V chs ch P → ∃ p, p < P ∧ γ + gO V chs ch p ≤ i ∧ i < γ + gO V chs ch (p + 1) := by
      intro P
      induction P with
      | zero => intro _ w; exfalso; have : gO V chs ch 0 = 0 := rfl; omega
      | succ P ih =>
        intro w1 w2
        by_cases z : i < γ + gO V chs ch P
        · obtain ⟨p, q1, q2, q3⟩ := ih (by omega) z
          exact ⟨p, by omega, q2, q3⟩
        · exact ⟨P, by omega, by omega, w2⟩
    obtain ⟨p, p1, p2, p3⟩ := this ch.2.2.2.1.length (Nat.le_refl _) (by omega)
    have hp : ch.2.2.2.1[p]? = some ch.2.2.2.1[p] := List.getElem?_eq_getElem p1
    have hqm := List.mem_of_getElem? hp
    obtain ⟨k, hk⟩ : ∃ k, kOf V chs (V ch.2.2.2.1[p].1) = some k := by
      cases e : kOf V chs (V ch.2.2.2.1[p].1) with
      | none => exact absurd e (Y.2.1 ch hcm _ hqm).2
      | some k => exact ⟨k, rfl⟩
    obtain ⟨-, ⟨b1, b2⟩, -⟩ := kO_in Y hin hc hp hk
    by_cases k2 : k < 2
    · obtain ⟨-, -, e3, -⟩ := gate_eq (K := K) (V := V) (chs := chs) k2
      exact ⟨_, _, _, k, ch, p, _, k, hc, hp, hk, Or.inl ⟨k2, rfl, by omega, rfl, rfl, rfl⟩⟩
    · obtain ⟨ck, w1, -, -, -, w5, -⟩ := kid_eq Y hin (kOf_rg hk) (show 2 ≤ k by omega)
      have rkk := rk_lt Y.1 (a := c) (b := k - 2) ⟨ch, _, hc, hqm, by rw [hk, show 2 + (k - 2) = k by omega]⟩
      obtain ⟨j, w, y, k', H⟩ := GP_ex Y hin m (k - 2) (β + kO K V chs ch p) (γ + gO V chs ch p) (n + mD K V chs ch (p + 1)) (g + mH V chs ch (p + 1)) i ck (by omega) w1 p2 (by omega)
      exact ⟨j, w, y, k', ch, p, _, k, hc, hp, hk, Or.inr ⟨by omega, H⟩⟩
/-- ownx bits of chips are no gate's -/
theorem IO_rg (Y : kY K V Z chs) (hin : ∀ ch ∈ chs, ch.2.2.1 < ch.2.1.length) : ∀ (m c β w : Nat), IO K V chs m c β w → β ≤ w ∧ w < β + bAll K V chs c
  | 0, _, _, _, H => False.elim H
  | m + 1, c, β, w, ⟨ch, hc, H⟩ => by
    rcases H with H | ⟨p, q, k, hp, hk, k2, H⟩
    · have := bAll_eq (K := K) Y.1 hc
      omega
    · obtain ⟨⟨a1, a2, a3⟩, -⟩ := kO_in Y hin hc hp hk
      obtain ⟨ck, w1, w2, w3, -⟩ := kid_eq Y hin (kOf_rg hk) k2
      have := IO_rg Y hin m _ _ _ H
      omega
theorem IO_GP (Y : kY K V Z chs) (hin : ∀ ch ∈ chs, ch.2.2.1 < ch.2.1.length) : ∀ (m c β γ n g : Nat) {i j w y k v : Nat}, GP K V chs m c β γ n g i j w y k → IO K V chs m c β v → ¬ v = w + ibt V chs k
  | 0, _, _, _, _, _, _, _, _, _, _, _, H, _ => False.elim H
  | m + 1, c, β, γ, n, g, i, j, w, y, k, v, H, ⟨ch, hc, HI⟩ => by
    intro e
    obtain ⟨ch', p, q, l, hc', hp, hk, H'⟩ := H
    rw [hc] at hc'
    injection hc' with hc'
    subst hc'
    obtain ⟨r1, ⟨r2, r3⟩, -⟩ := GP_rg Y hin (m + 1) c β γ n g i j w y k ch hc ⟨ch, p, q, l, hc, hp, hk, H'⟩
    rcases HI with HI | ⟨p', q', l', hp', hk', k2', HI⟩
    · omega
    · obtain ⟨⟨a1, a2, a3⟩, -⟩ := kO_in Y hin hc hp hk
      obtain ⟨⟨a1', a2', a3'⟩, -⟩ := kO_in Y hin hc hp' hk'
      obtain ⟨ck', w1', w2', w3', -⟩ := kid_eq Y hin (kOf_rg hk') k2'
      have iv := IO_rg Y hin m _ _ _ HI
      have wr : β + kO K V chs ch p ≤ w ∧ w + ibt V chs k < β + kO K V chs ch (p + 1) := by
        obtain ⟨-, -, -, -, e5, -⟩ := gate_eq (K := K) (V := V) (chs := chs) r1
        rcases H' with ⟨k2, rfl, -, -, rfl, -⟩ | ⟨k2, H'⟩
        · obtain ⟨-, e2, -⟩ := gate_eq (K := K) (V := V) (chs := chs) k2
          omega
        · obtain ⟨ck, w1, w2, w3, -⟩ := kid_eq Y hin (kOf_rg hk) k2
          obtain ⟨-, ⟨s2, s3⟩, -⟩ := GP_rg Y hin m _ _ _ _ _ _ _ _ _ _ ck w1 H'
          omega
      have pe : p = p' := by
        rcases Nat.lt_trichotomy p p' with z | z | z
        · have := (kO_le2 (K := K) (V := V) (chs := chs) ch z).1
          omega
        · exact z
        · have := (kO_le2 (K := K) (V := V) (chs := chs) ch z).1
          omega
      subst pe
      rw [hp] at hp'
      injection hp' with hp'
      subst hp'
      rw [hk] at hk'
      injection hk' with hk'
      subst hk'
      rcases H' with ⟨k2, -⟩ | ⟨k2, H'⟩
      · omega
      · exact IO_GP Y hin m _ _ _ _ _ H' HI e
end
