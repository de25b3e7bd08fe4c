/-! CHIPS, 41: the board: the net of a chip, as the component lays it -/
section
variable (K V : Nat → Int) (chs : List cCh)
/-- all bits of a part; its gates -/
def tot (k : Nat) : Nat := if k = 0 then 3 else if k = 1 then 2 else bAll K V chs (k - 2)
def gts (k : Nat) : Nat := if k < 2 then 1 else gAll V chs (k - 2)
/-- where a part's bits begin, behind the chip's ownx; where its gates do -/
def kO (ch : cCh) (p : Nat) : Nat := ownx K V chs ch + bsm V chs (bAll K V chs) (ch.2.2.2.1.take p)
def gO (ch : cCh) (p : Nat) : Nat := gsm V chs (gAll V chs) (ch.2.2.2.1.take p)
def finP (k : Nat) (ch : cCh) (q : Nat × List cLk) : Nat → Option Int := fPl K V chs k ch q.2 (fun _ => none)
/-- what gives the chip's ownx bits -/
def finO (ch : cCh) : List (Nat × List cLk) → Nat → (Nat → Option (Nat × Nat)) → Nat → Option (Nat × Nat)
  | [], _, G => G
  | q :: qs, p, G => finO ch qs (p + 1) (fun x => match kOf V chs (V q.1) with
    | some k => (match fOl K V chs k ch q.2 (fun _ => none) x with | some y => some (p, y) | none => G x)
    | none => G x)
/-- bits of the chip's ownx: those of IN pins come first -/
def inb (ch : cCh) : Nat := wfl (cWs V ch) ch.2.2.1
/-- where ownx bits have their values from -/
def ownF (β : Nat) (ch : cCh) (ps : List (Nat × List cLk)) (S : Nat → Int) : Prop := ∀ x, inb V ch ≤ x → x < ownx K V chs ch → S (β + x) = match finO K V chs ch ps 0 (fun _ => none) x with
  | some (p, y) => ((β + kO K V chs ch p + y : Nat) : Int)
  | none => if x < wsm V ch.2.1 then 0 else ((β + x : Nat) : Int)
/-- where a part's IN bits have their values from -/
def prtF (β ob k : Nat) (ch : cCh) (q : Nat × List cLk) (S : Nat → Int) : Prop := ∀ x, x < ibt V chs k → S (β + x) = match finP K V chs k ch q x with
  | some v => encv 0 1 ob v
  | none => 0
/-- a gate: sources, inputs, output, whether it is a Dff -/
def gatF (β γ k : Nat) (S A B O D : Nat → Int) : Prop := S (β + ibt V chs k) = ((β + ibt V chs k : Nat) : Int) ∧ A γ = (β : Int) ∧ B γ = ((if k = 0 then β + 1 else β : Nat) : Int) ∧ O γ = ((β + ibt V chs k : Nat) : Int) ∧ D γ = (if k = 1 then 1 else 0)
def CN (S A B O D : Nat → Int) : Nat → Nat → Nat → Nat → Prop
  | 0, _, _, _ => True
  | m + 1, c, β, γ => ∀ ch, chs[c]? = some ch → ownF K V chs β ch ch.2.2.2.1 S ∧ ∀ p q k, ch.2.2.2.1[p]? = some q → kOf V chs (V q.1) = some k → prtF K V chs (β + kO K V chs ch p) β k ch q S ∧ (k < 2 → gatF V chs (β + kO K V chs ch p) (γ + gO V chs ch p) k S A B O D) ∧ (2 ≤ k → CN S A B O D m (k - 2) (β + kO K V chs ch p) (γ + gO V chs ch p))
end
section
variable {K V : Nat → Int} {chs : List cCh} {ch : cCh}
theorem kO_n {p : Nat} {q : Nat × List cLk} {k : Nat} (hp : ch.2.2.2.1[p]? = some q) (hk : kOf V chs (V q.1) = some k) : kO K V chs ch (p + 1) = kO K V chs ch p + tot K V chs k ∧ gO V chs ch (p + 1) = gO V chs ch p + gts V chs k := by
  obtain ⟨h1, h2⟩ := List.getElem?_eq_some_iff.1 hp
  unfold kO gO
  rw [List.take_succ_eq_append_getElem h1, bsm_app, gsm_app, h2]
  constructor
  · show ownx K V chs ch + (_ + ((match kOf V chs (V q.1) with | some k => if k = 0 then 3 else if k = 1 then 2 else bAll K V chs (k - 2) | none => 2) + 0)) = _
    rw [hk]; unfold tot; dsimp only; omega
  · show _ + ((match kOf V chs (V q.1) with | some k => if k < 2 then 1 else gAll V chs (k - 2) | none => 1) + 0) = _
    rw [hk]; unfold gts; dsimp only; omega
theorem kO_mono (ch : cCh) {a b : Nat} (h : a ≤ b) : kO K V chs ch a ≤ kO K V chs ch b ∧ gO V chs ch a ≤ gO V chs ch b := by
  unfold kO gO
  have e : ch.2.2.2.1.take b = ch.2.2.2.1.take a ++ (ch.2.2.2.1.take b).drop a := by
    have := List.take_append_drop a (ch.2.2.2.1.take b)
    rw [List.take_take, Nat.min_eq_left h] at this
    exact this.symm
  rw [e, bsm_app, gsm_app]
  omega
theorem kO_end (R : ∀ c, c < chs.length → ¬ rch V chs c c) {c : Nat} (hc : chs[c]? = some ch) : kO K V chs ch ch.2.2.2.1.length = bAll K V chs c ∧ gO V chs ch ch.2.2.2.1.length = gAll V chs c := by
  unfold kO gO
  rw [List.take_of_length_le (Nat.le_refl _)]
  exact ⟨(bAll_eq R hc).symm, (gAll_eq R hc).symm⟩
theorem kO_le (R : ∀ c, c < chs.length → ¬ rch V chs c c) {c : Nat} (hc : chs[c]? = some ch) {p : Nat} {q : Nat × List cLk} {k : Nat} (hp : ch.2.2.2.1[p]? = some q) (hk : kOf V chs (V q.1) = some k) : ownx K V chs ch ≤ kO K V chs ch p ∧ kO K V chs ch p + tot K V chs k ≤ bAll K V chs c ∧ gO V chs ch p + gts V chs k ≤ gAll V chs c := by
  have h1 := (List.getElem?_eq_some_iff.1 hp).1
  have n := kO_n (K := K) (V := V) hp hk
  have m := kO_mono (K := K) (V := V) (chs := chs) ch (show p + 1 ≤ ch.2.2.2.1.length by omega)
  have e := kO_end (K := K) R hc
  refine ⟨by unfold kO; omega, by omega, by omega⟩
/-- the ownx bits lie in all bits -/
theorem pbt_tot (R : ∀ c, c < chs.length → ¬ rch V chs c c) {k : Nat} (hk : k < 2 + chs.length) (hin : ∀ ch ∈ chs, ch.2.2.1 < ch.2.1.length) : pbt V chs k ≤ tot K V chs k ∧ ibt V chs k < pbt V chs k ∧ (2 ≤ k → ∃ ch, chs[k - 2]? = some ch ∧ ownx K V chs ch ≤ tot K V chs k ∧ pbt V chs k = wsm V ch.2.1 ∧ ibt V chs k = inb V ch) := by
  rcases k_cases hk with rfl | rfl | ⟨c, ch, rfl, hc⟩
  · exact ⟨Nat.le_refl _, show 2 < 3 by decide, fun z => by omega⟩
  · exact ⟨Nat.le_refl _, show 1 < 2 by decide, fun z => by omega⟩
  · have t : tot K V chs (2 + c) = bAll K V chs c := by unfold tot; rw [if_neg (by omega), if_neg (by omega), show 2 + c - 2 = c by omega]
    have b := bAll_eq (K := K) R hc
    obtain ⟨p1, p2⟩ := pbt_c (V := V) hc
    have o : wsm V ch.2.1 ≤ ownx K V chs ch := by unfold ownx; omega
    have i1 := hin ch (List.mem_of_getElem? hc)
    have w1 : wfl (cWs V ch) ch.2.2.1 < wsm V ch.2.1 := by
      rw [← wfl_all]
      have m := wfl_mono (cWs V ch) (show ch.2.2.1 + 1 ≤ ch.2.1.length by omega)
      have s : wfl (cWs V ch) (ch.2.2.1 + 1) = wfl (cWs V ch) ch.2.2.1 + ((cWs V ch).getD ch.2.2.1 1).toNat := rfl
      have := getD_rg (l := cWs V ch) (fun w hw => by unfold cWs at hw; obtain ⟨p, -, rfl⟩ := List.mem_map.1 hw; exact c_w_rg V p.2) ch.2.2.1
      omega
    exact ⟨by omega, by omega, fun _ => ⟨ch, by rw [show 2 + c - 2 = c by omega]; exact hc, by omega, p1, p2⟩⟩
/-- rows that agree where the net lies -/
theorem CN_fr (R : ∀ c, c < chs.length → ¬ rch V chs c c) (hin : ∀ ch ∈ chs, ch.2.2.1 < ch.2.1.length) {S A B O D S' A' B' O' D' : Nat → Int} : ∀ (m c β γ : Nat), CN K V chs S A B O D m c β γ → (∀ x, β ≤ x → x < β + bAll K V chs c → S' x = S x) → (∀ x, γ ≤ x → x < γ + gAll V chs c → A' x = A x ∧ B' x = B x ∧ O' x = O x ∧ D' x = D x) → CN K V chs S' A' B' O' D' m c β γ
  | 0, c, β, γ, _, _, _ => trivial
  | m + 1, c, β, γ, H, hS, hG => by
    intro ch hc
    obtain ⟨h1, h2⟩ := H ch hc
    have b := bAll_eq (K := K) R hc
    refine ⟨fun x hx1 hx2 => by rw [hS _ (by omega) (by omega)]; exact h1 x hx1 hx2, fun p q k hp hk => ?_⟩
    obtain ⟨g1, g2, g3⟩ := h2 p q k hp hk
    obtain ⟨l1, l2, l3⟩ := kO_le (K := K) R hc hp hk
    have hkl := kOf_rg hk
    obtain ⟨t1, t2, t3⟩ := pbt_tot (K := K) R hkl hin
    refine ⟨fun x hx => by rw [hS _ (by omega) (by omega)]; exact g1 x hx, fun k2 => ?_, fun k2 => ?_⟩
    · obtain ⟨a1, a2, a3, a4, a5⟩ := g2 k2
      have gt : gts V chs k = 1 := by unfold gts; rw [if_pos k2]
      obtain ⟨e1, e2, e3, e4⟩ := hG (γ + gO V chs ch p) (by omega) (by omega)
      exact ⟨by rw [hS _ (by omega) (by omega)]; exact a1, by rw [e1]; exact a2, by rw [e2]; exact a3, by rw [e3]; exact a4, by rw [e4]; exact a5⟩
    · have tt : tot K V chs k = bAll K V chs (k - 2) := by unfold tot; rw [if_neg (by omega), if_neg (by omega)]
      have gt : gts V chs k = gAll V chs (k - 2) := by unfold gts; rw [if_neg (by omega)]
      exact CN_fr R hin m _ _ _ (g3 k2) (fun x hx1 hx2 => hS x (by omega) (by omega)) (fun x hx1 hx2 => hG x (by omega) (by omega))
theorem finO_app : ∀ (a b : List (Nat × List cLk)) (p : Nat) (G : Nat → Option (Nat × Nat)), finO K V chs ch (a ++ b) p G = finO K V chs ch b (p + a.length) (finO K V chs ch a p G)
  | [], b, p, G => rfl
  | q :: a, b, p, G => by
    show finO K V chs ch (a ++ b) (p + 1) _ = finO K V chs ch b (p + (a.length + 1)) (finO K V chs ch a (p + 1) _)
    rw [finO_app a b, show p + 1 + a.length = p + (a.length + 1) by omega]
end
