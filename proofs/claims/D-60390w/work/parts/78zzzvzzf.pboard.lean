/-! CHIPS, 58: the board: both nets, plain; orders agree, values agree -/
def vM (M : Nat → Int) (s : Int) : Int := if s = -2 then 1 else if s < 0 then 0 else M s.toNat
def fC (ra rb : Nat → Nat) (i : Nat) (S : Nat → Int) : Int := if S (ra i) = 0 then 1 else if S (rb i) = 0 then 1 else 0
def fN (sa sb : Nat → Int) (j : Nat) (M : Nat → Int) : Int := 1 - vM M (sa j) * vM M (sb j)
section
variable (Bt G ib : Nat) (D Gb Q : Nat → Int) (o ra rb oM : Nat → Nat) (sa sb : Nat → Int) (R : Nat → Nat → Prop) (zc zm : Nat → Prop)
/-- a root wire of the component, a source of the model -/
def rrx (r : Nat) (s : Int) : Prop := (r = 1 ∧ s = -2) ∨ (∃ x, x < ib ∧ r = 2 + x ∧ s = (x : Int)) ∨ (zc r ∧ ∃ y : Nat, s = (y : Int) ∧ zm y) ∨ ∃ i j, R i j ∧ r = o i ∧ s = (oM j : Int)
def PB : Prop := (G ≤ 1500 ∧ Bt ≤ 40000 ∧ ib ≤ Bt) ∧ (∀ i j, R i j → (i < G ∧ j < G ∧ D i = Q j ∧ (D i = 0 ∨ D i = 1)) ∧ rrx ib o oM R zc zm (ra i) (sa j) ∧ (D i = 0 → rrx ib o oM R zc zm (rb i) (sb j)) ∧ (D i ≠ 0 → sb j = -1)) ∧ ((∀ i, i < G → ∃ j, R i j) ∧ (∀ j, j < G → ∃ i, R i j) ∧ (∀ i i' j, R i j → R i' j → i = i') ∧ ∀ i j j', R i j → R i j' → j = j') ∧ (∀ i, i < G → 2 + ib ≤ o i ∧ o i < 2 + Bt ∧ ¬ zc (o i)) ∧ (∀ j, j < G → ib ≤ oM j ∧ oM j < Bt ∧ Gb (oM j) = ((j + 1 : Nat) : Int)) ∧ ((∀ i i', i < G → i' < G → o i = o i' → i = i') ∧ ∀ j j', j < G → j' < G → oM j = oM j' → j = j') ∧ (∀ r, zc r → r = 0 ∨ 2 + ib ≤ r ∧ r < 2 + Bt) ∧ (∀ y, zm y → ib ≤ y ∧ y < Bt ∧ Gb y = 0) ∧ ∀ x, x < ib → Gb x = 0
/-- values on both sides -/
def VRx (S M : Nat → Int) : Prop := (S 0 = 0 ∧ S 1 = 1 ∧ ∀ x, x < ib → S (2 + x) = M x) ∧ (∀ i j, R i j → S (o i) = M (oM j)) ∧ (∀ r, zc r → S r = 0) ∧ (∀ y, zm y → M y = 0) ∧ (∀ r, r < 2 + Bt → S r = 0 ∨ S r = 1) ∧ ∀ y, y < Bt → M y = 0 ∨ M y = 1
end
section
variable {Bt G ib : Nat} {D Gb Q : Nat → Int} {o ra rb oM : Nat → Nat} {sa sb : Nat → Int} {R : Nat → Nat → Prop} {zc zm : Nat → Prop}
theorem rr_v {S M : Nat → Int} {r : Nat} {s : Int} (H : rrx ib o oM R zc zm r s) (h01 : S 1 = 1) (hib : ∀ x, x < ib → S (2 + x) = M x) (hg : ∀ i j, R i j → r = o i → S (o i) = M (oM j)) (hc : ∀ r, zc r → S r = 0) (hm : ∀ y, zm y → M y = 0) : S r = vM M s := by
  unfold vM
  rcases H with ⟨rfl, rfl⟩ | ⟨x, x1, rfl, rfl⟩ | ⟨z1, y, rfl, z2⟩ | ⟨i, j, g1, rfl, rfl⟩
  · rw [if_pos rfl, h01]
  · rw [if_neg (by omega), if_neg (by omega), Int.toNat_natCast]; exact hib x x1
  · rw [if_neg (by omega), if_neg (by omega), Int.toNat_natCast, hc r z1, hm y z2]
  · rw [if_neg (by omega), if_neg (by omega), Int.toNat_natCast]; exact hg i j g1 rfl
/-- what stands behind an input, on both sides -/
theorem rr_o (P : PB Bt G ib D Gb Q o ra rb oM sa sb R zc zm) {r : Nat} {s : Int} (H : rrx ib o oM R zc zm r s) : pOf G (fun i => D i = 0) o r = none ∧ mOf Gb Q s = none ∨ ∃ a b, pOf G (fun i => D i = 0) o r = some a ∧ mOf Gb Q s = some b ∧ R a b := by
  obtain ⟨-, P2, -, P4, P5, P6, P7, P8, P9⟩ := P
  have nn : (∀ i, i < G → D i = 0 → r ≠ o i) → pOf G (fun i => D i = 0) o r = none := fun z => by
    cases e : pOf G (fun i => D i = 0) o r with
    | none => rfl
    | some a => obtain ⟨e1, e2, e3⟩ := pOf_some e; exact absurd e3.symm (z a e1 e2)
  have nm : ∀ y : Nat, s = (y : Int) → Gb y = 0 → mOf Gb Q s = none := fun y e1 e2 => by
    unfold mOf; rw [if_neg]
    rw [e1, Int.toNat_natCast]; exact fun z => z.2.1 e2
  rcases H with ⟨rfl, rfl⟩ | ⟨x, x1, rfl, rfl⟩ | ⟨z1, y, rfl, z2⟩ | ⟨i, j, g1, rfl, rfl⟩
  · exact Or.inl ⟨nn (fun i hi _ e => by have := (P4 i hi).1; omega), by unfold mOf; rw [if_neg (fun z => by omega)]⟩
  · exact Or.inl ⟨nn (fun i hi _ e => by have := (P4 i hi).1; omega), nm x rfl (P9 x x1)⟩
  · exact Or.inl ⟨nn (fun i hi _ e => (P4 i hi).2.2 (e ▸ z1)), nm y rfl (P8 y z2).2.2⟩
  · obtain ⟨⟨i1, j1, dq, d01⟩, -⟩ := P2 i j g1
    have gj := (P5 j j1).2.2
    by_cases c : D i = 0
    · right
      refine ⟨i, j, ?_, ?_, g1⟩
      · cases e : pOf G (fun i => D i = 0) o (o i) with
        | none => exact absurd rfl (pOf_none e i i1 c)
        | some a => obtain ⟨e1, e2, e3⟩ := pOf_some e; rw [P6.1 a i e1 i1 e3]
      · unfold mOf
        rw [Int.toNat_natCast, gj, show (((j + 1 : Nat) : Int) - 1).toNat = j by omega, if_pos ⟨by omega, by omega, by rw [← dq]; exact c⟩]
    · left
      refine ⟨nn (fun i' h1 h2 e => c (by rw [P6.1 i i' i1 h1 e]; exact h2)), ?_⟩
      unfold mOf
      rw [Int.toNat_natCast, gj, show (((j + 1 : Nat) : Int) - 1).toNat = j by omega, if_neg (fun z => c (by rw [dq]; exact z.2.2))]
/-- the orders agree -/
theorem pb_lev (P : PB Bt G ib D Gb Q o ra rb oM sa sb R zc zm) {ord ord' : List Nat} {lev lev' : Nat → Int} (H : OD G (fun i => D i = 0) (fun i => pOf G (fun i => D i = 0) o (ra i)) (fun i => pOf G (fun i => D i = 0) o (rb i)) ord lev) (C : CLO G (fun i => D i = 0) (fun i => pOf G (fun i => D i = 0) o (ra i)) (fun i => pOf G (fun i => D i = 0) o (rb i)) lev) (H' : OD G (fun i => Q i = 0) (fun i => mOf Gb Q (sa i)) (fun i => mOf Gb Q (sb i)) ord' lev') (C' : CLO G (fun i => Q i = 0) (fun i => mOf Gb Q (sa i)) (fun i => mOf Gb Q (sb i)) lev') : ∀ i j, R i j → lev i = lev' j := by
  intro i j hr
  refine OD_eq R H H' C C' (fun i j r => ?_) hr
  obtain ⟨⟨a1, a2, a3, a4⟩, b1, b2, b3⟩ := P.2.1 i j r
  refine ⟨⟨a1, a2, by show D i = 0 ↔ Q j = 0; rw [a3]⟩, fun o1 o2 z n => ?_⟩
  rcases z with ⟨rfl, rfl⟩ | ⟨rfl, rfl⟩
  · exact rr_o P b1
  · exact rr_o P (b2 n)
theorem pb_ord (P : PB Bt G ib D Gb Q o ra rb oM sa sb R zc zm) {ord ord' : List Nat} {lev lev' : Nat → Int} {pa pb pa' pb' : Nat → Option Nat} (H : OD G (fun i => D i = 0) pa pb ord lev) (H' : OD G (fun i => Q i = 0) pa' pb' ord' lev') (E : ∀ i j, R i j → lev i = lev' j) : (∀ i j, R i j → (i ∈ ord ↔ j ∈ ord')) ∧ ord.length = ord'.length ∧ cz D G = cz Q G := by
  obtain ⟨-, P2, ⟨t1, t2, u1, u2⟩, -⟩ := P
  have m : ∀ i j, R i j → (i ∈ ord ↔ j ∈ ord') := fun i j r => by rw [← H.2.2.1 i, ← H'.2.2.1 j, E i j r]
  refine ⟨m, Nat.le_antisymm ?_ ?_, ?_⟩
  · exact rel_len (R := R) ord ord' H.1 (fun i hi => by obtain ⟨j, r⟩ := t1 i (H.2.1 i hi).1; exact ⟨j, (m i j r).1 hi, r⟩) u1
  · exact rel_len (R := fun a b => R b a) ord' ord H'.1 (fun j hj => by obtain ⟨i, r⟩ := t2 j (H'.2.1 j hj).1; exact ⟨i, (m i j r).2 hj, r⟩) (fun i i' j r r' => u2 j i i' r r')
  · have cl : ∀ (g : Nat → Int) (n : Nat), cz g n = ((List.range n).filter (fun i => decide (g i = 0))).length := by
      intro g n
      induction n with
      | zero => rfl
      | succ n ih =>
        rw [List.range_succ, List.filter_append, List.length_append, ← ih]
        show cz g n + (if g n = 0 then 1 else 0) = _
        by_cases c : g n = 0
        · rw [if_pos c]; simp [c]
        · rw [if_neg c]; simp [c]
    rw [cl, cl]
    have nd : ∀ g : Nat → Int, ((List.range G).filter (fun i => decide (g i = 0))).Nodup := fun g => List.Sublist.nodup (List.filter_sublist) List.nodup_range
    have mm : ∀ (g : Nat → Int) (i : Nat), i ∈ (List.range G).filter (fun i => decide (g i = 0)) ↔ i < G ∧ g i = 0 := fun g i => by simp [List.mem_filter]
    refine Nat.le_antisymm ?_ ?_
    · refine rel_len (R := R) _ _ (nd D) (fun i hi => ?_) u1
      obtain ⟨z1, z2⟩ := (mm D i).1 hi
      obtain ⟨j, r⟩ := t1 i z1
      obtain ⟨⟨-, a2, a3, -⟩, -⟩ := P2 i j r
      exact ⟨j, (mm Q j).2 ⟨a2, by rw [← a3]; exact z2⟩, r⟩
    · refine rel_len (R := fun a b => R b a) _ _ (nd Q) (fun j hj => ?_) (fun i i' j r r' => u2 j i i' r r')
      obtain ⟨z1, z2⟩ := (mm Q j).1 hj
      obtain ⟨i, r⟩ := t2 j z1
      obtain ⟨⟨a1, -, a3, -⟩, -⟩ := P2 i j r
      exact ⟨i, (mm D i).2 ⟨a1, by rw [a3]; exact z2⟩, r⟩
end
/-- an order is good for giving values in turn -/
theorem TOP_of {G : Nat} {nd : Nat → Prop} {pa pb : Nat → Option Nat} {ord : List Nat} {lev : Nat → Int} {o : Nat → Nat} {f : Nat → (Nat → Int) → Int} (H : OD G nd pa pb ord lev) (hi : ∀ a b, a ∈ ord → b ∈ ord → o a = o b → a = b) (hd : ∀ i ∈ ord, ∀ S S' : Nat → Int, (∀ x, (∀ a ∈ ord, x = o a → pa i = some a ∨ pb i = some a) → S x = S' x) → f i S = f i S') : ∀ (l pre : List Nat), ord = pre ++ l → TOP o f l
  | [], _, _ => trivial
  | i :: l, pre, e => by
    have nn := H.1
    rw [e, List.nodup_append] at nn
    obtain ⟨n1, n2, n3⟩ := nn
    rw [List.nodup_cons] at n2
    have im : i ∈ ord := by rw [e]; exact List.mem_append.2 (Or.inr (List.mem_cons_self ..))
    have lm : ∀ a, a ∈ l → a ∈ ord := fun a ha => by rw [e]; exact List.mem_append.2 (Or.inr (List.mem_cons_of_mem _ ha))
    have it : ord[pre.length]? = some i := by rw [e, List.getElem?_append_right (Nat.le_refl _), Nat.sub_self]; rfl
    refine ⟨fun a ha z => n2.1 (by rw [← hi a i (lm a ha) im z]; exact ha), fun S S' h => hd i im S S' (fun x hx => h x (fun a ha z => ?_)), TOP_of H hi hd l (pre ++ [i]) (by rw [e, List.append_assoc]; rfl)⟩
    have am : a ∈ ord := by rw [e]; exact List.mem_append.2 (Or.inr ha)
    have := (H.2.2.2.1 _ i it).1 a (hx a am z)
    rw [e, List.take_append_of_le_length (Nat.le_refl _), List.take_length] at this
    exact n3 a this a ha rfl
theorem stl_01 {o : Nat → Nat} {f : Nat → (Nat → Int) → Int} {B : Nat} : ∀ (l : List Nat) {S : Nat → Int}, (∀ i ∈ l, ∀ S : Nat → Int, (∀ x, x < B → S x = 0 ∨ S x = 1) → f i S = 0 ∨ f i S = 1) → (∀ x, x < B → S x = 0 ∨ S x = 1) → ∀ x, x < B → stl o f l S x = 0 ∨ stl o f l S x = 1
  | [], S, _, h, x, hx => h x hx
  | i :: l, S, hf, h, x, hx => by
    show stl o f l (p_set S (o i) (f i S)) x = 0 ∨ _
    refine stl_01 l (fun a ha => hf a (List.mem_cons_of_mem _ ha)) (fun y hy => ?_) x hx
    unfold p_set
    by_cases e : y = o i
    · rw [if_pos e]; exact hf i (List.mem_cons_self ..) S h
    · rw [if_neg e]; exact h y hy
section
variable {Bt G ib : Nat} {D Gb Q : Nat → Int} {o ra rb oM : Nat → Nat} {sa sb : Nat → Int} {R : Nat → Nat → Prop} {zc zm : Nat → Prop}
theorem rr_s (P : PB Bt G ib D Gb Q o ra rb oM sa sb R zc zm) {r : Nat} {s : Int} (H : rrx ib o oM R zc zm r s) : (r < 2 + Bt) ∧ s < (Bt : Int) ∧ (0 ≤ s → 0 ≤ Gb s.toNat ∧ Gb s.toNat ≤ (G : Int)) := by
  obtain ⟨P1, P2, -, P4, P5, -, P7, P8, P9⟩ := P
  rcases H with ⟨rfl, rfl⟩ | ⟨x, x1, rfl, rfl⟩ | ⟨z1, y, rfl, z2⟩ | ⟨i, j, g1, rfl, rfl⟩
  · exact ⟨by omega, by omega, fun z => by omega⟩
  · refine ⟨by omega, by omega, fun _ => ?_⟩
    rw [Int.toNat_natCast, P9 x x1]; omega
  · have := P8 y z2
    refine ⟨by have := P7 r z1; omega, by omega, fun _ => ?_⟩
    rw [Int.toNat_natCast, this.2.2]; omega
  · obtain ⟨⟨a1, a2, -⟩, -⟩ := P2 i j g1
    have p5 := P5 j a2
    refine ⟨(P4 i a1).2.1, by omega, fun _ => ?_⟩
    rw [Int.toNat_natCast, p5.2.2]; omega
/-- settling keeps the values alike -/
theorem pb_set (P : PB Bt G ib D Gb Q o ra rb oM sa sb R zc zm) {ord ord' : List Nat} {lev lev' : Nat → Int} (H : OD G (fun i => D i = 0) (fun i => pOf G (fun i => D i = 0) o (ra i)) (fun i => pOf G (fun i => D i = 0) o (rb i)) ord lev) (H' : OD G (fun i => Q i = 0) (fun i => mOf Gb Q (sa i)) (fun i => mOf Gb Q (sb i)) ord' lev') (E : ∀ i j, R i j → (i ∈ ord ↔ j ∈ ord')) {S M : Nat → Int} (v : VRx Bt ib o oM R zc zm S M) : VRx Bt ib o oM R zc zm (stl o (fC ra rb) ord S) (stl oM (fN sa sb) ord' M) := by
  have P' := P
  obtain ⟨P1, P2, ⟨t1, t2, u1, u2⟩, P4, P5, ⟨P6, P6'⟩, P7, P8, P9⟩ := P
  obtain ⟨⟨v0, v1, v2⟩, v3, v4, v5, v6, v7⟩ := v
  have T : TOP o (fC ra rb) ord := by
    refine TOP_of H (fun a b ha hb e => P6 a b (H.2.1 a ha).1 (H.2.1 b hb).1 e) (fun i hi S S' h => ?_) ord [] rfl
    have key : ∀ w, (∀ a ∈ ord, w = o a → pOf G (fun i => D i = 0) o w = some a) := fun w a ha e => by
      cases c : pOf G (fun i => D i = 0) o w with
      | none => exact absurd e (pOf_none c a (H.2.1 a ha).1 (H.2.1 a ha).2)
      | some b => obtain ⟨c1, c2, c3⟩ := pOf_some c; rw [P6 b a c1 (H.2.1 a ha).1 (by rw [c3, e])]
    unfold fC
    rw [h (ra i) (fun a ha e => Or.inl (key _ a ha e)), h (rb i) (fun a ha e => Or.inr (key _ a ha e))]
  have T' : TOP oM (fN sa sb) ord' := by
    refine TOP_of H' (fun a b ha hb e => P6' a b (H'.2.1 a ha).1 (H'.2.1 b hb).1 e) (fun i hi S S' h => ?_) ord' [] rfl
    have key : ∀ s : Int, 0 ≤ s → (∀ a ∈ ord', s.toNat = oM a → mOf Gb Q s = some a) := fun s s0 a ha e => by
      have g := (P5 a (H'.2.1 a ha).1).2.2
      unfold mOf
      rw [e, g, show (((a + 1 : Nat) : Int) - 1).toNat = a by omega, if_pos ⟨s0, by omega, (H'.2.1 a ha).2⟩]
    have vv : ∀ s : Int, (0 ≤ s → S s.toNat = S' s.toNat) → vM S s = vM S' s := fun s z => by
      unfold vM
      by_cases c : s = -2
      · rw [if_pos c, if_pos c]
      · rw [if_neg c, if_neg c]
        by_cases c2 : s < 0
        · rw [if_pos c2, if_pos c2]
        · rw [if_neg c2, if_neg c2]; exact z (by omega)
    unfold fN
    rw [vv (sa i) (fun s0 => h _ (fun a ha e => Or.inl (key _ s0 a ha e))), vv (sb i) (fun s0 => h _ (fun a ha e => Or.inr (key _ s0 a ha e)))]
  have no : ∀ r, (∀ i, i < G → D i = 0 → r ≠ o i) → stl o (fC ra rb) ord S r = S r := fun r z => stl_o ord (fun a ha => z a (H.2.1 a ha).1 (H.2.1 a ha).2)
  have no' : ∀ y, (∀ j, j < G → Q j = 0 → y ≠ oM j) → stl oM (fN sa sb) ord' M y = M y := fun y z => stl_o ord' (fun a ha => z a (H'.2.1 a ha).1 (H'.2.1 a ha).2)
  have w0 : stl o (fC ra rb) ord S 0 = 0 := by rw [no 0 (fun i hi _ e => by have := (P4 i hi).1; omega)]; exact v0
  have w1 : stl o (fC ra rb) ord S 1 = 1 := by rw [no 1 (fun i hi _ e => by have := (P4 i hi).1; omega)]; exact v1
  have w2 : ∀ x, x < ib → stl o (fC ra rb) ord S (2 + x) = stl oM (fN sa sb) ord' M x := fun x hx => by
    rw [no (2 + x) (fun i hi _ e => by have := (P4 i hi).1; omega), no' x (fun j hj _ e => by have := (P5 j hj).1; omega)]; exact v2 x hx
  have w4 : ∀ r, zc r → stl o (fC ra rb) ord S r = 0 := fun r z => by
    rw [no r (fun i hi _ e => (P4 i hi).2.2 (e ▸ z))]; exact v4 r z
  have w5 : ∀ y, zm y → stl oM (fN sa sb) ord' M y = 0 := fun y z => by
    rw [no' y (fun j hj _ e => by have a := (P5 j hj).2.2; have b := (P8 y z).2.2; rw [← e, b] at a; omega)]; exact v5 y z
  have w6 : ∀ r, r < 2 + Bt → stl o (fC ra rb) ord S r = 0 ∨ stl o (fC ra rb) ord S r = 1 := stl_01 ord (fun i _ S _ => by
    unfold fC
    by_cases c : S (ra i) = 0
    · rw [if_pos c]; exact Or.inr rfl
    · rw [if_neg c]
      by_cases c2 : S (rb i) = 0
      · rw [if_pos c2]; exact Or.inr rfl
      · rw [if_neg c2]; exact Or.inl rfl) v6
  have v01 : ∀ {M : Nat → Int} {s : Int}, (∀ x, x < Bt → M x = 0 ∨ M x = 1) → s < (Bt : Int) → vM M s = 0 ∨ vM M s = 1 := fun {M s} z1 z2 => by
    unfold vM
    by_cases c : s = -2
    · rw [if_pos c]; exact Or.inr rfl
    · rw [if_neg c]
      by_cases c2 : s < 0
      · rw [if_pos c2]; exact Or.inl rfl
      · rw [if_neg c2]; exact z1 _ (by omega)
  have w7 : ∀ y, y < Bt → stl oM (fN sa sb) ord' M y = 0 ∨ stl oM (fN sa sb) ord' M y = 1 := stl_01 ord' (fun j hj M hM => by
    obtain ⟨j1, j2⟩ := H'.2.1 j hj
    obtain ⟨i, r⟩ := t2 j j1
    obtain ⟨⟨-, -, dq, -⟩, a1, a2, -⟩ := P2 i j r
    unfold fN
    rcases v01 hM (rr_s P' a1).2.1 with z | z <;> rcases v01 hM (rr_s P' (a2 (by rw [dq]; exact j2))).2.1 with z' | z' <;> rw [z, z'] <;> first | exact Or.inr rfl | exact Or.inl rfl) v7
  have key : ∀ (N t i j : Nat), t < N → ord[t]? = some i → R i j → stl o (fC ra rb) ord S (o i) = stl oM (fN sa sb) ord' M (oM j) := by
    intro N
    induction N with
    | zero => intro t i j ht; omega
    | succ N ih =>
      intro t i j ht hi r
      have im := List.mem_of_getElem? hi
      have jm := (E i j r).1 im
      have dz : D i = 0 := (H.2.1 i im).2
      obtain ⟨⟨i1, j1, dq, -⟩, a1, a2, -⟩ := P2 i j r
      have tp := (H.2.2.2.1 t i hi).1
      have val : ∀ r s, rrx ib o oM R zc zm r s → (pOf G (fun i => D i = 0) o r = pOf G (fun i => D i = 0) o (ra i) ∨ pOf G (fun i => D i = 0) o r = pOf G (fun i => D i = 0) o (rb i)) → stl o (fC ra rb) ord S r = vM (stl oM (fN sa sb) ord' M) s := fun w s q1 q2 => by
        refine rr_v q1 w1 w2 (fun a b rab e => ?_) w4 w5
        obtain ⟨⟨h1, h2, h3, h4⟩, -⟩ := P2 a b rab
        by_cases da : D a = 0
        · have pe : pOf G (fun i => D i = 0) o w = some a := by
            cases c : pOf G (fun i => D i = 0) o w with
            | none => exact absurd e (pOf_none c a h1 da)
            | some b => obtain ⟨c1, c2, c3⟩ := pOf_some c; rw [P6 b a c1 h1 (by rw [c3, e])]
          have am : a ∈ ord.take t := tp a (q2.imp (fun z => z.symm.trans pe) (fun z => z.symm.trans pe))
          obtain ⟨s', hs', hsa⟩ := List.getElem_of_mem am
          rw [List.length_take] at hs'
          have hsa' : ord[s']? = some a := by
            rw [← hsa, List.getElem_take]; exact List.getElem?_eq_getElem (by omega)
          exact ih s' a b (by omega) hsa' rab
        · rw [no (o a) (fun i' hi' hd' e' => da (by rw [P6 a i' h1 hi' e']; exact hd')), no' (oM b) (fun j' hj' hd' e' => da (by rw [h3, P6' b j' h2 hj' e']; exact hd'))]
          exact v3 a b rab
      rw [stl_fix ord T i im, stl_fix ord' T' j jm]
      have x1 := val _ _ a1 (Or.inl rfl)
      have x2 := val _ _ (a2 dz) (Or.inr rfl)
      have b1 := w6 (ra i) (rr_s P' a1).1
      have b2 := w6 (rb i) (rr_s P' (a2 dz)).1
      show (if stl o (fC ra rb) ord S (ra i) = 0 then 1 else if stl o (fC ra rb) ord S (rb i) = 0 then 1 else 0) = 1 - vM (stl oM (fN sa sb) ord' M) (sa j) * vM (stl oM (fN sa sb) ord' M) (sb j)
      rw [← x1, ← x2]
      rcases b1 with z | z <;> rcases b2 with z' | z' <;> rw [z, z'] <;> rfl
  refine ⟨⟨w0, w1, w2⟩, fun i j r => ?_, w4, w5, w6, w7⟩
  by_cases im : i ∈ ord
  · obtain ⟨s', hs', hsa⟩ := List.getElem_of_mem im
    exact key (s' + 1) s' i j (by omega) (by rw [← hsa]; exact List.getElem?_eq_getElem hs') r
  · have jm : j ∉ ord' := fun z => im ((E i j r).2 z)
    obtain ⟨⟨i1, j1, -⟩, -⟩ := P2 i j r
    rw [stl_o ord (fun a ha e => im (by rw [P6 i a i1 (H.2.1 a ha).1 e]; exact ha)), stl_o ord' (fun a ha e => jm (by rw [P6' j a j1 (H'.2.1 a ha).1 e]; exact ha))]
    exact v3 i j r
end
