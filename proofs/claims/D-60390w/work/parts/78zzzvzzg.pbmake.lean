/-! CHIPS, 59: the board: both nets belong together -/
section
variable {K V : Nat → Int} {Z : Nat} {chs : List cCh} {ch : cCh} {c : Nat}
theorem SD_un {F G : Nat → Int} : ∀ (N N' : Nat) {b s s' : Int}, SD F G N b s → SD F G N' b s' → s = s'
  | 0, 0, b, s, s', ⟨h, _⟩, ⟨h', _⟩ => by rw [h, h']
  | 0, N' + 1, b, s, s', ⟨_, _, h3⟩, ⟨q1, q2, q3, q4, _⟩ => by
    rcases h3 with z | ⟨_, z | z⟩
    · omega
    · exact absurd q3 z
    · exact absurd z.2 q4
  | N + 1, 0, b, s, s', ⟨q1, q2, q3, q4, _⟩, ⟨_, _, h3⟩ => by
    rcases h3 with z | ⟨_, z | z⟩
    · omega
    · exact absurd q3 z
    · exact absurd z.2 q4
  | N + 1, N' + 1, b, s, s', ⟨_, _, _, _, q⟩, ⟨_, _, _, _, q'⟩ => SD_un N N' q q'
theorem pb_mk (Y : kY K V Z chs) (LK : kL K V chs) (hin : ∀ ch ∈ chs, ch.2.2.1 < ch.2.1.length) (hc : chs[c]? = some ch) (hG : gAll V chs c ≤ 1500) (hB : bAll K V chs c ≤ 40000) {S A B O D F Gb Q I : Nat → Int} (CNn : CN K V chs S A B O D 16 c 2 0) (S0 : S 0 = 0) (S1 : S 1 = 1) (SI : ∀ x, x < inb V ch → S (2 + x) = ((2 + x : Nat) : Int)) (MNn : MN K V chs F Gb Q I 16 c 0 (ownx K V chs ch) 0) (FI : ∀ x, x < inb V ch → F x = -1) :
    ∃ (o ra rb oM : Nat → Nat) (sa sb : Nat → Int) (R : Nat → Nat → Prop) (zc zm : Nat → Prop), PB (bAll K V chs c) (gAll V chs c) (inb V ch) D Gb Q o ra rb oM sa sb R zc zm ∧ cGt (gAll V chs c) (2 + bAll K V chs c) S A B O D o ra rb ∧ mGt (gAll V chs c) F Gb Q I sa sb ∧ (∀ x, inb V ch ≤ x → x < ownx K V chs ch → ∃ N N' r s, FD S (2 + bAll K V chs c) N (2 + x) r ∧ SD F Gb N' (x : Int) s ∧ rrx (inb V ch) o oM R zc zm r s) ∧ (∀ j, j < gAll V chs c → oM j = (I j).toNat + (if Q j = 0 then 2 else 1)) ∧ (∀ r, zc r ↔ r = 0 ∨ IO K V chs 16 c 2 r ∧ 2 + inb V ch ≤ r) ∧ (∀ y, zm y ↔ Gb y = 0 ∧ inb V ch ≤ y ∧ y < bAll K V chs c) := by
  have hcl := (List.getElem?_eq_some_iff.1 hc).1
  have hcm := List.mem_of_getElem? hc
  have hrk : rkx V chs c < 16 := by have := rk_rg Y.1 hcl; have := Y.2.2.2.2.2; omega
  obtain ⟨me1, me2⟩ := mO_end (K := K) Y.1 hin hc (fun q hq => (Y.2.1 ch hcm q hq).2)
  have io := inb_own (K := K) (V := V) (chs := chs) (hin ch hcm)
  have GI : ∀ x, x < ownx K V chs ch → Gb x = 0 := fun x hx => by have := (MNn ch hc).2.1 x hx; rwa [Nat.zero_add] at this
  have IN : ∀ x, x < inb V ch → RS K V chs S F Gb (2 + bAll K V chs c) (bAll K V chs c) (inb V ch) (ownx K V chs ch) c (2 + x) (0 + x) := fun x hx => by
    rw [Nat.zero_add]
    exact ⟨0, 0, 2 + x, (x : Int), ⟨by omega, SI x hx, rfl⟩, ⟨rfl, by omega, Or.inr ⟨by omega, Or.inr (by rw [Int.toNat_natCast]; exact ⟨GI x (by omega), FI x hx⟩)⟩⟩, Or.inr (Or.inl ⟨x, hx, rfl, rfl⟩)⟩
  have UP := lock_up (W := 2 + bAll K V chs c) (hi := bAll K V chs c) (ib := inb V ch) (n0 := ownx K V chs ch) (c0 := c) Y LK hin hB S0 S1 16 c 2 0 0 (ownx K V chs ch) 0 ch hrk hc (Nat.le_refl _) (Nat.le_refl _) (by omega) (by omega) (by omega) (Nat.le_refl _) CNn MNn (fun _ _ _ _ _ H => H) (fun _ H => H) IN
  have DOWN := lock_down (W := 2 + bAll K V chs c) (hi := bAll K V chs c) Y LK hin hB S0 16 c 2 0 0 (ownx K V chs ch) 0 ch hrk hc (Nat.le_refl _) (Nat.le_refl _) (by omega) (by omega) CNn MNn
  obtain ⟨R, eR⟩ : ∃ R : Nat → Nat → Prop, R = fun i j => ∃ w y k, GP K V chs 16 c 2 0 (ownx K V chs ch) 0 i j w y k := ⟨_, rfl⟩
  have rg : ∀ {i j w y k : Nat}, GP K V chs 16 c 2 0 (ownx K V chs ch) 0 i j w y k → k < 2 ∧ (2 + ownx K V chs ch ≤ w ∧ w + pbt V chs k ≤ 2 + bAll K V chs c) ∧ (0 ≤ i ∧ i < 0 + gAll V chs c) ∧ (0 ≤ j ∧ j < 0 + mH V chs ch 0) ∧ ownx K V chs ch ≤ y ∧ y + pbt V chs k ≤ ownx K V chs ch + mD K V chs ch 0 := fun H => GP_rg Y hin 16 c 2 0 _ 0 _ _ _ _ _ ch hc H
  have gC := fun {i j w y k : Nat} (H : GP K V chs 16 c 2 0 (ownx K V chs ch) 0 i j w y k) => GP_C 16 c 2 0 _ 0 CNn H
  have gM := fun {i j w y k : Nat} (H : GP K V chs 16 c 2 0 (ownx K V chs ch) 0 i j w y k) => GP_M 16 c 2 0 0 _ 0 MNn H
  have ex1 : ∀ i, i < gAll V chs c → ∃ j w y k, GP K V chs 16 c 2 0 (ownx K V chs ch) 0 i j w y k := fun i hi => GP_ex Y hin 16 c 2 0 _ 0 i ch hrk hc (Nat.zero_le _) (by omega)
  have un := fun {i j w y k i' j' w' y' k' : Nat} => GP_un (K := K) (V := V) (chs := chs) Y hin 16 c 2 0 (ownx K V chs ch) 0 (i := i) (j := j) (w := w) (y := y) (k := k) (i' := i') (j' := j') (w' := w') (y' := y') (k' := k')
  have ex2 : ∀ j, j < gAll V chs c → ∃ i w y k, GP K V chs 16 c 2 0 (ownx K V chs ch) 0 i j w y k := fun j hj => by
    refine Classical.byContradiction (fun no => ?_)
    have := rel_len (R := fun i j => ∃ w y k, GP K V chs 16 c 2 0 (ownx K V chs ch) 0 i j w y k) (List.range (gAll V chs c)) ((List.range (gAll V chs c)).erase j) List.nodup_range (fun i hi => by
      obtain ⟨j', w, y, k, H⟩ := ex1 i (List.mem_range.1 hi)
      have jr := (rg H).2.2.2.1
      refine ⟨j', (List.mem_erase_of_ne (fun (e : j' = j) => no ⟨i, w, y, k, e ▸ H⟩)).2 (List.mem_range.2 (by omega)), w, y, k, H⟩) (fun i i' j r r' => by
      obtain ⟨w, y, k, H⟩ := r
      obtain ⟨w', y', k', H'⟩ := r'
      exact (un H H' (Or.inr (Or.inl rfl))).1)
    rw [List.length_erase_of_mem (List.mem_range.2 hj), List.length_range] at this
    omega
  -- roots, sources
  have hra : ∀ i, ∃ r, i < gAll V chs c → ∃ a N, A i = ((a : Nat) : Int) ∧ FD S (2 + bAll K V chs c) N a r := fun i => by
    by_cases hi : i < gAll V chs c
    · obtain ⟨j, w, y, k, H⟩ := ex1 i hi
      obtain ⟨-, -, -, -, e5, -⟩ := gate_eq (K := K) (V := V) (chs := chs) (rg H).1
      obtain ⟨N, N', r, s, q1, -⟩ := UP i j w y k H 0 (by have := (rg H).1; have : pbt V chs k = 3 - k := (gate_eq (K := K) (V := V) (chs := chs) (rg H).1).2.2.2.2.2; omega)
      exact ⟨r, fun _ => ⟨w, N, (gC H).2.1, q1⟩⟩
    · exact ⟨0, fun z => absurd z hi⟩
  have hrb : ∀ i, ∃ r, i < gAll V chs c → ∃ a N, B i = ((a : Nat) : Int) ∧ FD S (2 + bAll K V chs c) N a r := fun i => by
    by_cases hi : i < gAll V chs c
    · obtain ⟨j, w, y, k, H⟩ := ex1 i hi
      have k2 := (rg H).1
      have e6 : pbt V chs k = 3 - k := (gate_eq (K := K) (V := V) (chs := chs) k2).2.2.2.2.2
      have e5 : pbt V chs k = ibt V chs k + 1 := (gate_eq (K := K) (V := V) (chs := chs) k2).2.2.2.2.1
      have b1 := (gC H).2.2.1
      by_cases k0 : k = 0
      · obtain ⟨N, N', r, s, q1, -⟩ := UP i j w y k H 1 (by omega)
        rw [if_pos k0] at b1
        exact ⟨r, fun _ => ⟨w + 1, N, b1, q1⟩⟩
      · obtain ⟨N, N', r, s, q1, -⟩ := UP i j w y k H 0 (by omega)
        rw [if_neg k0] at b1
        exact ⟨r, fun _ => ⟨w, N, b1, q1⟩⟩
    · exact ⟨0, fun z => absurd z hi⟩
  have hsa : ∀ j, ∃ s, j < gAll V chs c → ∃ y N, I j = ((y : Nat) : Int) ∧ SD F Gb N ((y : Nat) : Int) s := fun j => by
    by_cases hj : j < gAll V chs c
    · obtain ⟨i, w, y, k, H⟩ := ex2 j hj
      have k2 := (rg H).1
      have e6 : pbt V chs k = 3 - k := (gate_eq (K := K) (V := V) (chs := chs) k2).2.2.2.2.2
      have e5 : pbt V chs k = ibt V chs k + 1 := (gate_eq (K := K) (V := V) (chs := chs) k2).2.2.2.2.1
      obtain ⟨N, N', r, s, -, q1, -⟩ := UP i j w y k H 0 (by omega)
      exact ⟨s, fun _ => ⟨y, N', (gM H).2.2.2, q1⟩⟩
    · exact ⟨0, fun z => absurd z hj⟩
  have hsb : ∀ j, ∃ s, j < gAll V chs c → ∃ y N, I j = ((y : Nat) : Int) ∧ (Q j = 0 → SD F Gb N ((y + 1 : Nat) : Int) s) ∧ (Q j ≠ 0 → s = -1) := fun j => by
    by_cases hj : j < gAll V chs c
    · obtain ⟨i, w, y, k, H⟩ := ex2 j hj
      have k2 := (rg H).1
      have e6 : pbt V chs k = 3 - k := (gate_eq (K := K) (V := V) (chs := chs) k2).2.2.2.2.2
      have e5 : pbt V chs k = ibt V chs k + 1 := (gate_eq (K := K) (V := V) (chs := chs) k2).2.2.2.2.1
      have q := (gM H).2.2.1
      by_cases k0 : k = 0
      · obtain ⟨N, N', r, s, -, q1, -⟩ := UP i j w y k H 1 (by omega)
        rw [if_neg (by omega)] at q
        exact ⟨s, fun _ => ⟨y, N', (gM H).2.2.2, fun _ => q1, fun z => absurd q z⟩⟩
      · rw [if_pos (by omega)] at q
        exact ⟨-1, fun _ => ⟨y, 0, (gM H).2.2.2, fun z => by rw [q] at z; exact absurd z (by decide), fun _ => rfl⟩⟩
    · exact ⟨0, fun z => absurd z hj⟩
  obtain ⟨ra, hra⟩ := Classical.axiomOfChoice hra
  obtain ⟨rb, hrb⟩ := Classical.axiomOfChoice hrb
  obtain ⟨sa, hsa⟩ := Classical.axiomOfChoice hsa
  obtain ⟨sb, hsb⟩ := Classical.axiomOfChoice hsb
  obtain ⟨o, eo⟩ : ∃ o : Nat → Nat, o = fun i => (O i).toNat := ⟨_, rfl⟩
  obtain ⟨oM, eoM⟩ : ∃ oM : Nat → Nat, oM = fun j => (I j).toNat + (if Q j = 0 then 2 else 1) := ⟨_, rfl⟩
  have oe : ∀ {i j w y k : Nat}, GP K V chs 16 c 2 0 (ownx K V chs ch) 0 i j w y k → o i = w + ibt V chs k ∧ oM j = y + ibt V chs k ∧ D i = Q j ∧ (D i = 0 ∨ D i = 1) ∧ (D i = 0 ↔ k = 0) := fun {i j w y k} H => by
    have k2 := (rg H).1
    have e6 : pbt V chs k = 3 - k := (gate_eq (K := K) (V := V) (chs := chs) k2).2.2.2.2.2
    have e5 : pbt V chs k = ibt V chs k + 1 := (gate_eq (K := K) (V := V) (chs := chs) k2).2.2.2.2.1
    obtain ⟨-, -, -, c4, c5⟩ := gC H
    obtain ⟨-, -, m3, m4⟩ := gM H
    rw [eo, eoM]
    dsimp only
    rw [c4, m4, m3, c5, Int.toNat_natCast, Int.toNat_natCast]
    rcases (show k = 0 ∨ k = 1 by omega) with rfl | rfl
    · rw [if_neg (show ¬ (0 : Nat) = 1 by decide), if_pos rfl]
      exact ⟨rfl, by omega, rfl, Or.inl rfl, by simp⟩
    · rw [if_pos rfl, if_neg (by decide)]
      exact ⟨rfl, by omega, rfl, Or.inr rfl, by simp⟩
  obtain ⟨zc, ezc⟩ : ∃ zc : Nat → Prop, zc = fun r => r = 0 ∨ IO K V chs 16 c 2 r ∧ 2 + inb V ch ≤ r := ⟨_, rfl⟩
  obtain ⟨zm, ezm⟩ : ∃ zm : Nat → Prop, zm = fun y => Gb y = 0 ∧ inb V ch ≤ y ∧ y < bAll K V chs c := ⟨_, rfl⟩
  have zce : ∀ r, zc r ↔ r = 0 ∨ IO K V chs 16 c 2 r ∧ 2 + inb V ch ≤ r := fun r => by rw [ezc]
  have zme : ∀ y, zm y ↔ Gb y = 0 ∧ inb V ch ≤ y ∧ y < bAll K V chs c := fun y => by rw [ezm]
  have RGr : ∀ {r s}, RG K V chs 16 c 2 0 (ownx K V chs ch) 0 r s → rrx (inb V ch) o oM R zc zm r s := fun {r s} ⟨i, j, w, y, k, H, e1, e2⟩ => by
    obtain ⟨x1, x2, -⟩ := oe H
    exact Or.inr (Or.inr (Or.inr ⟨i, j, by rw [eR]; exact ⟨w, y, k, H⟩, by rw [x1]; exact e1, by rw [x2]; exact e2⟩))
  have RRr : ∀ {r s}, RR K V chs Gb (bAll K V chs c) (inb V ch) (ownx K V chs ch) c r s → rrx (inb V ch) o oM R zc zm r s := fun {r s} H => by
    rcases H with H | H | ⟨⟨z1, y, z2, z3, z4⟩, z5⟩ | H
    · exact Or.inl H
    · exact Or.inr (Or.inl H)
    · exact Or.inr (Or.inr (Or.inl ⟨(zce r).2 z1, y, z2, (zme y).2 ⟨z3, by omega, z4⟩⟩))
    · exact RGr H
  refine ⟨o, ra, rb, oM, sa, sb, R, zc, zm, ⟨⟨hG, hB, by omega⟩, fun i j r => ?_, ⟨fun i hi => ?_, fun j hj => ?_, fun i i' j r r' => ?_, fun i j j' r r' => ?_⟩, fun i hi => ?_, fun j hj => ?_, ⟨fun i i' hi hi' e => ?_, fun j j' hj hj' e => ?_⟩, fun r z => ?_, fun y z => ?_, fun x hx => GI x (by omega)⟩, ⟨⟨hG, by omega⟩, fun i hi => ?_, fun i i' hi hi' e => ?_⟩, ⟨hG, fun j hj => ?_⟩, fun x hx1 hx2 => ?_, fun j hj => by rw [eoM], zce, zme⟩
  · rw [eR] at r
    obtain ⟨w, y, k, H⟩ := r
    obtain ⟨k2, -, ⟨-, i1⟩, ⟨-, j1⟩, -⟩ := rg H
    obtain ⟨x1, x2, x3, x4, x5⟩ := oe H
    have e6 : pbt V chs k = 3 - k := (gate_eq (K := K) (V := V) (chs := chs) k2).2.2.2.2.2
    have e5 : pbt V chs k = ibt V chs k + 1 := (gate_eq (K := K) (V := V) (chs := chs) k2).2.2.2.2.1
    obtain ⟨-, c2, c3, c4, c5⟩ := gC H
    obtain ⟨-, -, m3, m4⟩ := gM H
    refine ⟨⟨by omega, by omega, x3, x4⟩, ?_, fun d0 => ?_, fun d0 => ?_⟩
    · obtain ⟨N, N', r, s, q1, q2, q3⟩ := UP i j w y k H 0 (by omega)
      obtain ⟨a, N1, a1, a2⟩ := hra i (by omega)
      obtain ⟨y', N2, b1, b2⟩ := hsa j (by omega)
      rw [c2] at a1
      rw [m4] at b1
      have e1 : w = a := Int.natCast_inj.1 a1
      have e2 : y = y' := Int.natCast_inj.1 b1
      subst e1 e2
      have q1' : FD S (2 + bAll K V chs c) N w r := q1
      have q2' : SD F Gb N' (y : Int) s := q2
      rw [FD_un N1 N w a2 q1', SD_un N2 N' b2 q2']
      exact RRr q3
    · have k0 := x5.1 d0
      obtain ⟨N, N', r, s, q1, q2, q3⟩ := UP i j w y k H 1 (by omega)
      obtain ⟨a, N1, a1, a2⟩ := hrb i (by omega)
      obtain ⟨y', N2, b1, b2, -⟩ := hsb j (by omega)
      rw [c3, if_pos k0] at a1
      rw [m4] at b1
      have e1 : w + 1 = a := Int.natCast_inj.1 a1
      have e2 : y = y' := Int.natCast_inj.1 b1
      subst e1 e2
      rw [FD_un N1 N _ a2 q1, SD_un N2 N' (b2 (by rw [← x3]; exact d0)) q2]
      exact RRr q3
    · obtain ⟨y', N2, -, -, b3⟩ := hsb j (by omega)
      exact b3 (by rw [← x3]; exact d0)
  · obtain ⟨j, w, y, k, H⟩ := ex1 i hi
    exact ⟨j, by rw [eR]; exact ⟨w, y, k, H⟩⟩
  · obtain ⟨i, w, y, k, H⟩ := ex2 j hj
    exact ⟨i, by rw [eR]; exact ⟨w, y, k, H⟩⟩
  · rw [eR] at r r'
    obtain ⟨w, y, k, H⟩ := r
    obtain ⟨w', y', k', H'⟩ := r'
    exact (un H H' (Or.inr (Or.inl rfl))).1
  · rw [eR] at r r'
    obtain ⟨w, y, k, H⟩ := r
    obtain ⟨w', y', k', H'⟩ := r'
    exact (un H H' (Or.inl rfl)).2.1
  · obtain ⟨j, w, y, k, H⟩ := ex1 i hi
    obtain ⟨k2, ⟨w1, w2⟩, -⟩ := rg H
    have e5 : pbt V chs k = ibt V chs k + 1 := (gate_eq (K := K) (V := V) (chs := chs) k2).2.2.2.2.1
    obtain ⟨x1, -⟩ := oe H
    refine ⟨by omega, by omega, fun z => ?_⟩
    rcases (zce _).1 z with z | z
    · omega
    · exact IO_GP Y hin 16 c 2 0 _ 0 H z.1 x1
  · obtain ⟨i, w, y, k, H⟩ := ex2 j hj
    obtain ⟨k2, -, -, -, y1, y2⟩ := rg H
    have e5 : pbt V chs k = ibt V chs k + 1 := (gate_eq (K := K) (V := V) (chs := chs) k2).2.2.2.2.1
    obtain ⟨-, x2, -⟩ := oe H
    exact ⟨by omega, by omega, by rw [x2]; exact (gM H).1⟩
  · obtain ⟨j, w, y, k, H⟩ := ex1 i hi
    obtain ⟨j', w', y', k', H'⟩ := ex1 i' hi'
    obtain ⟨x1, -⟩ := oe H
    obtain ⟨x1', -⟩ := oe H'
    exact (un H H' (Or.inr (Or.inr (Or.inl ⟨by omega, by omega⟩)))).1
  · obtain ⟨i, w, y, k, H⟩ := ex2 j hj
    obtain ⟨i', w', y', k', H'⟩ := ex2 j' hj'
    obtain ⟨-, x1, -⟩ := oe H
    obtain ⟨-, x1', -⟩ := oe H'
    exact (un H H' (Or.inr (Or.inr (Or.inr ⟨by omega, by omega⟩)))).2.1
  · rcases (zce r).1 z with z | z
    · exact Or.inl z
    · have := IO_rg Y hin 16 c 2 r z.1
      exact Or.inr ⟨z.2, by omega⟩
  · obtain ⟨z1, z2, z3⟩ := (zme y).1 z
    exact ⟨z2, z3, z1⟩
  · obtain ⟨j, w, y, k, H⟩ := ex1 i hi
    obtain ⟨k2, ⟨w1, w2⟩, -⟩ := rg H
    have e5 : pbt V chs k = ibt V chs k + 1 := (gate_eq (K := K) (V := V) (chs := chs) k2).2.2.2.2.1
    obtain ⟨x1, -, -, x4, -⟩ := oe H
    refine ⟨⟨by rw [x1]; exact (gC H).2.2.2.1, by omega⟩, x4, hra i hi, hrb i hi⟩
  · obtain ⟨j, w, y, k, H⟩ := ex1 i hi
    obtain ⟨j', w', y', k', H'⟩ := ex1 i' hi'
    obtain ⟨x1, -⟩ := oe H
    obtain ⟨x1', -⟩ := oe H'
    exact (un H H' (Or.inr (Or.inr (Or.inl ⟨by omega, by omega⟩)))).1
  · obtain ⟨i, w, y, k, H⟩ := ex2 j hj
    obtain ⟨k2, -, -, -, y1, y2⟩ := rg H
    obtain ⟨-, -, m3, m4⟩ := gM H
    obtain ⟨y', N2, b1, b2⟩ := hsa j hj
    obtain ⟨y'', N3, d1, d2, d3⟩ := hsb j hj
    rw [m4] at b1 d1
    have e2 : y = y' := Int.natCast_inj.1 b1
    have e3 : y = y'' := Int.natCast_inj.1 d1
    subst e2 e3
    have e5 : pbt V chs k = ibt V chs k + 1 := (gate_eq (K := K) (V := V) (chs := chs) k2).2.2.2.2.1
    refine ⟨?_, y, m4, by omega, ⟨N2, b2⟩, fun z => ⟨N3, d2 z⟩, d3⟩
    rw [m3]
    by_cases k1 : k = 1
    · rw [if_pos k1]; exact Or.inr rfl
    · rw [if_neg k1]; exact Or.inl rfl
  · obtain ⟨N, N', r, s, q1, q2, q3⟩ := DOWN x hx1 hx2
    rw [Nat.zero_add] at q2
    refine ⟨N, N', r, s, q1, q2, ?_⟩
    rcases q3 with ⟨⟨z1, y, z2, z3, z4⟩, z5⟩ | H
    · exact Or.inr (Or.inr (Or.inl ⟨(zce r).2 z1, y, z2, (zme y).2 ⟨z3, by omega, z4⟩⟩))
    · exact RGr H
end
