/-! CHIPS, 53: the board: where values come from, on both sides -/
def FD (S : Nat → Int) (W : Nat) : Nat → Nat → Nat → Prop
  | 0 => fun w r => w < W ∧ S w = (w : Int) ∧ r = w
  | n + 1 => fun w r => w < W ∧ ∃ w' : Nat, S w = (w' : Int) ∧ w' ≠ w ∧ FD S W n w' r
def SD (F G : Nat → Int) : Nat → Int → Int → Prop
  | 0 => fun b s => s = b ∧ b < 40000 ∧ (b < 0 ∨ 0 ≤ b ∧ (G b.toNat ≠ 0 ∨ G b.toNat = 0 ∧ F b.toNat = -1))
  | n + 1 => fun b s => 0 ≤ b ∧ b < 40000 ∧ G b.toNat = 0 ∧ F b.toNat ≠ -1 ∧ SD F G n (F b.toNat) s
section
variable {K V : Nat → Int} {Z : Nat} {chs : List cCh} {ch : cCh}
theorem fOl_some {k x y : Nat} : ∀ (ls : List cLk) {F : Nat → Option Nat}, (∀ l ∈ ls, lkP K V chs k ch l ∧ 0 ≤ l.2.1.2.1 ∧ 0 ≤ l.2.2.2.1.2.1) → (∀ y, F x = some y → ibt V chs k ≤ y ∧ y < pbt V chs k) → fOl K V chs k ch ls F x = some y → ibt V chs k ≤ y ∧ y < pbt V chs k
  | [], F, _, hF, h => hF y h
  | l :: ls, F, hl, hF, h => by
    refine fOl_some ls (F := fO1 K V chs k ch l F) (fun l' hl' => hl l' (List.mem_cons_of_mem _ hl')) (fun y' hy' => ?_) h
    obtain ⟨p1, p2, p3⟩ := hl l (List.mem_cons_self ..)
    obtain ⟨l1, l2, l3, l4, l5, l6, l7, l8⟩ := lof_rg p1 p2
    unfold fO1 at hy'
    by_cases z : (¬ lpn V chs k l < kIp chs k ∧ K l.2.2.1 = 2) ∧ rof K V chs ch l ≤ x ∧ x < rof K V chs ch l + lcn V chs k l
    · rw [if_pos z] at hy'
      injection hy' with hy'
      have := l8 z.1.1
      omega
    · rw [if_neg z] at hy'
      exact hF y' hy'
theorem finO_some {x : Nat} : ∀ (ps : List (Nat × List cLk)) (p : Nat) {G : Nat → Option (Nat × Nat)} {r : Nat × Nat}, (∀ q ∈ ps, ∀ k, kOf V chs (V q.1) = some k → ∀ l ∈ q.2, lkP K V chs k ch l ∧ 0 ≤ l.2.1.2.1 ∧ 0 ≤ l.2.2.2.1.2.1) → finO K V chs ch ps p G x = some r → G x = some r ∨ ∃ a q k, ps[a]? = some q ∧ r.1 = p + a ∧ kOf V chs (V q.1) = some k ∧ ibt V chs k ≤ r.2 ∧ r.2 < pbt V chs k
  | [], p, G, r, _, h => Or.inl h
  | q :: ps, p, G, r, H, h => by
    rcases finO_some ps (p + 1) (fun q' h' => H q' (List.mem_cons_of_mem _ h')) h with z | ⟨a, q', k, z1, z2, z3, z4⟩
    · cases hk : kOf V chs (V q.1) with
      | none => rw [hk] at z; exact Or.inl z
      | some k =>
        rw [hk] at z
        dsimp only at z
        cases hf : fOl K V chs k ch q.2 (fun _ => none) x with
        | none => rw [hf] at z; exact Or.inl z
        | some y =>
          rw [hf] at z
          dsimp only at z
          injection z with z
          have b := fOl_some q.2 (F := fun _ => none) (H q (List.mem_cons_self ..) k hk) (fun y hy => by cases hy) hf
          exact Or.inr ⟨0, q, k, rfl, by rw [← z]; rfl, hk, by rw [← z]; exact b⟩
    · exact Or.inr ⟨a + 1, q', k, z1, by omega, z3, z4⟩
theorem fPl_some {k x : Nat} {v : Int} (hin : ch.2.2.1 ≤ ch.2.1.length) : ∀ (ls : List cLk) {F : Nat → Option Int}, (∀ l ∈ ls, lkP K V chs k ch l ∧ 0 ≤ l.2.1.2.1 ∧ 0 ≤ l.2.2.2.1.2.1) → (∀ v, F x = some v → v = -1 ∨ v = -2 ∨ 0 ≤ v ∧ v < (ownx K V chs ch : Int)) → fPl K V chs k ch ls F x = some v → v = -1 ∨ v = -2 ∨ 0 ≤ v ∧ v < (ownx K V chs ch : Int)
  | [], F, _, hF, h => hF v h
  | l :: ls, F, hl, hF, h => by
    refine fPl_some hin ls (F := fP1 K V chs k ch l F) (fun l' hl' => hl l' (List.mem_cons_of_mem _ hl')) (fun v' hv' => ?_) h
    obtain ⟨p1, p2, p3⟩ := hl l (List.mem_cons_self ..)
    unfold fP1 at hv'
    by_cases z : (lpn V chs k l < kIp chs k ∨ K l.2.2.1 ≠ 2) ∧ lof V chs k l ≤ x ∧ x < lof V chs k l + lcn V chs k l
    · rw [if_pos z] at hv'
      injection hv' with hv'
      by_cases kr : K l.2.2.1 = 2
      · rw [if_pos kr] at hv'
        have := (rof_rg p1 p2 p3 hin kr).1
        exact Or.inr (Or.inr (by omega))
      · rw [if_neg kr] at hv'
        by_cases v4 : V l.2.2.1 = 4
        · rw [if_pos v4] at hv'; exact Or.inr (Or.inl hv'.symm)
        · rw [if_neg v4] at hv'; exact Or.inl hv'.symm
    · rw [if_neg z] at hv'
      exact hF v' hv'
/-- results of both: nothing, or a gate's -/
def RZ (K V : Nat → Int) (chs : List cCh) (G : Nat → Int) (hi m c β lo : Nat) (r : Nat) (s : Int) : Prop := (r = 0 ∨ IO K V chs m c β r ∧ β + lo ≤ r) ∧ ∃ y : Nat, s = (y : Int) ∧ G y = 0 ∧ y < hi
def RG (K V : Nat → Int) (chs : List cCh) (m c β γ n g : Nat) (r : Nat) (s : Int) : Prop := ∃ i j w y k, GP K V chs m c β γ n g i j w y k ∧ r = w + ibt V chs k ∧ s = ((y + ibt V chs k : Nat) : Int)
theorem lock_down (Y : kY K V Z chs) (LK : kL K V chs) (hin : ∀ ch ∈ chs, ch.2.2.1 < ch.2.1.length) {S A B O D F G Q I : Nat → Int} {hi : Nat} (hhi : hi ≤ 40000) {W : Nat} (S0 : S 0 = 0) : ∀ (m c β γ b n g : Nat) (ch : cCh), rkx V chs c < m → chs[c]? = some ch → 2 ≤ β → β + bAll K V chs c ≤ W → b + ownx K V chs ch ≤ n → n + mD K V chs ch 0 ≤ hi → CN K V chs S A B O D m c β γ → MN K V chs F G Q I m c b n g → ∀ x, inb V ch ≤ x → x < ownx K V chs ch → ∃ N N' r s, FD S W N (β + x) r ∧ SD F G N' ((b + x : Nat) : Int) s ∧ (RZ K V chs G hi m c β (inb V ch) r s ∧ ((b + inb V ch : Nat) : Int) ≤ s ∨ RG K V chs m c β γ n g r s)
  | 0, _, _, _, _, _, _, _, hr, _, _, _, _, _, _, _, _, _, _ => by omega
  | m + 1, c, β, γ, b, n, g, ch, hr, hc, hβ, hB, hbn, hn, CNn, MNn, x, hx1, hx2 => by
    obtain ⟨C1, C2⟩ := CNn ch hc
    obtain ⟨M1, M2, M3⟩ := MNn ch hc
    have hcm := List.mem_of_getElem? hc
    have be := bAll_eq (K := K) Y.1 hc
    have s1 := C1 x hx1 hx2
    have f1 := M1 x hx1 hx2
    have g1 := M2 x hx2
    cases hf : finO K V chs ch ch.2.2.2.1 0 (fun _ => none) x with
    | none =>
      rw [hf] at s1 f1
      dsimp only at s1 f1
      have sd : SD F G 0 ((b + x : Nat) : Int) ((b + x : Nat) : Int) := ⟨rfl, by omega, Or.inr ⟨by omega, Or.inr (by rw [Int.toNat_natCast]; exact ⟨g1, f1⟩)⟩⟩
      by_cases z : x < wsm V ch.2.1
      · rw [if_pos z] at s1
        exact ⟨1, 0, 0, _, ⟨by omega, 0, s1, by omega, by omega, S0, rfl⟩, sd, Or.inl ⟨⟨Or.inl rfl, b + x, rfl, g1, by omega⟩, by omega⟩⟩
      · rw [if_neg z] at s1
        exact ⟨0, 0, β + x, _, ⟨by omega, s1, rfl⟩, sd, Or.inl ⟨⟨Or.inr ⟨⟨ch, hc, Or.inl ⟨by omega, by omega⟩⟩, by omega⟩, b + x, rfl, g1, by omega⟩, by omega⟩⟩
    | some py =>
      obtain ⟨p, y⟩ := py
      rw [hf] at s1 f1
      dsimp only at s1 f1
      rcases finO_some ch.2.2.2.1 0 (fun q hq k hk l hl => ⟨(LK ch hcm q hq k hk l hl).1, (LK ch hcm q hq k hk l hl).2.1.1, (LK ch hcm q hq k hk l hl).2.2.1⟩) hf with z | ⟨a, q, k, hp, ha, hk, y1, y2⟩
      · cases z
      dsimp only at ha y1 y2
      rw [Nat.zero_add] at ha
      subst ha
      have hqm := List.mem_of_getElem? hp
      have hkl := kOf_rg hk
      obtain ⟨⟨a1, a2, a3⟩, ⟨b1, b2⟩, ⟨c1, c2, c3, c4, c5⟩, d1, d2, d3, d4, d5⟩ := kO_in Y hin hc hp hk
      obtain ⟨o1, o2, o3, o4⟩ := owk_tot (K := K) Y.1 hin hkl
      obtain ⟨e1, e2, e3⟩ := C2 p q k hp hk
      obtain ⟨t1, t2, t3⟩ := M3 p q k hp hk
      have stepC : ∀ N r, FD S W N (β + kO K V chs ch p + y) r → FD S W (N + 1) (β + x) r := fun N r h => ⟨by omega, _, s1, by omega, h⟩
      have stepM : ∀ N s, SD F G N ((n + mOx K V chs ch p + y : Nat) : Int) s → SD F G (N + 1) ((b + x : Nat) : Int) s := fun N s h => by
        refine ⟨by omega, by omega, by rw [Int.toNat_natCast]; exact g1, by rw [Int.toNat_natCast, f1]; exact Int.ne_of_gt (Int.lt_of_lt_of_le (by decide) (Int.natCast_nonneg _)), ?_⟩
        rw [Int.toNat_natCast, f1]; exact h
      by_cases k2 : k < 2
      · obtain ⟨u1, u2, u3, u4, u5, u6⟩ := gate_eq (K := K) (V := V) (chs := chs) k2
        have ye : y = ibt V chs k := by omega
        subst ye
        obtain ⟨v1, -⟩ := e2 k2
        obtain ⟨v2, -⟩ := t2 k2
        refine ⟨1, 1, _, _, stepC 0 _ ⟨by omega, v1, rfl⟩, stepM 0 _ ⟨rfl, by omega, Or.inr ⟨by omega, Or.inl (by rw [Int.toNat_natCast, v2]; omega)⟩⟩, Or.inr ⟨_, _, _, _, k, ⟨ch, p, q, k, hc, hp, hk, Or.inl ⟨k2, rfl, rfl, rfl, rfl, rfl⟩⟩, rfl, rfl⟩⟩
      · obtain ⟨ck, w1, w2, w3, w4, w5, w6, w7, w8, w9, w10⟩ := kid_eq Y hin hkl (show 2 ≤ k by omega)
        have rkk := rk_lt Y.1 (a := c) (b := k - 2) ⟨ch, q, hc, hqm, by rw [hk, show 2 + (k - 2) = k by omega]⟩
        have io := (inb_own (K := K) (V := V) (chs := chs) (hin ck (List.mem_of_getElem? w1))).2
        obtain ⟨N, N', r, s, q1, q2, q3⟩ := lock_down Y LK hin hhi (W := W) S0 m (k - 2) (β + kO K V chs ch p) (γ + gO V chs ch p) (n + mOx K V chs ch p) (n + mD K V chs ch (p + 1)) (g + mH V chs ch (p + 1)) ck (by omega) w1 (by omega) (by omega) (by omega) (by omega) (e3 (by omega)) (t3 (by omega)) y (by omega) (by omega)
        refine ⟨N + 1, N' + 1, r, s, stepC N r q1, stepM N' s q2, ?_⟩
        rcases q3 with ⟨⟨z1, z2⟩, z3⟩ | ⟨i, j, w, y', k', z1, z2, z3⟩
        · have iv : IO K V chs m (k - 2) (β + kO K V chs ch p) r → β + kO K V chs ch p ≤ r := fun z => (IO_rg Y hin m _ _ _ z).1
          have ib := (inb_own (K := K) (V := V) (chs := chs) (hin ch hcm))
          exact Or.inl ⟨⟨z1.imp id (fun z => ⟨⟨ch, hc, Or.inr ⟨p, q, k, hp, hk, by omega, z.1⟩⟩, by have := iv z.1; omega⟩), z2⟩, by omega⟩
        · exact Or.inr ⟨i, j, w, y', k', ⟨ch, p, q, k, hc, hp, hk, Or.inr ⟨by omega, z1⟩⟩, z2, z3⟩
/-- what both find, for any wire of the board -/
def RR (K V : Nat → Int) (chs : List cCh) (G : Nat → Int) (hi ib n0 c0 : Nat) (r : Nat) (s : Int) : Prop := (r = 1 ∧ s = -2) ∨ (∃ x, x < ib ∧ r = 2 + x ∧ s = (x : Int)) ∨ (RZ K V chs G hi 16 c0 2 ib r s ∧ (ib : Int) ≤ s) ∨ RG K V chs 16 c0 2 0 n0 0 r s
def RS (K V : Nat → Int) (chs : List cCh) (S F G : Nat → Int) (W hi ib n0 c0 : Nat) (w y : Nat) : Prop := ∃ N N' r s, FD S W N w r ∧ SD F G N' (y : Int) s ∧ RR K V chs G hi ib n0 c0 r s
theorem lock_up (Y : kY K V Z chs) (LK : kL K V chs) (hin : ∀ ch ∈ chs, ch.2.2.1 < ch.2.1.length) {S A B O D F G Q I : Nat → Int} {hi ib n0 c0 : Nat} (hhi : hi ≤ 40000) {W : Nat} (S0 : S 0 = 0) (S1 : S 1 = 1) : ∀ (m c β γ b n g : Nat) (ch : cCh), rkx V chs c < m → chs[c]? = some ch → 2 ≤ β → β + bAll K V chs c ≤ W → b + ownx K V chs ch ≤ n → n + mD K V chs ch 0 ≤ hi → ib ≤ b + inb V ch → 2 + ib ≤ β + inb V ch → CN K V chs S A B O D m c β γ → MN K V chs F G Q I m c b n g → (∀ i j w y k, GP K V chs m c β γ n g i j w y k → GP K V chs 16 c0 2 0 n0 0 i j w y k) → (∀ w, IO K V chs m c β w → IO K V chs 16 c0 2 w) → (∀ x, x < inb V ch → RS K V chs S F G W hi ib n0 c0 (β + x) (b + x)) → ∀ i j w y k, GP K V chs m c β γ n g i j w y k → ∀ x, x < ibt V chs k → RS K V chs S F G W hi ib n0 c0 (w + x) (y + x)
  | 0, _, _, _, _, _, _, _, hr, _, _, _, _, _, _, _, _, _, _, _, _, _, _, _, _, _, _ => by omega
  | m + 1, c, β, γ, b, n, g, ch, hr, hc, hβ, hB, hbn, hn, hib, hib2, CNn, MNn, lG, lI, IN, i, j, w, y, k, ⟨ch', p, q, k', hc', hp, hk, H⟩ => by
    rw [hc] at hc'
    injection hc' with hc'
    subst hc'
    have hcm := List.mem_of_getElem? hc
    have hqm := List.mem_of_getElem? hp
    have hkl := kOf_rg hk
    obtain ⟨C1, C2⟩ := CNn ch hc
    obtain ⟨M1, M2, M3⟩ := MNn ch hc
    have be := bAll_eq (K := K) Y.1 hc
    obtain ⟨⟨a1, a2, a3⟩, ⟨b1, b2⟩, ⟨c1, c2, c3, c4, c5⟩, d1, d2, d3, d4, d5⟩ := kO_in Y hin hc hp hk
    obtain ⟨o1, o2, o3, o4⟩ := owk_tot (K := K) Y.1 hin hkl
    obtain ⟨e1, e2, e3⟩ := C2 p q k' hp hk
    obtain ⟨t1, t2, t3⟩ := M3 p q k' hp hk
    have ibk := (pbt_tot (K := K) Y.1 hkl hin).2.1
    have io := inb_own (K := K) (V := V) (chs := chs) (hin ch hcm)
    have down := lock_down (S := S) (A := A) (B := B) (O := O) (D := D) (F := F) (G := G) (Q := Q) (I := I) Y LK hin hhi (W := W) S0 (m + 1) c β γ b n g ch hr hc hβ hB hbn hn CNn MNn
    -- the part's IN bits
    have PI : (∀ x, x < ibt V chs k' → G (n + mOx K V chs ch p + x) = 0) → ∀ x, x < ibt V chs k' → RS K V chs S F G W hi ib n0 c0 (β + kO K V chs ch p + x) (n + mOx K V chs ch p + x) := by
      intro G0 x hx
      have s1 := e1 x hx
      have f1 := t1 x hx
      have g1 := G0 x hx
      have zero : S (β + kO K V chs ch p + x) = 0 → F (n + mOx K V chs ch p + x) = -1 → RS K V chs S F G W hi ib n0 c0 (β + kO K V chs ch p + x) (n + mOx K V chs ch p + x) := fun s2 f2 =>
        ⟨1, 0, 0, _, ⟨by omega, 0, s2, by omega, by omega, S0, rfl⟩, ⟨rfl, by omega, Or.inr ⟨by omega, Or.inr (by rw [Int.toNat_natCast]; exact ⟨g1, f2⟩)⟩⟩, Or.inr (Or.inr (Or.inl ⟨⟨Or.inl rfl, _, rfl, g1, by omega⟩, by omega⟩))⟩
      cases hf : finP K V chs k' ch q x with
      | none =>
        rw [hf] at s1 f1
        exact zero s1 f1
      | some v =>
        rw [hf] at s1 f1
        dsimp only at s1 f1
        have lks := LK ch hcm q hqm k' hk
        rcases fPl_some (Nat.le_of_lt (hin ch hcm)) q.2 (fun l hl => ⟨(lks l hl).1, (lks l hl).2.1.1, (lks l hl).2.2.1⟩) (fun v hv => by cases hv) hf with z | z | ⟨z1, z2⟩
        · rw [z] at s1 f1
          exact zero s1 f1
        · rw [z] at s1 f1
          have f2 : F (n + mOx K V chs ch p + x) = -2 := f1
          have s2 : S (β + kO K V chs ch p + x) = 1 := s1
          exact ⟨1, 1, 1, -2, ⟨by omega, 1, s2, by omega, by omega, S1, rfl⟩, ⟨by omega, by omega, by rw [Int.toNat_natCast]; exact g1, by rw [Int.toNat_natCast, f2]; decide, by rw [Int.toNat_natCast, f2]; exact ⟨rfl, by decide, Or.inl (by decide)⟩⟩, Or.inl ⟨rfl, rfl⟩⟩
        · obtain ⟨a, rfl⟩ : ∃ a : Nat, v = (a : Int) := ⟨v.toNat, by omega⟩
          have s2 : S (β + kO K V chs ch p + x) = ((β + a : Nat) : Int) := by rw [s1]; unfold encv; rw [if_neg (by omega), if_neg (by omega)]; omega
          have f2 : F (n + mOx K V chs ch p + x) = ((b + a : Nat) : Int) := by rw [f1]; unfold encv; rw [if_neg (by omega), if_neg (by omega)]; omega
          have : RS K V chs S F G W hi ib n0 c0 (β + a) (b + a) := by
            by_cases ai : a < inb V ch
            · exact IN a ai
            · obtain ⟨N, N', r, s, q1, q2, q3⟩ := down a (by omega) (by omega)
              refine ⟨N, N', r, s, q1, q2, ?_⟩
              rcases q3 with ⟨⟨z3, z4⟩, z5⟩ | ⟨i, j, w, y, k, z3, z4, z5⟩
              · exact Or.inr (Or.inr (Or.inl ⟨⟨z3.imp id (fun z => ⟨lI _ z.1, by omega⟩), z4⟩, by omega⟩))
              · exact Or.inr (Or.inr (Or.inr ⟨i, j, w, y, k, lG _ _ _ _ _ z3, z4, z5⟩))
          obtain ⟨N, N', r, s, q1, q2, q3⟩ := this
          exact ⟨N + 1, N' + 1, r, s, ⟨by omega, _, s2, by omega, q1⟩, ⟨by omega, by omega, by rw [Int.toNat_natCast]; exact g1, by rw [Int.toNat_natCast, f2]; omega, by rw [Int.toNat_natCast, f2]; exact q2⟩, q3⟩
    rcases H with ⟨k2, rfl, rfl, rfl, rfl, rfl⟩ | ⟨k2, H⟩
    · exact PI (t2 k2).2.1
    · obtain ⟨ck, w1, w2, w3, w4, w5, w6, w7, w8, w9, w10⟩ := kid_eq Y hin hkl k2
      have rkk := rk_lt Y.1 (a := c) (b := k' - 2) ⟨ch, q, hc, hqm, by rw [hk, show 2 + (k' - 2) = k' by omega]⟩
      have Mk := t3 k2
      have G0 : ∀ x, x < ibt V chs k' → G (n + mOx K V chs ch p + x) = 0 := by
        intro x hx
        obtain ⟨m', rfl⟩ : ∃ m', m = m' + 1 := ⟨m - 1, by omega⟩
        exact (Mk ck w1).2.1 x (by omega)
      refine lock_up Y LK hin hhi S0 S1 m (k' - 2) (β + kO K V chs ch p) (γ + gO V chs ch p) (n + mOx K V chs ch p) (n + mD K V chs ch (p + 1)) (g + mH V chs ch (p + 1)) ck (by omega) w1 (by omega) (by omega) (by omega) (by omega) (by omega) (by omega) (e3 k2) Mk (fun i j w y k H' => lG _ _ _ _ _ ⟨ch, p, q, k', hc, hp, hk, Or.inr ⟨k2, H'⟩⟩) (fun w H' => lI _ ⟨ch, hc, Or.inr ⟨p, q, k', hp, hk, k2, H'⟩⟩) (fun x hx => PI G0 x (by omega)) i j w y k H
end
