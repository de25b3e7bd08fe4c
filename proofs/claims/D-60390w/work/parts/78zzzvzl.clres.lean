/-! CHIPS, 38: links that have passed all checks, as offsets -/
/-- the width of the first p pins -/
def wfl (ws : List Int) : Nat → Nat
  | 0 => 0
  | p + 1 => wfl ws p + (ws.getD p 1).toNat
section
variable (K V : Nat → Int) (chs : List cCh)
def lof (k : Nat) (l : cLk) : Nat := wfl (kWd V chs k) (lpn V chs k l).toNat + (rlo l.2.1).toNat
def lcn (k : Nat) (l : cLk) : Nat := (rn l.2.1 (lwd V chs k l)).toNat
def rof (ch : cCh) (l : cLk) : Nat := if rpn V ch l = -1 then wsm V ch.2.1 + ism (cIW K V chs ch) (rin V ch l).toNat else wfl (cWs V ch) (rpn V ch l).toNat + (rlo l.2.2.2.1).toNat
/-- what is known of a link -/
def lkP (k : Nat) (ch : cCh) (l : cLk) : Prop := (0 ≤ lpn V chs k l ∧ lpn V chs k l < ((kNm V chs k).length : Int)) ∧ rok l.2.1 (lwd V chs k l) ∧ (K l.2.2.1 = 1 ∧ lpn V chs k l < kIp chs k ∨ K l.2.2.1 = 2 ∧ (rpn V ch l = -1 ∧ (0 ≤ rin V ch l ∧ rin V ch l < (ch.2.2.2.2.length : Int)) ∧ l.2.2.2.1.1 = -1 ∧ cIW K V chs ch (rin V ch l).toNat = rn l.2.1 (lwd V chs k l) ∨ (0 ≤ rpn V ch l ∧ rpn V ch l < (ch.2.1.length : Int)) ∧ rok l.2.2.2.1 (rwd V ch l) ∧ rn l.2.2.2.1 (rwd V ch l) = rn l.2.1 (lwd V chs k l) ∧ (rpn V ch l < ch.2.2.1 ↔ lpn V chs k l < kIp chs k)))
end
section
variable {K V : Nat → Int} {chs : List cCh} {ch : cCh}
theorem ffnd_at {x : Int} {l : List Int} (h : ffnd x l 0 ≠ -1) : l[(ffnd x l 0).toNat]? = some x := by
  rcases ffnd_rg l x 0 with ⟨z, -⟩ | ⟨-, -, z, -⟩
  · exact absurd z h
  · exact z
/-- the order of the check: given names, and widths that are found -/
def givI (V : Nat → Int) (ch : cCh) (G X : Nat → Int) : Prop := ∀ j, X j ≠ 0 → (∃ n, (cIn V ch)[j]? = some n ∧ (n ∈ cNm V ch ∨ G j ≠ 0))
theorem giv_lk {k : Nat} {l : cLk} {W : Nat → Int} {s u : cSt} {X : Nat → Int} (hi : K l.2.2.1 = 2 → V l.2.2.1 ∈ cNm V ch ∨ V l.2.2.1 ∈ cIn V ch) (h : lkS K V chs k ch W l s = .inr u) (I : givI V ch s.2.2 X) : givI V ch u.2.2 (gv1 K V chs k ch l X) ∧ (¬ lpn V chs k l < kIp chs k → K l.2.2.1 = 2 → rpn V ch l = -1 → gv1 K V chs k ch l X (rin V ch l).toNat = rn l.2.1 (lwd V chs k l) ∧ rn l.2.1 (lwd V chs k l) ≠ 0) := by
  have re : rin V ch l = ffnd (V l.2.2.1) (cIn V ch) 0 := rfl
  have pe : rpn V ch l = ffnd (V l.2.2.1) (cNm V ch) 0 := rfl
  unfold lkS at h
  by_cases y1 : lpn V chs k l = -1
  · rw [if_pos y1] at h; cases h
  rw [if_neg y1] at h
  by_cases y2 : ¬ rok l.2.1 (lwd V chs k l)
  · rw [if_neg y2] at h; cases h
  have y2 := Decidable.not_not.1 y2
  have rn0 : rn l.2.1 (lwd V chs k l) ≠ 0 := by unfold rn; unfold rok at y2; omega
  rw [if_pos y2] at h
  by_cases y3 : lpn V chs k l < kIp chs k
  · rw [if_pos y3] at h
    have ug : u.2.2 = s.2.2 := by
      by_cases y4 : am_and (s.1 (lpn V chs k l).toNat) (rmk l.2.1 (lwd V chs k l)) = 0
      · rw [if_pos y4] at h
        cases hx : lkX K V ch W (rn l.2.1 (lwd V chs k l)) l with
        | some e => rw [hx] at h; cases h
        | none => rw [hx] at h; cases h; rfl
      · rw [if_neg y4] at h; cases h
    have ge : gv1 K V chs k ch l X = X := by unfold gv1; rw [if_pos (Or.inl y3)]
    rw [ug, ge]
    exact ⟨I, fun z => absurd y3 z⟩
  · rw [if_neg y3] at h
    cases hx : lkD K V ch (rn l.2.1 (lwd V chs k l)) l s.2.1 s.2.2 with
    | inl e => rw [hx] at h; cases h
    | inr v =>
      rw [hx] at h
      have uv : u.2 = v := by cases h; rfl
      rw [uv]
      unfold lkD at hx
      by_cases kr : ¬ K l.2.2.1 = 2
      · rw [if_neg kr] at hx; cases hx
      have kr := Decidable.not_not.1 kr
      rw [if_pos kr] at hx
      by_cases y4 : rpn V ch l = -1
      · rw [if_pos y4] at hx
        by_cases y5 : ¬ s.2.2 (rin V ch l).toNat = 0
        · rw [if_neg y5] at hx; cases hx
        have y5 := Decidable.not_not.1 y5
        rw [if_pos y5] at hx
        by_cases y6 : ¬ l.2.2.2.1.1 = -1
        · rw [if_neg y6] at hx; cases hx
        rw [if_pos (Decidable.not_not.1 y6)] at hx
        have vg : v.2 = p_set s.2.2 (rin V ch l).toNat 1 := by cases hx; rfl
        have np : V l.2.2.1 ∉ cNm V ch := by
          rcases ffnd_rg (cNm V ch) (V l.2.2.1) 0 with ⟨-, z⟩ | ⟨z, -⟩
          · exact z
          · rw [← pe] at z; omega
        have ii : rin V ch l ≠ -1 := by
          rcases ffnd_rg (cIn V ch) (V l.2.2.1) 0 with ⟨-, z⟩ | ⟨z, -⟩
          · rcases hi kr with w | w
            · exact absurd w np
            · exact absurd w z
          · rw [← re] at z; omega
        have nm : (cIn V ch)[(rin V ch l).toNat]? = some (V l.2.2.1) := ffnd_at ii
        have x0 : X (rin V ch l).toNat = 0 := by
          rcases Classical.em (X (rin V ch l).toNat = 0) with z | z
          · exact z
          · obtain ⟨n, w1, w2⟩ := I _ z
            rw [nm] at w1; cases w1
            rcases w2 with w | w
            · exact absurd w np
            · exact absurd y5 w
        have ge : gv1 K V chs k ch l X = p_set X (rin V ch l).toNat (rn l.2.1 (lwd V chs k l)) := by
          unfold gv1
          rw [if_neg (by rintro (z | z | z | z); exact y3 z; exact z kr; exact ii z; exact z x0), if_pos y2]
        rw [ge, vg]
        refine ⟨fun j hj => ?_, fun _ _ _ => ⟨by unfold p_set; rw [if_pos rfl], rn0⟩⟩
        unfold p_set at hj ⊢
        by_cases e : j = (rin V ch l).toNat
        · subst e
          exact ⟨_, nm, Or.inr (by rw [if_pos rfl]; decide)⟩
        · rw [if_neg e] at hj ⊢
          exact I j hj
      · rw [if_neg y4] at hx
        have vg : v.2 = s.2.2 := by
          by_cases z1 : rpn V ch l < ch.2.2.1
          · rw [if_pos z1] at hx; cases hx
          rw [if_neg z1] at hx
          by_cases z2 : rok l.2.2.2.1 (rwd V ch l)
          · rw [if_pos z2] at hx
            by_cases z3 : am_and (s.2.1 (rpn V ch l).toNat) (rmk l.2.2.2.1 (rwd V ch l)) = 0
            · rw [if_pos z3] at hx
              by_cases z4 : rn l.2.2.2.1 (rwd V ch l) = rn l.2.1 (lwd V chs k l)
              · rw [if_pos z4] at hx; cases hx; rfl
              · rw [if_neg z4] at hx; cases hx
            · rw [if_neg z3] at hx; cases hx
          · rw [if_neg z2] at hx; cases hx
        rw [vg]
        refine ⟨fun j hj => ?_, fun _ _ z => absurd z y4⟩
        unfold gv1 at hj
        split at hj
        · exact I j hj
        · rename_i nn
          unfold p_set at hj
          by_cases e : j = (rin V ch l).toNat
          · have ii : rin V ch l ≠ -1 := fun z => nn (Or.inr (Or.inr (Or.inl z)))
            subst e
            refine ⟨_, ffnd_at ii, Or.inl ?_⟩
            rcases ffnd_rg (cNm V ch) (V l.2.2.1) 0 with ⟨z, -⟩ | ⟨-, -, -, z⟩
            · exact absurd z y4
            · exact z
          · rw [if_neg e] at hj; exact I j hj
/-- a width that is found stays -/
theorem gv1_st {k : Nat} {l : cLk} {X : Nat → Int} {j : Nat} (h : X j ≠ 0) : gv1 K V chs k ch l X j = X j := by
  unfold gv1
  split
  · rfl
  · rename_i nn
    unfold p_set
    by_cases e : j = (rin V ch l).toNat
    · subst e; exact absurd (Or.inr (Or.inr (Or.inr h))) nn
    · rw [if_neg e]
theorem gvl_st {k : Nat} : ∀ (ls : List cLk) {X : Nat → Int} {j : Nat}, X j ≠ 0 → gvl K V chs k ch ls X j = X j
  | [], _, _, _ => rfl
  | l :: ls, X, j, h => by
    show gvl K V chs k ch ls (gv1 K V chs k ch l X) j = X j
    rw [gvl_st ls (by rw [gv1_st h]; exact h), gv1_st h]
theorem gvs_st : ∀ (ps : List (Nat × List cLk)) {X : Nat → Int} {j : Nat}, X j ≠ 0 → gvs K V chs ch ps X j = X j
  | [], _, _, _ => rfl
  | q :: ps, X, j, h => by
    have e : gvp K V chs ch q X j = X j := by
      unfold gvp
      cases kOf V chs (V q.1) with
      | none => rfl
      | some k => exact gvl_st _ h
    show gvs K V chs ch ps (gvp K V chs ch q X) j = X j
    rw [gvs_st ps (by rw [e]; exact h), e]
theorem giv_l {k : Nat} {W : Nat → Int} : ∀ (ls : List cLk) {s u : cSt} {X : Nat → Int}, (∀ l ∈ ls, K l.2.2.1 = 2 → V l.2.2.1 ∈ cNm V ch ∨ V l.2.2.1 ∈ cIn V ch) → lksS K V chs k ch W ls s = .inr u → givI V ch s.2.2 X → givI V ch u.2.2 (gvl K V chs k ch ls X) ∧ ∀ l ∈ ls, ¬ lpn V chs k l < kIp chs k → K l.2.2.1 = 2 → rpn V ch l = -1 → gvl K V chs k ch ls X (rin V ch l).toNat = rn l.2.1 (lwd V chs k l) ∧ rn l.2.1 (lwd V chs k l) ≠ 0
  | [], s, u, X, _, h, I => by cases h; exact ⟨I, fun l hl => absurd hl List.not_mem_nil⟩
  | l :: ls, s, u, X, hi, h, I => by
    unfold lksS at h
    cases hx : lkS K V chs k ch W l s with
    | inl e => rw [hx] at h; cases h
    | inr s' =>
      rw [hx] at h
      obtain ⟨I1, c1⟩ := giv_lk (hi l (List.mem_cons_self ..)) hx I
      obtain ⟨I2, c2⟩ := giv_l ls (fun l' hl' => hi l' (List.mem_cons_of_mem _ hl')) h I1
      refine ⟨I2, fun l' hl' h1 h2 h3 => ?_⟩
      rcases List.mem_cons.1 hl' with z | z
      · subst z
        obtain ⟨e1, e2⟩ := c1 h1 h2 h3
        refine ⟨?_, e2⟩
        show gvl K V chs k ch ls (gv1 K V chs k ch l' X) _ = _
        rw [gvl_st ls (by rw [e1]; exact e2), e1]
      · exact c2 l' z h1 h2 h3
theorem giv_s {W : Nat → Int} : ∀ (ps : List (Nat × List cLk)) {s u : (Nat → Int) × (Nat → Int)} {X : Nat → Int}, (∀ q ∈ ps, ∀ l ∈ q.2, K l.2.2.1 = 2 → V l.2.2.1 ∈ cNm V ch ∨ V l.2.2.1 ∈ cIn V ch) → prsS K V chs ch W ps s = .inr u → givI V ch s.2 X → ∀ q ∈ ps, ∀ k, kOf V chs (V q.1) = some k → ∀ l ∈ q.2, ¬ lpn V chs k l < kIp chs k → K l.2.2.1 = 2 → rpn V ch l = -1 → gvs K V chs ch ps X (rin V ch l).toNat = rn l.2.1 (lwd V chs k l)
  | [], s, u, X, _, h, I => fun q hq => absurd hq List.not_mem_nil
  | p :: ps, s, u, X, hi, h, I => by
    unfold prsS at h
    cases hx : prS K V chs ch W p s with
    | inl e => rw [hx] at h; cases h
    | inr s' =>
      rw [hx] at h
      unfold prS at hx
      cases hk : kOf V chs (V p.1) with
      | none => rw [hk] at hx; cases hx
      | some k0 =>
        rw [hk] at hx
        dsimp only at hx
        cases hy : lksS K V chs k0 ch W p.2 (fun _ => 0, s) with
        | inl e => rw [hy] at hx; cases hx
        | inr v =>
          rw [hy] at hx
          have sv : s' = v.2 := by cases hx; rfl
          obtain ⟨I1, c1⟩ := giv_l p.2 (hi p (List.mem_cons_self ..)) hy I
          have gp' : gvp K V chs ch p X = gvl K V chs k0 ch p.2 X := by unfold gvp; rw [hk]
          rw [sv] at h
          have c2 := giv_s ps (fun q hq => hi q (List.mem_cons_of_mem _ hq)) h I1
          intro q hq k hkq l hl h1 h2 h3
          show gvs K V chs ch ps (gvp K V chs ch p X) _ = _
          rw [gp']
          rcases List.mem_cons.1 hq with z | z
          · subst z
            rw [hk] at hkq; cases hkq
            obtain ⟨e1, e2⟩ := c1 l hl h1 h2 h3
            rw [gvs_st ps (by rw [e1]; exact e2), e1]
          · exact c2 q z k hkq l hl h1 h2 h3
/-- each link, when all has passed -/
theorem lks_P {k : Nat} {X : Nat → Int} : ∀ (ls : List cLk) (s u : cSt), lksS K V chs k ch X ls s = .inr u → ∀ l ∈ ls, ∃ s u, lkS K V chs k ch X l s = .inr u
  | [], s, u, _ => fun l hl => absurd hl List.not_mem_nil
  | l :: ls, s, u, h => by
    unfold lksS at h
    cases hx : lkS K V chs k ch X l s with
    | inl e => rw [hx] at h; cases h
    | inr s' =>
      rw [hx] at h
      intro l' hl'
      rcases List.mem_cons.1 hl' with z | z
      · subst z; exact ⟨s, s', hx⟩
      · exact lks_P ls _ _ h l' z
theorem prs_P {X : Nat → Int} : ∀ (ps : List (Nat × List cLk)) (s u : (Nat → Int) × (Nat → Int)), prsS K V chs ch X ps s = .inr u → ∀ q ∈ ps, ∃ k, kOf V chs (V q.1) = some k ∧ ∀ l ∈ q.2, ∃ s u, lkS K V chs k ch X l s = .inr u
  | [], s, u, _ => fun q hq => absurd hq List.not_mem_nil
  | p :: ps, s, u, h => by
    unfold prsS at h
    cases hx : prS K V chs ch X p s with
    | inl e => rw [hx] at h; cases h
    | inr s' =>
      rw [hx] at h
      intro q hq
      rcases List.mem_cons.1 hq with w | w
      · subst w
        unfold prS at hx
        cases hk : kOf V chs (V q.1) with
        | none => rw [hk] at hx; cases hx
        | some k =>
          rw [hk] at hx
          dsimp only at hx
          cases hy : lksS K V chs k ch X q.2 (fun _ => 0, s) with
          | inl e => rw [hy] at hx; cases hx
          | inr v => exact ⟨k, rfl, lks_P _ _ _ hy⟩
      · exact prs_P ps _ _ h q w
theorem ck_lk (h : cksS K V chs chs 0 = none) {c : Nat} (hc : chs[c]? = some ch) (hin : innT K V ch) (h12 : ∀ q ∈ ch.2.2.2.1, ∀ l ∈ q.2, K l.2.2.1 = 2 ∨ K l.2.2.1 = 1) {q : Nat × List cLk} (hq : q ∈ ch.2.2.2.1) {k : Nat} (hk : kOf V chs (V q.1) = some k) {l : cLk} (hl : l ∈ q.2) : lkP K V chs k ch l := by
  obtain ⟨-, u, hu⟩ := cksS_ok chs 0 h c ch hc
  obtain ⟨k', e1, e2⟩ := prs_P _ _ _ hu q hq
  rw [hk] at e1; cases e1
  obtain ⟨s, v, e3⟩ := e2 l hl
  have giv := giv_s ch.2.2.2.1 (X := fun _ => 0) (fun q hq l hl hk => hin.1 q hq l hl hk) hu (fun j hj => absurd rfl hj) q hq k hk l hl
  have iw := ck_iw h hc (rin V ch l).toNat
  have re : rin V ch l = ffnd (V l.2.2.1) (cIn V ch) 0 := rfl
  have pe : rpn V ch l = ffnd (V l.2.2.1) (cNm V ch) 0 := rfl
  have lr := ffnd_rg (kNm V chs k) (V l.1) 0
  have lp : lpn V chs k l = ffnd (V l.1) (kNm V chs k) 0 := rfl
  rw [← lp] at lr
  have ir := ffnd_rg (cIn V ch) (V l.2.2.1) 0
  have pr := ffnd_rg (cNm V ch) (V l.2.2.1) 0
  rw [← re, show (cIn V ch).length = ch.2.2.2.2.length by unfold cIn; rw [List.length_map]] at ir
  rw [← pe, show (cNm V ch).length = ch.2.1.length by unfold cNm; rw [List.length_map]] at pr
  have inr : rpn V ch l = -1 → K l.2.2.1 = 2 → 0 ≤ rin V ch l ∧ rin V ch l < (ch.2.2.2.2.length : Int) := fun z kr => by
    rcases hin.1 q hq l hl kr with w | w
    · rcases pr with ⟨-, v⟩ | v
      · exact absurd w v
      · omega
    · rcases ir with ⟨-, v⟩ | v
      · exact absurd w v
      · omega
  unfold lkS at e3
  by_cases y1 : lpn V chs k l = -1
  · rw [if_pos y1] at e3; cases e3
  rw [if_neg y1] at e3
  by_cases y2 : ¬ rok l.2.1 (lwd V chs k l)
  · rw [if_neg y2] at e3; cases e3
  have y2 := Decidable.not_not.1 y2
  rw [if_pos y2] at e3
  refine ⟨by omega, y2, ?_⟩
  by_cases y3 : lpn V chs k l < kIp chs k
  · rw [if_pos y3] at e3
    have hx : lkX K V ch (cIW K V chs ch) (rn l.2.1 (lwd V chs k l)) l = none := by
      by_cases y4 : am_and (s.1 (lpn V chs k l).toNat) (rmk l.2.1 (lwd V chs k l)) = 0
      · rw [if_pos y4] at e3
        cases hx : lkX K V ch (cIW K V chs ch) (rn l.2.1 (lwd V chs k l)) l with
        | some e => rw [hx] at e3; cases e3
        | none => rfl
      · rw [if_neg y4] at e3; cases e3
    rcases h12 q hq l hl with kr | kr
    · right
      refine ⟨kr, ?_⟩
      unfold lkX at hx
      rw [if_pos kr] at hx
      by_cases z1 : rpn V ch l = -1
      · rw [if_pos z1] at hx
        by_cases z2 : cIW K V chs ch (rin V ch l).toNat = 0
        · rw [if_pos z2] at hx; cases hx
        rw [if_neg z2] at hx
        by_cases z3 : ¬ l.2.2.2.1.1 = -1
        · rw [if_neg z3] at hx; cases hx
        have z3 := Decidable.not_not.1 z3
        rw [if_pos z3] at hx
        by_cases z4 : cIW K V chs ch (rin V ch l).toNat = -1 ∨ cIW K V chs ch (rin V ch l).toNat = rn l.2.1 (lwd V chs k l)
        · exact Or.inl ⟨z1, inr z1 kr, z3, by omega⟩
        · rw [if_neg z4] at hx; cases hx
      · rw [if_neg z1] at hx
        by_cases z2 : ¬ rpn V ch l < ch.2.2.1
        · rw [if_neg z2] at hx; cases hx
        have z2 := Decidable.not_not.1 z2
        rw [if_pos z2] at hx
        by_cases z3 : ¬ rok l.2.2.2.1 (rwd V ch l)
        · rw [if_neg z3] at hx; cases hx
        have z3 := Decidable.not_not.1 z3
        rw [if_pos z3] at hx
        by_cases z4 : rn l.2.2.2.1 (rwd V ch l) = rn l.2.1 (lwd V chs k l)
        · exact Or.inr ⟨by omega, z3, z4, fun _ => y3, fun _ => z2⟩
        · rw [if_neg z4] at hx; cases hx
    · exact Or.inl ⟨kr, y3⟩
  · rw [if_neg y3] at e3
    cases hx : lkD K V ch (rn l.2.1 (lwd V chs k l)) l s.2.1 s.2.2 with
    | inl e => rw [hx] at e3; cases e3
    | inr w =>
      unfold lkD at hx
      by_cases kr : ¬ K l.2.2.1 = 2
      · rw [if_neg kr] at hx; cases hx
      have kr := Decidable.not_not.1 kr
      rw [if_pos kr] at hx
      right
      refine ⟨kr, ?_⟩
      by_cases z1 : rpn V ch l = -1
      · rw [if_pos z1] at hx
        by_cases z2 : s.2.2 (rin V ch l).toNat = 0
        · rw [if_pos z2] at hx
          by_cases z3 : l.2.2.2.1.1 = -1
          · exact Or.inl ⟨z1, inr z1 kr, z3, giv y3 kr z1⟩
          · rw [if_neg z3] at hx; cases hx
        · rw [if_neg z2] at hx; cases hx
      · rw [if_neg z1] at hx
        by_cases z2 : rpn V ch l < ch.2.2.1
        · rw [if_pos z2] at hx; cases hx
        rw [if_neg z2] at hx
        by_cases z3 : ¬ rok l.2.2.2.1 (rwd V ch l)
        · rw [if_neg z3] at hx; cases hx
        have z3 := Decidable.not_not.1 z3
        rw [if_pos z3] at hx
        by_cases z4 : ¬ am_and (s.2.1 (rpn V ch l).toNat) (rmk l.2.2.2.1 (rwd V ch l)) = 0
        · rw [if_neg z4] at hx; cases hx
        rw [if_pos (Decidable.not_not.1 z4)] at hx
        by_cases z5 : rn l.2.2.2.1 (rwd V ch l) = rn l.2.1 (lwd V chs k l)
        · exact Or.inr ⟨by omega, z3, z5, fun w => absurd w z2, fun w => absurd w y3⟩
        · rw [if_neg z5] at hx; cases hx
end
