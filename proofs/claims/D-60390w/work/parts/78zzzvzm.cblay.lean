/-! CHIPS, 39: the board: places of bits -/
theorem wfl_mono (ws : List Int) {a b : Nat} (h : a ≤ b) : wfl ws a ≤ wfl ws b := by
  induction b with
  | zero => rw [show a = 0 by omega]; exact Nat.le_refl _
  | succ b ih =>
    by_cases e : a = b + 1
    · rw [e]; exact Nat.le_refl _
    · have := ih (by omega)
      show wfl ws a ≤ wfl ws b + _
      omega
section
variable {K V : Nat → Int} {chs : List cCh} {ch : cCh}
theorem ism_mono (X : Nat → Int) {a b : Nat} (h : a ≤ b) : ism X a ≤ ism X b := by
  induction b with
  | zero => rw [show a = 0 by omega]; exact Nat.le_refl _
  | succ b ih =>
    by_cases e : a = b + 1
    · rw [e]; exact Nat.le_refl _
    · have := ih (by omega)
      show ism X a ≤ ism X b + _
      omega
theorem wfl_c (ch : cCh) : ∀ p, p ≤ ch.2.1.length → wfl (cWs V ch) p = wsm V (ch.2.1.take p)
  | 0, _ => by rw [List.take_zero]; rfl
  | p + 1, h => by
    have hp : p < ch.2.1.length := by omega
    show wfl (cWs V ch) p + _ = _
    rw [wfl_c ch p (by omega), List.take_succ_eq_append_getElem hp, wsm_app]
    show _ = _ + ((c_w V ch.2.1[p].2).toNat + 0)
    unfold cWs
    rw [List.getD_eq_getElem?_getD, List.getElem?_map, List.getElem?_eq_getElem hp]
    rfl
theorem wfl_all (ch : cCh) : wfl (cWs V ch) ch.2.1.length = wsm V ch.2.1 := by rw [wfl_c ch _ (Nat.le_refl _), List.take_of_length_le (Nat.le_refl _)]
/-- bits of a part's ownx pins; of its IN pins -/
def pbt (V : Nat → Int) (chs : List cCh) (k : Nat) : Nat := wfl (kWd V chs k) (kNm V chs k).length
def ibt (V : Nat → Int) (chs : List cCh) (k : Nat) : Nat := wfl (kWd V chs k) (kIp chs k)
theorem pbt_01 : pbt V chs 0 = 3 ∧ pbt V chs 1 = 2 ∧ ibt V chs 0 = 2 ∧ ibt V chs 1 = 1 := ⟨rfl, rfl, rfl, rfl⟩
theorem pbt_c {c : Nat} (hc : chs[c]? = some ch) : pbt V chs (2 + c) = wsm V ch.2.1 ∧ ibt V chs (2 + c) = wfl (cWs V ch) ch.2.2.1 := by
  unfold pbt ibt
  rw [(kNm_c (V := V) hc).1, (kNm_c (V := V) hc).2.1, (kNm_c (V := V) hc).2.2, show (cNm V ch).length = ch.2.1.length by unfold cNm; rw [List.length_map]]
  exact ⟨wfl_all ch, rfl⟩
/-- where links lie -/
theorem lof_rg {k : Nat} {l : cLk} (H : lkP K V chs k ch l) (h0 : 0 ≤ l.2.1.2.1) : 1 ≤ lcn V chs k l ∧ lcn V chs k l ≤ 16 ∧ lof V chs k l + lcn V chs k l ≤ wfl (kWd V chs k) ((lpn V chs k l).toNat + 1) ∧ wfl (kWd V chs k) (lpn V chs k l).toNat ≤ lof V chs k l ∧ ((lcn V chs k l : Nat) : Int) = rn l.2.1 (lwd V chs k l) ∧ lof V chs k l + lcn V chs k l ≤ pbt V chs k ∧ (lpn V chs k l < kIp chs k → lof V chs k l + lcn V chs k l ≤ ibt V chs k) ∧ (¬ lpn V chs k l < kIp chs k → ibt V chs k ≤ lof V chs k l) := by
  obtain ⟨⟨p0, p1⟩, y, -⟩ := H
  have wr := lwd_rg (V := V) (chs := chs) k l
  have r0 : 0 ≤ rlo l.2.1 := by unfold rlo; split <;> omega
  have we : (kWd V chs k).getD (lpn V chs k l).toNat 1 = lwd V chs k l := rfl
  have ws : wfl (kWd V chs k) ((lpn V chs k l).toNat + 1) = wfl (kWd V chs k) (lpn V chs k l).toNat + (lwd V chs k l).toNat := by show _ + _ = _; rw [we]
  unfold rok at y
  have m1 : wfl (kWd V chs k) ((lpn V chs k l).toNat + 1) ≤ pbt V chs k := wfl_mono _ (by omega)
  have c1 : ((lcn V chs k l : Nat) : Int) = rn l.2.1 (lwd V chs k l) := by unfold lcn rn; omega
  have c2 : rn l.2.1 (lwd V chs k l) = rhi l.2.1 (lwd V chs k l) - rlo l.2.1 + 1 := rfl
  have e1 : lof V chs k l = wfl (kWd V chs k) (lpn V chs k l).toNat + (rlo l.2.1).toNat := rfl
  refine ⟨by omega, by omega, by omega, by omega, c1, by omega, fun z => ?_, fun z => ?_⟩
  · have : wfl (kWd V chs k) ((lpn V chs k l).toNat + 1) ≤ ibt V chs k := wfl_mono _ (by omega)
    omega
  · have : ibt V chs k ≤ wfl (kWd V chs k) (lpn V chs k l).toNat := wfl_mono _ (by omega)
    omega
theorem rof_rg {k : Nat} {l : cLk} (H : lkP K V chs k ch l) (h0 : 0 ≤ l.2.1.2.1) (h1 : 0 ≤ l.2.2.2.1.2.1) (hin : ch.2.2.1 ≤ ch.2.1.length) (kr : K l.2.2.1 = 2) : rof K V chs ch l + lcn V chs k l ≤ ownx K V chs ch ∧ (¬ lpn V chs k l < kIp chs k → wfl (cWs V ch) ch.2.2.1 ≤ rof K V chs ch l) ∧ (lpn V chs k l < kIp chs k → rof K V chs ch l + lcn V chs k l ≤ wfl (cWs V ch) ch.2.2.1 ∨ wsm V ch.2.1 ≤ rof K V chs ch l) := by
  obtain ⟨l1, l2, -, -, l5, -⟩ := lof_rg H h0
  obtain ⟨-, -, z | ⟨-, z⟩⟩ := H
  · rw [kr] at z; exact absurd z.1 (by decide)
  unfold rof ownx
  rcases z with ⟨z1, ⟨z2, z3⟩, z4, z5⟩ | ⟨⟨z1, z2⟩, z3, z4, z5⟩
  · rw [if_pos z1]
    have m1 : ism (cIW K V chs ch) ((rin V ch l).toNat + 1) ≤ ism (cIW K V chs ch) ch.2.2.2.2.length := ism_mono _ (by omega)
    have s1 : ism (cIW K V chs ch) ((rin V ch l).toNat + 1) = ism (cIW K V chs ch) (rin V ch l).toNat + (cIW K V chs ch (rin V ch l).toNat).toNat := rfl
    have w1 : wfl (cWs V ch) ch.2.2.1 ≤ wsm V ch.2.1 := by rw [← wfl_all]; exact wfl_mono _ hin
    refine ⟨by omega, fun _ => by omega, fun _ => Or.inr (by omega)⟩
  · rw [if_neg (by omega)]
    have wr := rwd_rg (V := V) ch l
    have r0 : 0 ≤ rlo l.2.2.2.1 := by unfold rlo; split <;> omega
    have we : (cWs V ch).getD (rpn V ch l).toNat 1 = rwd V ch l := rfl
    have ws : wfl (cWs V ch) ((rpn V ch l).toNat + 1) = wfl (cWs V ch) (rpn V ch l).toNat + (rwd V ch l).toNat := by show _ + _ = _; rw [we]
    have m1 : wfl (cWs V ch) ((rpn V ch l).toNat + 1) ≤ wsm V ch.2.1 := by rw [← wfl_all]; exact wfl_mono _ (by omega)
    have c2 : rn l.2.2.2.1 (rwd V ch l) = rhi l.2.2.2.1 (rwd V ch l) - rlo l.2.2.2.1 + 1 := rfl
    unfold rok at z3
    refine ⟨by omega, fun w => ?_, fun w => Or.inl ?_⟩
    · have : wfl (cWs V ch) ch.2.2.1 ≤ wfl (cWs V ch) (rpn V ch l).toNat := wfl_mono _ (by omega)
      omega
    · have : wfl (cWs V ch) ((rpn V ch l).toNat + 1) ≤ wfl (cWs V ch) ch.2.2.1 := wfl_mono _ (by omega)
      omega
end
/-- a row of places gets numbers -/
def fill (S : Nat → Int) (a n : Nat) (f : Nat → Int) : Nat → Int := fun x => if a ≤ x ∧ x < a + n then f (x - a) else S x
section
variable (K V : Nat → Int) (chs : List cCh)
/-- what a link does with the row of sources; z, o: nothing, true -/
def lnk (z o : Int) (pb ob k : Nat) (ch : cCh) (l : cLk) (S : Nat → Int) : Nat → Int :=
  if K l.2.2.1 = 2 then (if lpn V chs k l < kIp chs k then fill S (pb + lof V chs k l) (lcn V chs k l) (fun i => ((ob + rof K V chs ch l + i : Nat) : Int)) else fill S (ob + rof K V chs ch l) (lcn V chs k l) (fun i => ((pb + lof V chs k l + i : Nat) : Int)))
  else fill S (pb + lof V chs k l) (lcn V chs k l) (fun _ => if V l.2.2.1 = 4 then o else z)
def lnks (z o : Int) (pb ob k : Nat) (ch : cCh) : List cLk → (Nat → Int) → Nat → Int
  | [], S => S
  | l :: ls, S => lnks z o pb ob k ch ls (lnk K V chs z o pb ob k ch l S)
/-- in a part: -1 nothing, -2 true, or a place of the chip's ownx -/
def fP1 (k : Nat) (ch : cCh) (l : cLk) (F : Nat → Option Int) : Nat → Option Int := fun x =>
  if (lpn V chs k l < kIp chs k ∨ K l.2.2.1 ≠ 2) ∧ lof V chs k l ≤ x ∧ x < lof V chs k l + lcn V chs k l then some (if K l.2.2.1 = 2 then ((rof K V chs ch l + (x - lof V chs k l) : Nat) : Int) else if V l.2.2.1 = 4 then -2 else -1) else F x
def fPl (k : Nat) (ch : cCh) : List cLk → (Nat → Option Int) → Nat → Option Int
  | [], F => F
  | l :: ls, F => fPl k ch ls (fP1 K V chs k ch l F)
/-- of the chip's ownx: a place of the part -/
def fO1 (k : Nat) (ch : cCh) (l : cLk) (F : Nat → Option Nat) : Nat → Option Nat := fun x =>
  if (¬ lpn V chs k l < kIp chs k ∧ K l.2.2.1 = 2) ∧ rof K V chs ch l ≤ x ∧ x < rof K V chs ch l + lcn V chs k l then some (lof V chs k l + (x - rof K V chs ch l)) else F x
def fOl (k : Nat) (ch : cCh) : List cLk → (Nat → Option Nat) → Nat → Option Nat
  | [], F => F
  | l :: ls, F => fOl k ch ls (fO1 K V chs k ch l F)
end
def encv (z o : Int) (ob : Nat) (v : Int) : Int := if v = -1 then z else if v = -2 then o else (ob : Int) + v
section
variable {K V : Nat → Int} {chs : List cCh} {ch : cCh}
/-- one link, as seen from both blocks -/
theorem lnk_at {z o : Int} {pb ob k m : Nat} {l : cLk} {S S0 : Nat → Int} {F : Nat → Option Int} {G : Nat → Option Nat} (H : lkP K V chs k ch l) (h0 : 0 ≤ l.2.1.2.1) (h1 : 0 ≤ l.2.2.2.1.2.1) (hin : ch.2.2.1 ≤ ch.2.1.length) (hm : pbt V chs k ≤ m) (hd : pb + m ≤ ob ∨ ob + ownx K V chs ch ≤ pb)
    (hF : ∀ x, x < m → S (pb + x) = match F x with | some v => encv z o ob v | none => S0 (pb + x)) (hG : ∀ x, x < ownx K V chs ch → S (ob + x) = match G x with | some y => ((pb + y : Nat) : Int) | none => S0 (ob + x)) (hN : ∀ x, (x < pb ∨ pb + m ≤ x) → (x < ob ∨ ob + ownx K V chs ch ≤ x) → S x = S0 x) :
    (∀ x, x < m → lnk K V chs z o pb ob k ch l S (pb + x) = match fP1 K V chs k ch l F x with | some v => encv z o ob v | none => S0 (pb + x)) ∧ (∀ x, x < ownx K V chs ch → lnk K V chs z o pb ob k ch l S (ob + x) = match fO1 K V chs k ch l G x with | some y => ((pb + y : Nat) : Int) | none => S0 (ob + x)) ∧ ∀ x, (x < pb ∨ pb + m ≤ x) → (x < ob ∨ ob + ownx K V chs ch ≤ x) → lnk K V chs z o pb ob k ch l S x = S0 x := by
  obtain ⟨l1, l2, -, -, l5, l6, -⟩ := lof_rg H h0
  unfold lnk fP1 fO1
  by_cases kr : K l.2.2.1 = 2
  · obtain ⟨r1, -⟩ := rof_rg H h0 h1 hin kr
    rw [if_pos kr]
    by_cases y : lpn V chs k l < kIp chs k
    · rw [if_pos y]
      refine ⟨fun x hx => ?_, fun x hx => ?_, fun x hx1 hx2 => ?_⟩
      · unfold fill
        by_cases w : lof V chs k l ≤ x ∧ x < lof V chs k l + lcn V chs k l
        · rw [if_pos (show pb + lof V chs k l ≤ pb + x ∧ pb + x < pb + lof V chs k l + lcn V chs k l by omega), if_pos (show (lpn V chs k l < kIp chs k ∨ K l.2.2.1 ≠ 2) ∧ lof V chs k l ≤ x ∧ x < lof V chs k l + lcn V chs k l from ⟨Or.inl y, w⟩), if_pos kr]
          show ((ob + rof K V chs ch l + (pb + x - (pb + lof V chs k l)) : Nat) : Int) = encv z o ob ((rof K V chs ch l + (x - lof V chs k l) : Nat) : Int)
          unfold encv
          rw [if_neg (by omega), if_neg (by omega), show pb + x - (pb + lof V chs k l) = x - lof V chs k l by omega]
          omega
        · rw [if_neg (show ¬ (pb + lof V chs k l ≤ pb + x ∧ pb + x < pb + lof V chs k l + lcn V chs k l) by omega), if_neg (fun z => w z.2)]
          exact hF x hx
      · unfold fill
        rw [if_neg (show ¬ (pb + lof V chs k l ≤ ob + x ∧ ob + x < pb + lof V chs k l + lcn V chs k l) by omega), if_neg (fun z => z.1.1 y)]
        exact hG x hx
      · unfold fill
        rw [if_neg (show ¬ (pb + lof V chs k l ≤ x ∧ x < pb + lof V chs k l + lcn V chs k l) by omega)]
        exact hN x hx1 hx2
    · rw [if_neg y]
      refine ⟨fun x hx => ?_, fun x hx => ?_, fun x hx1 hx2 => ?_⟩
      · unfold fill
        rw [if_neg (show ¬ (ob + rof K V chs ch l ≤ pb + x ∧ pb + x < ob + rof K V chs ch l + lcn V chs k l) by omega), if_neg (fun z => z.1.elim y (fun w => w kr))]
        exact hF x hx
      · unfold fill
        by_cases w : rof K V chs ch l ≤ x ∧ x < rof K V chs ch l + lcn V chs k l
        · rw [if_pos (show ob + rof K V chs ch l ≤ ob + x ∧ ob + x < ob + rof K V chs ch l + lcn V chs k l by omega), if_pos (show (¬ lpn V chs k l < kIp chs k ∧ K l.2.2.1 = 2) ∧ rof K V chs ch l ≤ x ∧ x < rof K V chs ch l + lcn V chs k l from ⟨⟨y, kr⟩, w⟩)]
          show ((pb + lof V chs k l + (ob + x - (ob + rof K V chs ch l)) : Nat) : Int) = ((pb + (lof V chs k l + (x - rof K V chs ch l)) : Nat) : Int)
          rw [show ob + x - (ob + rof K V chs ch l) = x - rof K V chs ch l by omega, Nat.add_assoc]
        · rw [if_neg (show ¬ (ob + rof K V chs ch l ≤ ob + x ∧ ob + x < ob + rof K V chs ch l + lcn V chs k l) by omega), if_neg (fun z => w z.2)]
          exact hG x hx
      · unfold fill
        rw [if_neg (show ¬ (ob + rof K V chs ch l ≤ x ∧ x < ob + rof K V chs ch l + lcn V chs k l) by omega)]
        exact hN x hx1 hx2
  · rw [if_neg kr]
    refine ⟨fun x hx => ?_, fun x hx => ?_, fun x hx1 hx2 => ?_⟩
    · unfold fill
      by_cases w : lof V chs k l ≤ x ∧ x < lof V chs k l + lcn V chs k l
      · rw [if_pos (show pb + lof V chs k l ≤ pb + x ∧ pb + x < pb + lof V chs k l + lcn V chs k l by omega), if_pos (show (lpn V chs k l < kIp chs k ∨ K l.2.2.1 ≠ 2) ∧ lof V chs k l ≤ x ∧ x < lof V chs k l + lcn V chs k l from ⟨Or.inr kr, w⟩)]
        show (if V l.2.2.1 = 4 then o else z) = encv z o ob (if K l.2.2.1 = 2 then _ else if V l.2.2.1 = 4 then -2 else -1)
        rw [if_neg kr]
        unfold encv
        by_cases v4 : V l.2.2.1 = 4
        · rw [if_pos v4, if_pos v4, if_neg (by decide), if_pos rfl]
        · rw [if_neg v4, if_neg v4, if_pos rfl]
      · rw [if_neg (show ¬ (pb + lof V chs k l ≤ pb + x ∧ pb + x < pb + lof V chs k l + lcn V chs k l) by omega), if_neg (fun z => w z.2)]
        exact hF x hx
    · unfold fill
      rw [if_neg (show ¬ (pb + lof V chs k l ≤ ob + x ∧ ob + x < pb + lof V chs k l + lcn V chs k l) by omega), if_neg (fun z => kr z.1.2)]
      exact hG x hx
    · unfold fill
      rw [if_neg (show ¬ (pb + lof V chs k l ≤ x ∧ x < pb + lof V chs k l + lcn V chs k l) by omega)]
      exact hN x hx1 hx2
theorem lnks_at {z o : Int} {pb ob k m : Nat} {S0 : Nat → Int} (hin : ch.2.2.1 ≤ ch.2.1.length) (hm : pbt V chs k ≤ m) (hd : pb + m ≤ ob ∨ ob + ownx K V chs ch ≤ pb) : ∀ (ls : List cLk) {S : Nat → Int} {F : Nat → Option Int} {G : Nat → Option Nat}, (∀ l ∈ ls, lkP K V chs k ch l ∧ 0 ≤ l.2.1.2.1 ∧ 0 ≤ l.2.2.2.1.2.1) →
    (∀ x, x < m → S (pb + x) = match F x with | some v => encv z o ob v | none => S0 (pb + x)) → (∀ x, x < ownx K V chs ch → S (ob + x) = match G x with | some y => ((pb + y : Nat) : Int) | none => S0 (ob + x)) → (∀ x, (x < pb ∨ pb + m ≤ x) → (x < ob ∨ ob + ownx K V chs ch ≤ x) → S x = S0 x) →
    (∀ x, x < m → lnks K V chs z o pb ob k ch ls S (pb + x) = match fPl K V chs k ch ls F x with | some v => encv z o ob v | none => S0 (pb + x)) ∧ (∀ x, x < ownx K V chs ch → lnks K V chs z o pb ob k ch ls S (ob + x) = match fOl K V chs k ch ls G x with | some y => ((pb + y : Nat) : Int) | none => S0 (ob + x)) ∧ ∀ x, (x < pb ∨ pb + m ≤ x) → (x < ob ∨ ob + ownx K V chs ch ≤ x) → lnks K V chs z o pb ob k ch ls S x = S0 x
  | [], S, F, G, hl, hF, hG, hN => ⟨hF, hG, hN⟩
  | l :: ls, S, F, G, hl, hF, hG, hN => by
    obtain ⟨p1, p2, p3⟩ := hl l (List.mem_cons_self ..)
    obtain ⟨a, b, c⟩ := lnk_at p1 p2 p3 hin hm hd hF hG hN
    exact lnks_at hin hm hd ls (fun l' hl' => hl l' (List.mem_cons_of_mem _ hl')) a b c
end
