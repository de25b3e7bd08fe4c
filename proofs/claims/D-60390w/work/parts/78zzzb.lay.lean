/-! LOAD, 1: lists of lines: places, words, targets -/
theorem lfold_app (q : Nat × Nat) (a b : List vl) : lfold q (a ++ b) = lfold (lfold q a) b := List.foldl_append
theorem lfold_cons (q : Nat × Nat) (l : vl) (b : List vl) : lfold q (l :: b) = lfold (lstp q l) b := rfl
theorem lwn_le (l : vl) : lwn l ≤ wnl l := by
  obtain ⟨op, sg, k⟩ := l
  unfold lwn
  match op with
  | 0 => match sg with
    | 0 | 1 | 2 | 3 | _ + 4 => exact Nat.le_refl _
  | 1 => match sg with
    | 0 | 1 | 2 | 3 | 4 | _ + 5 => exact Nat.le_refl _
  | 2 | 3 | 4 | 5 | 6 | 7 | 8 | 9 | 10 | 11 | 12 | 13 | 15 | 16 | 19 => exact Nat.le_refl _
  | 14 => exact Nat.zero_le _
  | 17 => match sg with
    | 0 | _ + 1 => exact Nat.le_refl _
  | 18 => match sg with
    | 0 | _ + 1 => exact Nat.le_refl _
  | 20 => exact Nat.zero_le _
  | _ + 21 => exact Nat.le_refl _
theorem lstp_wn (q : Nat × Nat) (l : vl) : (lstp q l).1 + (if (lstp q l).2 = 0 then 0 else 1) ≤ q.1 + (if q.2 = 0 then 0 else 1) + wnl l := by
  by_cases n20 : l.1 = 20
  · obtain ⟨op, sg, k⟩ := l
    dsimp only at n20
    subst n20
    show (if q.2 = 0 then q.1 else q.1 + 1) + (if sg + 3 = 0 then 0 else 1) ≤ q.1 + (if q.2 = 0 then 0 else 1) + 1
    rw [if_neg (show ¬ sg + 3 = 0 by omega)]
    split <;> omega
  · by_cases n11 : l.1 = 11
    · obtain ⟨op, sg, k⟩ := l
      dsimp only at n11
      subst n11
      show (if q.2 = 0 then q.1 else q.1 + 1) + 0 ≤ q.1 + (if q.2 = 0 then 0 else 1) + 0
      split <;> omega
    · by_cases n14 : l.1 = 14
      · obtain ⟨op, sg, k⟩ := l
        dsimp only at n14
        subst n14
        show q.1 + 12 + 5 * k + 0 ≤ q.1 + (if q.2 = 0 then 0 else 1) + (12 + 5 * k)
        split <;> omega
      · rw [(rat_n (h := fun _ _ => 0) (gv := fun _ => 0) (wd := 0) (q := q) n20 n11 n14).2]
        have := lwn_le l
        show q.1 + lwn l + 0 ≤ _
        split <;> omega
theorem lfold_wn : ∀ (vs : List vl) (q : Nat × Nat), (lfold q vs).1 + (if (lfold q vs).2 = 0 then 0 else 1) ≤ q.1 + (if q.2 = 0 then 0 else 1) + wns vs
  | [], q => by show q.1 + _ ≤ q.1 + _ + 0; exact Nat.le_refl _
  | l :: vs, q => by
    have h1 := lstp_wn q l
    have h2 := lfold_wn vs (lstp q l)
    show (lfold (lstp q l) vs).1 + (if (lfold (lstp q l) vs).2 = 0 then 0 else 1) ≤ q.1 + (if q.2 = 0 then 0 else 1) + (wnl l + wns vs)
    omega
/-- the watch that is still to be put behind lines -/
def lpd (pd : Nat) : List vl → Nat
  | [] => pd
  | l :: r => lpd (npd l) r
theorem lpd_fold : ∀ (vs : List vl) (q : Nat × Nat), (lfold q vs).2 = lpd q.2 vs
  | [], _ => rfl
  | l :: vs, q => by show (lfold (lstp q l) vs).2 = lpd (npd l) vs; rw [lpd_fold vs, lstp_npd]
theorem lpd_app : ∀ (a b : List vl) (pd : Nat), lpd pd (a ++ b) = lpd (lpd pd a) b
  | [], _, _ => rfl
  | l :: a, b, pd => lpd_app a b (npd l)
theorem LGo_app {gv : Nat → Nat} : ∀ {a b : List vl} {pd : Nat}, LGo gv pd (a ++ b) ↔ LGo gv pd a ∧ LGo gv (lpd pd a) b
  | [], b, pd => ⟨fun h => ⟨trivial, h⟩, fun h => h.2⟩
  | l :: a, b, pd => by
    show lgo gv pd l ∧ LGo gv (npd l) (a ++ b) ↔ (lgo gv pd l ∧ LGo gv (npd l) a) ∧ LGo gv (lpd (npd l) a) b
    rw [LGo_app (a := a)]
    exact ⟨fun h => ⟨⟨h.1, h.2.1⟩, h.2.2⟩, fun h => ⟨h.1.1, h.1.2, h.2⟩⟩
theorem tgts_app : ∀ (a b : List vl), tgts (a ++ b) = tgts a ++ tgts b
  | [], _ => rfl
  | l :: a, b => by show tgt l ++ tgts (a ++ b) = tgt l ++ tgts a ++ tgts b; rw [tgts_app a b, List.append_assoc]
/-- an item within all lines -/
theorem rgn_succ {α : Type} (f : Nat → List α) (k m : Nat) : rgn f k (m + 1) = f k ++ rgn f (k + 1) m := by
  have := rgn_add f k 1 m
  rw [show 1 + m = m + 1 by omega] at this
  rw [this]
  show ([] ++ f (k + 0)) ++ _ = _
  rfl
theorem tU_sub {α : Type} {hd it : Nat → List α} {fi : Nat → Int} {s k : Nat} : tU hd it fi (s + 1) k = tU hd it fi s (fi s).toNat ++ hd s ++ rgn it (fi s).toNat (k - (fi s).toNat) := rfl
theorem tU_next {α : Type} {hd it : Nat → List α} {fi : Nat → Int} {s k : Nat} (h : (fi s).toNat ≤ k) : tU hd it fi (s + 1) (k + 1) = tU hd it fi (s + 1) k ++ it k := by
  rw [tU_sub, tU_sub, show k + 1 - (fi s).toNat = (k - (fi s).toNat) + 1 by omega]
  show _ ++ (rgn it (fi s).toNat (k - (fi s).toNat) ++ it ((fi s).toNat + (k - (fi s).toNat))) = _
  rw [show (fi s).toNat + (k - (fi s).toNat) = k by omega, List.append_assoc, List.append_assoc, List.append_assoc]
/-- where a sub ends -/
def sbE (fi : Nat → Int) (n3 N s : Nat) : Nat := if s + 1 < n3 then (fi (s + 1)).toNat else N
theorem tU_item {α : Type} {hd it : Nat → List α} {fi : Nat → Int} {N n3 s k : Nat} (hs : s < n3) (h1 : (fi s).toNat ≤ k) (h2 : k < sbE fi n3 N s) : ∃ r, tU hd it fi n3 N = tU hd it fi (s + 1) k ++ it k ++ r := by
  have e := tV_tU hd it fi N n3 (n3 - (s + 1)) (s + 1) (by omega)
  have e2 : tU hd it fi (s + 1) (sbE fi n3 N s) = tU hd it fi (s + 1) k ++ it k ++ rgn it (k + 1) (sbE fi n3 N s - (k + 1)) := by
    rw [tU_sub, tU_sub, show sbE fi n3 N s - (fi s).toNat = (k - (fi s).toNat) + ((sbE fi n3 N s - (k + 1)) + 1) by omega, rgn_add, show (fi s).toNat + (k - (fi s).toNat) = k by omega, rgn_succ, List.append_assoc, List.append_assoc, List.append_assoc, List.append_assoc]
  have e : tU hd it fi (s + 1) (sbE fi n3 N s) ++ tV hd it fi N n3 (n3 - (s + 1)) (s + 1) = tU hd it fi n3 N := e
  exact ⟨rgn it (k + 1) (sbE fi n3 N s - (k + 1)) ++ tV hd it fi N n3 (n3 - (s + 1)) (s + 1), by rw [← e, e2, List.append_assoc]⟩
theorem tU_head2 {α : Type} {hd it : Nat → List α} {fi : Nat → Int} {N n3 s : Nat} (hs : s < n3) : ∃ r, tU hd it fi n3 N = tU hd it fi s (fi s).toNat ++ hd s ++ r := by
  have e := tV_tU hd it fi N n3 (n3 - (s + 1)) (s + 1) (by omega)
  rw [tU_sub] at e
  exact ⟨_, by rw [← e, List.append_assoc]⟩
