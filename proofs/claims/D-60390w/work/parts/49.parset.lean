/-! PURE LAYER, 19: strings and words; what an e leaves as it was -/
theorem gx_next_eq {sy : Bool} {K P : Nat → Int} {i j : Nat} (h : gx_next sy K P i = .inr j) : j = i + 1 := by
  unfold gx_next at h
  split at h
  · cases h
  · cases h; rfl
theorem gx_b_assoc {α β γ : Type} (x : gx_R α) (f : α → gx_R β) (F : β → gx_R γ) : gx_b (gx_b x f) F = gx_b x fun a => gx_b (f a) F := by cases x <;> rfl
theorem gx_b_inr {α β : Type} (a : α) (f : α → gx_R β) : gx_b (.inr a) f = f a := rfl
theorem gx_b_id {α : Type} (x : gx_R α) : gx_b x (fun a => .inr a) = x := by cases x <;> rfl
/-- what holds of an answer, if there is one -/
def gx_P {α : Type} (r : gx_R α) (Q : α → Prop) : Prop := ∀ a, r = .inr a → Q a
theorem gx_P_b {α β : Type} {r : gx_R α} {f : α → gx_R β} {Q : β → Prop} (h : ∀ a, r = .inr a → gx_P (f a) Q) : gx_P (gx_b r f) Q := by
  intro b hb
  obtain ⟨a, e1, e2⟩ := gx_b_ok hb
  exact h a e1 b e2
theorem gx_P_i {α : Type} {a : α} {Q : α → Prop} (h : Q a) : gx_P (.inr a) Q := by intro b hb; cases hb; exact h
theorem gx_P_e {α : Type} {e : Int × Int} {Q : α → Prop} : gx_P (.inl e : gx_R α) Q := by intro b hb; cases hb
theorem gx_P_if {α : Type} {p : Prop} [Decidable p] {e : Int × Int} {x : gx_R α} {Q : α → Prop} (h : p → gx_P x Q) : gx_P (gx_if p e x) Q := by
  unfold gx_if
  split
  · rename_i c; exact h c
  · exact gx_P_e
theorem gx_P_q {α : Type} {p : Prop} [Decidable p] {x : gx_R α} {Q : α → Prop} (h : p → gx_P x Q) : gx_P (ce_q p x) Q := by
  unfold ce_q
  split
  · rename_i c; exact h c
  · exact gx_P_e
theorem gx_P_c {α : Type} {w : Bool} {p : Prop} [Decidable p] {e : Int × Int} {x : gx_R α} {Q : α → Prop} (h : gx_P x Q) : gx_P (ce_chk w p e x) Q := by
  unfold ce_chk
  split
  · exact gx_P_e
  · exact h
section
variable {sy : Bool} {K V P : Nat → Int} {σ : Type} {C : gx_V → σ → gx_R σ} {Rl : σ → σ → Prop}
/-- what every event keeps is kept by an e -/
theorem ge_rel (hr : ∀ s, Rl s s) (ht : ∀ a b c, Rl a b → Rl b c → Rl a c) (hC : ∀ e s s1, e.1 ≤ 12 → C e s = .inr s1 → Rl s s1) : ∀ (f m deep st i : Nat) (s : σ), gx_P (ge sy K V P C f m deep st i s) (fun a => Rl s a.2.2.1)
  | 0, _, _, _, _, _ => gx_P_e
  | f + 1, 0, deep, st, i, s => by
    have ih := ge_rel hr ht hC f
    rw [ge]
    split
    · exact gx_P_b fun s1 e1 => gx_P_b fun _ _ => gx_P_i (hC _ _ _ (by show 1 ≤ 12; decide) e1)
    split
    · exact gx_P_if fun _ => gx_P_b fun s1 e1 => gx_P_b fun _ _ => gx_P_i (hC _ _ _ (by show 5 ≤ 12; decide) e1)
    split
    · refine gx_P_if fun _ => gx_P_b fun s1 e1 => gx_P_b fun _ _ => gx_P_i (hC _ _ _ ?_ e1)
      split
      · show 4 ≤ 12; decide
      · split
        · decide
        · decide
    split
    · refine gx_P_b fun j _ => ?_
      split
      · exact gx_P_b fun s1 e1 => gx_P_b fun _ _ => gx_P_b fun r1 f1 => gx_P_b fun r2 f2 => gx_P_b fun _ _ => gx_P_b fun s2 e2 => gx_P_i (ht _ _ _ (hC _ _ _ (by show 6 ≤ 12; decide) e1) (ht _ _ _ (ih _ _ _ _ _ r1 f1) (ht _ _ _ (ih _ _ _ _ _ r2 f2) (hC _ _ _ (by decide) e2))))
      split
      · exact gx_P_b fun _ _ => gx_P_b fun _ _ => gx_P_b fun s1 e1 => gx_P_b fun _ _ => gx_P_b fun r1 f1 => gx_P_b fun s2 e2 => gx_P_i (ht _ _ _ (hC _ _ _ (by show 11 ≤ 12; decide) e1) (ht _ _ _ (ih _ _ _ _ _ r1 f1) (hC _ _ _ (by show 12 ≤ 12; decide) e2)))
      split
      · exact gx_P_b fun s1 e1 => gx_P_b fun _ _ => gx_P_b fun r1 f1 => gx_P_b fun s2 e2 => gx_P_i (ht _ _ _ (hC _ _ _ (by show 11 ≤ 12; decide) e1) (ht _ _ _ (ih _ _ _ _ _ r1 f1) (hC _ _ _ (by show 12 ≤ 12; decide) e2)))
      · exact gx_P_b fun s1 e1 => gx_P_i (hC _ _ _ (by show 6 ≤ 12; decide) e1)
    split
    · exact gx_P_b fun _ _ => gx_P_b fun r1 f1 => gx_P_b fun r2 f2 => gx_P_b fun _ _ => gx_P_i (ht _ _ _ (ih _ _ _ _ _ r1 f1) (ih _ _ _ _ _ r2 f2))
    · refine gx_P_if fun _ => gx_P_b fun _ _ => gx_P_b fun r1 f1 => gx_P_b fun s2 e2 => gx_P_i (ht _ _ _ (ih _ _ _ _ _ r1 f1) (hC _ _ _ ?_ e2))
      show (if V i = 45 then 9 else 10) ≤ 12
      split <;> decide
  | f + 1, 1, deep, st, i, s => by
    have ih := ge_rel hr ht hC f
    rw [ge]
    split
    · exact gx_P_b fun _ _ => gx_P_b fun r1 f1 => gx_P_b fun s1 e1 => fun a ea => ht _ _ _ (ih _ _ _ _ _ r1 f1) (ht _ _ _ (hC _ _ _ (by show 8 ≤ 12; decide) e1) (ih _ _ _ _ _ a ea))
    · exact gx_P_i (hr s)
  | f + 1, 2, deep, st, i, s => by
    have ih := ge_rel hr ht hC f
    rw [ge]
    split
    · exact gx_P_b fun _ _ => gx_P_i (hr s)
    · exact gx_P_b fun r1 f1 => gx_P_b fun r2 f2 => gx_P_b fun r3 f3 => gx_P_i (ht _ _ _ (ih _ _ _ _ _ r1 f1) (ht _ _ _ (ih _ _ _ _ _ r2 f2) (ih _ _ _ _ _ r3 f3)))
  | f + 1, m + 3, deep, st, i, s => by
    have ih := ge_rel hr ht hC f
    rw [ge]
    · split
      · exact gx_P_b fun _ _ => gx_P_i (hr s)
      · exact gx_P_b fun _ _ => gx_P_b fun r1 f1 => gx_P_b fun r2 f2 => gx_P_b fun r3 f3 => gx_P_i (ht _ _ _ (ih _ _ _ _ _ r1 f1) (ht _ _ _ (ih _ _ _ _ _ r2 f2) (ih _ _ _ _ _ r3 f3)))
    all_goals (intro z; omega)
end
/-- the count is small -/
theorem gx_count_rg (K V : Nat → Int) (at_ : Nat) : ∀ (f k : Nat) (o m : Int) (s : Bool) (v : Int), 0 ≤ m → gx_count K V at_ f k o m s = some v → 0 ≤ v ∧ v ≤ m + f
  | 0, _, _, _, _, _, _, h => by cases h
  | f + 1, k, o, m, s, v, hm, h => by
    unfold gx_count at h
    split at h
    · cases h; omega
    · have hm2 : 0 ≤ (if K k = 5 ∧ V k = 44 ∧ (if K k = 5 ∧ (V k = 40 ∨ V k = 91) then o + 1 else if K k = 5 ∧ (V k = 41 ∨ V k = 93) then o - 1 else o) = 1 then m + 1 else m) ∧ (if K k = 5 ∧ V k = 44 ∧ (if K k = 5 ∧ (V k = 40 ∨ V k = 91) then o + 1 else if K k = 5 ∧ (V k = 41 ∨ V k = 93) then o - 1 else o) = 1 then m + 1 else m) ≤ m + 1 := by split <;> omega
      by_cases c : (if K k = 5 ∧ (V k = 40 ∨ V k = 91) then o + 1 else if K k = 5 ∧ (V k = 41 ∨ V k = 93) then o - 1 else o) = 0
      · rw [if_pos c] at h
        have n44 : ¬ (K k = 5 ∧ V k = 44 ∧ (if K k = 5 ∧ (V k = 40 ∨ V k = 91) then o + 1 else if K k = 5 ∧ (V k = 41 ∨ V k = 93) then o - 1 else o) = 1) := by rintro ⟨-, -, z⟩; omega
        rw [if_neg n44] at h
        cases h
        split <;> omega
      · rw [if_neg c] at h
        have := gx_count_rg K V at_ f _ _ _ _ v hm2.1 h
        omega
section
variable {K V P : Nat → Int} {sy w : Bool} {g : am_H}
theorem ce_call_same {o x m : Int} : gx_P (ce_call w o x m g) (ce_same g) := by
  unfold ce_call; split
  · exact fun a e => ce_vm_same e
  · exact gx_P_i (ce_same.refl g)
theorem ce_tcall_same {o x m : Int} : gx_P (ce_tcall w sy o x m g) (ce_same g) := by
  unfold ce_tcall; split
  · exact gx_P_q fun _ => fun a e => ce_li_same e
  · exact gx_P_i (ce_same.refl g)
theorem gx_P_same {r : gx_R am_H} {f : am_H → gx_R am_H} (h1 : gx_P r (ce_same g)) (h2 : ∀ g1, gx_P (f g1) (ce_same g1)) : gx_P (gx_b r f) (ce_same g) := gx_P_b fun a e b hb => (h1 a e).trans (h2 a b hb)
theorem ce_vm_sm {op a b : Int} (g : am_H) : gx_P (ce_vm w op a b g) (ce_same g) := fun _ e => ce_vm_same e
theorem ce_li_sm {op a b : Int} (g : am_H) : gx_P (ce_li w sy op a b g) (ce_same g) := fun _ e => ce_li_same e
theorem ce_both_sm {a b : Int} (g : am_H) : gx_P (ce_both w sy a b g) (ce_same g) := gx_P_same (ce_vm_sm g) fun g1 => ce_li_sm g1
theorem ce_get_sm (g : am_H) : gx_P (ce_get w g) (ce_same g) := gx_P_q fun _ => ce_vm_sm g
theorem ce_set_sm (g : am_H) : gx_P (ce_set w g) (ce_same g) := gx_P_q fun _ => ce_vm_sm g
theorem ce_tvar_sm {op x : Int} (g : am_H) : gx_P (ce_tvar w sy op x g) (ce_same g) := fun _ e => ce_tvar_same e
theorem ce_load_sm {x wh : Int} (g : am_H) : gx_P (ce_load w sy x wh g) (ce_same g) := by
  unfold ce_load
  refine gx_P_c ?_
  split
  · exact gx_P_i (ce_same.refl g)
  · refine gx_P_c (gx_P_same (ce_tvar_sm g) fun g1 => ?_)
    split
    · exact gx_P_same (ce_vm_sm g1) fun g2 => ce_get_sm g2
    · exact ce_vm_sm g1
theorem ce_op_sm {c : Int} (g : am_H) : gx_P (ce_op w sy c g) (ce_same g) := by
  unfold ce_op
  repeat' split
  all_goals first | exact ce_both_sm g | exact gx_P_same ce_call_same fun g1 => ce_tcall_same
theorem ce_chars_sm {s : Int} {from_ : Nat} : ∀ (m k : Nat) (g : am_H), gx_P (ce_chars w sy s from_ m k g) (ce_same g)
  | 0, _, g => gx_P_i (ce_same.refl g)
  | m + 1, k, g => by
    unfold ce_chars
    exact gx_P_same (ce_vm_sm g) fun g1 => gx_P_same ce_call_same fun g2 => gx_P_same (ce_li_sm g2) fun g3 => gx_P_same ce_tcall_same fun g4 => ce_chars_sm m (k + 1) g4
theorem ce_str_sm {i : Nat} (g : am_H) : gx_P (ce_str w sy V P i g) (ce_same g) := by
  unfold ce_str
  exact gx_P_q fun _ => gx_P_same (ce_vm_sm g) fun g1 => gx_P_same ce_call_same fun g2 => gx_P_same (ce_li_sm g2) fun g3 => gx_P_same ce_tcall_same fun g4 => ce_chars_sm _ _ g4
/-- the second half of a call's beginning -/
def ce_begin2 (w sy : Bool) (K V P : Nat → Int) (i j : Nat) (g1 : am_H) : gx_R am_H :=
    ce_chk w (ce_cc w sy V g1 i j ≠ -1 ∧ ce_sof sy g1 (ce_cc w sy V g1 i j) (V j) ≠ -1) (4, P j)
      (ce_chk w ((g1 220 (ce_cs w sy V g1 i j).toNat = 3) ↔ ce_obj V g1 i j) (5, P j)
        (match gx_count K V (j + 1) 4500 (j + 1) 0 0 false with
         | none => .inl (8, 0)
         | some many => ce_chk w (g1 221 (ce_cs w sy V g1 i j).toNat = many) (5, P j) (ce_chk w (i ≠ j ∨ g1 212 14 ≠ 2) (6, P i) (.inr g1))))
theorem ce_begin_eq (i j : Nat) : ce_begin w sy K V P i j g = ce_q (ce_nm g (V i) ∧ ce_nm g (V j) ∧ (0 ≤ g 212 20 ∧ g 212 20 ≤ g 213 3)) (gx_b
    (if i = j then
      ce_chk w (ce_sof sy g (g 212 13) (V i) ≠ -1) (4, P i) (ce_chk w (g 220 (if ce_sof sy g (g 212 13) (V i) ≤ 0 then 0 else ce_sof sy g (g 212 13) (V i)).toNat = 3) (5, P i) (gx_b (ce_vm w 0 4 0 g) (ce_li w sy 0 6 0)))
     else ce_chk w (ce_var g (V i) ∨ ce_cof sy g (V i) ≠ -1) (4, P i) (if ce_var g (V i) then ce_load w sy (V i) (P i) g else .inr g)) (ce_begin2 w sy K V P i j)) := rfl
theorem ce_begin2_eq {i j : Nat} {g1 : am_H} : gx_P (ce_begin2 w sy K V P i j g) (fun a => a = g) := by
  unfold ce_begin2
  refine gx_P_c (gx_P_c ?_)
  split
  · exact gx_P_e
  · exact gx_P_c (gx_P_c (gx_P_i rfl))
theorem ce_begin_sm {i j : Nat} (g : am_H) : gx_P (ce_begin w sy K V P i j g) (ce_same g) := by
  rw [ce_begin_eq]
  refine gx_P_q fun _ => gx_P_same ?_ fun g1 a ea => by rw [ce_begin2_eq (g1 := g1) a ea]; exact ce_same.refl g1
  split
  · exact gx_P_c (gx_P_c (gx_P_same (ce_vm_sm g) fun g1 => ce_li_sm g1))
  · refine gx_P_c ?_
    split
    · exact ce_load_sm g
    · exact gx_P_i (ce_same.refl g)
theorem ce_end_sm {i j : Nat} (g : am_H) : gx_P (ce_end w sy K V i j g) (ce_same g) := by
  unfold ce_end
  split
  · exact gx_P_e
  · exact gx_P_same (ce_vm_sm g) fun g1 => ce_li_sm g1
theorem ce_h_sm {q : Int × Int × Int × Int × Int × List (Int × Int × Int × Int)} {r : gx_R am_H} (h : gx_P r (ce_same g)) : gx_P (ce_h (g, q) r) (fun s => ce_same g s.1 ∧ s.2 = q) := gx_P_b fun a e => gx_P_i ⟨h a e, rfl⟩
/-- the events of an e keep all but the code and what is told -/
theorem ce_ev_sm (e : gx_V) (s s1 : ce_S) (he : e.1 ≤ 12) (h : ce w sy K V P e s = .inr s1) : ce_same s.1 s1.1 ∧ s1.2 = s.2 := by
  obtain ⟨g, q⟩ := s
  obtain ⟨n, a, b, c⟩ := e
  have he : n ≤ 12 := he
  revert h
  show ce w sy K V P (n, a, b, c) (g, q) = .inr s1 → _
  have cases12 : n = 0 ∨ n = 1 ∨ n = 2 ∨ n = 3 ∨ n = 4 ∨ n = 5 ∨ n = 6 ∨ n = 7 ∨ n = 8 ∨ n = 9 ∨ n = 10 ∨ n = 11 ∨ n = 12 := by omega
  rcases cases12 with rfl | rfl | rfl | rfl | rfl | rfl | rfl | rfl | rfl | rfl | rfl | rfl | rfl
  · intro h; cases h
  · exact ce_h_sm (gx_P_same (ce_vm_sm g) fun g1 => ce_li_sm g1) s1
  · exact ce_h_sm (gx_P_same (ce_vm_sm g) fun g1 => gx_P_same (ce_li_sm g1) fun g2 => ce_both_sm g2) s1
  · exact ce_h_sm (gx_P_same (ce_vm_sm g) fun g1 => ce_li_sm g1) s1
  · exact ce_h_sm (gx_P_c (gx_P_same (ce_vm_sm g) fun g1 => ce_li_sm g1)) s1
  · exact ce_h_sm (ce_str_sm g) s1
  · exact ce_h_sm (gx_P_q fun _ => ce_load_sm g) s1
  · exact ce_h_sm (gx_P_same (ce_both_sm g) fun g1 => gx_P_same (ce_get_sm g1) fun g2 => gx_P_same (ce_li_sm g2) fun g3 => ce_li_sm g3) s1
  · exact ce_h_sm (ce_op_sm g) s1
  · exact ce_h_sm (ce_both_sm g) s1
  · exact ce_h_sm (ce_both_sm g) s1
  · exact ce_h_sm (ce_begin_sm g) s1
  · exact ce_h_sm (ce_end_sm g) s1
theorem ge_same (f m deep st i : Nat) (s : ce_S) : gx_P (ge sy K V P (ce w sy K V P) f m deep st i s) (fun a => ce_same s.1 a.2.2.1.1 ∧ a.2.2.1.2 = s.2) :=
  ge_rel (Rl := fun s s1 => ce_same s.1 s1.1 ∧ s1.2 = s.2) (fun s => ⟨ce_same.refl _, rfl⟩) (fun (a b c : ce_S) (h1 : ce_same a.1 b.1 ∧ b.2 = a.2) (h2 : ce_same b.1 c.1 ∧ c.2 = b.2) => ⟨h1.1.trans h2.1, h2.2.trans h1.2⟩) (fun e s s1 he h => ce_ev_sm e s s1 he h) f m deep st i s
end
