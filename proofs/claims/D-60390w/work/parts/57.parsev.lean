/-! PURE LAYER, 27: what statements keep; variables are declared -/
section
variable {sy : Bool} {K V P : Nat → Int} {σ : Type} {C : gx_V → σ → gx_R σ} {Rl : σ → σ → Prop}
theorem ge_e_rel (hr : ∀ s, Rl s s) (ht : ∀ a b c, Rl a b → Rl b c → Rl a c) (hC : ∀ e s s1, e.1 ≤ 12 → C e s = .inr s1 → Rl s s1) (f deep st i : Nat) (s : σ) : gx_P (ge_e sy K V P C f deep st i s) (fun a => Rl s a.2.2.1) :=
  gx_P_b fun r1 e1 a e2 => ht _ _ _ (ge_rel hr ht hC f 0 deep st i s r1 e1) (ge_rel hr ht hC f 1 deep _ _ _ a e2)
theorem ge_c_rel (hr : ∀ s, Rl s s) (ht : ∀ a b c, Rl a b → Rl b c → Rl a c) (hC : ∀ e s s1, e.1 ≤ 12 → C e s = .inr s1 → Rl s s1) (f deep st i : Nat) (s : σ) : gx_P (ge_c sy K V P C f deep st i s) (fun a => Rl s a.2.2) :=
  gx_P_b fun _ _ => gx_P_b fun r e => gx_P_b fun _ _ => gx_P_i (ge_e_rel hr ht hC f _ st _ s r e)
theorem gs_rel (hr : ∀ s, Rl s s) (ht : ∀ a b c, Rl a b → Rl b c → Rl a c) (hC : ∀ e s s1, e.1 ≤ 34 → C e s = .inr s1 → Rl s s1) (g : Nat) : ∀ (f m deep st i : Nat) (s : σ), gx_P (gs sy K V P C g f m deep st i s) (fun a => Rl s a.2.2)
  | 0, _, _, _, _, _ => gx_P_e
  | f + 1, 0, deep, st, i, s => by
    have ih := gs_rel hr ht hC g f
    rw [gs]
    split
    · exact gx_P_b fun r e1 a e2 => ht _ _ _ (ih _ _ _ _ _ r e1) (ih _ _ _ _ _ a e2)
    · exact gx_P_i (hr s)
  | f + 1, m + 1, deep, st, i, s => by
    have ih := gs_rel hr ht hC g f
    have hC2 : ∀ e s s1, e.1 ≤ 12 → C e s = .inr s1 → Rl s s1 := fun e s s1 h => hC e s s1 (by omega)
    have he := fun deep st i s => ge_e_rel (sy := sy) (K := K) (V := V) (P := P) hr ht hC2 g deep st i s
    have hc := fun deep st i s => ge_c_rel (sy := sy) (K := K) (V := V) (P := P) hr ht hC2 g deep st i s
    have hg := fun m deep st i s => ge_rel (sy := sy) (K := K) (V := V) (P := P) hr ht hC2 g m deep st i s
    rw [gs]
    · refine gx_P_b fun s1 e1 => gx_P_b fun j _ => ?_
      have r1 : Rl s s1 := hC _ _ _ (by show 20 ≤ 34; decide) e1
      have fin : ∀ {x : gx_R (Nat × Nat × σ)}, gx_P x (fun a => Rl s1 a.2.2) → gx_P x (fun a => Rl s a.2.2) := fun h a ea => ht _ _ _ r1 (h a ea)
      split
      · refine fin (gx_P_b fun j1 _ => ?_)
        split
        · exact gx_P_b fun s2 e2 => gx_P_b fun _ _ => gx_P_b fun r f1 => gx_P_b fun _ _ => gx_P_b fun s3 e3 => gx_P_b fun _ _ => gx_P_b fun r2 f2 => gx_P_b fun _ _ => gx_P_b fun s4 e4 => gx_P_i (ht _ _ _ (hC _ _ _ (by show 6 ≤ 34; decide) e2) (ht _ _ _ (he _ _ _ _ r f1) (ht _ _ _ (hC _ _ _ (by decide) e3) (ht _ _ _ (he _ _ _ _ r2 f2) (hC _ _ _ (by decide) e4)))))
        · exact gx_P_b fun s2 e2 => gx_P_b fun _ _ => gx_P_b fun r2 f2 => gx_P_b fun _ _ => gx_P_b fun s4 e4 => gx_P_i (ht _ _ _ (hC _ _ _ (by show 21 ≤ 34; decide) e2) (ht _ _ _ (he _ _ _ _ r2 f2) (hC _ _ _ (by show 22 ≤ 34; decide) e4)))
      split
      · refine fin (gx_P_b fun s2 e2 => gx_P_b fun r f1 => gx_P_b fun s3 e3 => gx_P_b fun _ _ => gx_P_b fun r2 f2 => gx_P_b fun _ _ => ?_)
        have b : Rl s1 r2.2.2 := ht _ _ _ (hC _ _ _ (by decide) e2) (ht _ _ _ (hc _ _ _ _ r f1) (ht _ _ _ (hC _ _ _ (by decide) e3) (ih _ _ _ _ _ r2 f2)))
        split
        · exact gx_P_b fun s4 e4 => gx_P_b fun _ _ => gx_P_b fun _ _ => gx_P_b fun r3 f3 => gx_P_b fun _ _ => gx_P_b fun s5 e5 => gx_P_i (ht _ _ _ b (ht _ _ _ (hC _ _ _ (by decide) e4) (ht _ _ _ (ih _ _ _ _ _ r3 f3) (hC _ _ _ (by decide) e5))))
        · exact gx_P_b fun s4 e4 => gx_P_i (ht _ _ _ b (hC _ _ _ (by decide) e4))
      split
      · refine fin (gx_P_b fun s2 e2 => gx_P_b fun r f1 => gx_P_b fun s3 e3 => gx_P_b fun _ _ => gx_P_b fun r2 f2 => gx_P_b fun _ _ => gx_P_b fun s4 e4 => gx_P_i ?_)
        exact ht _ _ _ (hC _ _ _ (by show 30 ≤ 34; decide) e2) (ht _ _ _ (hc _ _ _ _ r f1) (ht _ _ _ (hC _ _ _ (by decide) e3) (ht _ _ _ (ih _ _ _ _ _ r2 f2) (hC _ _ _ (by decide) e4))))
      split
      · refine fin (gx_P_b fun j1 _ => ?_)
        split
        · exact gx_P_b fun _ _ => gx_P_b fun _ _ => gx_P_b fun s2 e2 => gx_P_b fun _ _ => gx_P_b fun r f1 => gx_P_b fun s3 e3 => gx_P_b fun s4 e4 => gx_P_b fun _ _ => gx_P_i (ht _ _ _ (hC _ _ _ (by show 11 ≤ 34; decide) e2) (ht _ _ _ (hg _ _ _ _ _ r f1) (ht _ _ _ (hC _ _ _ (by show 12 ≤ 34; decide) e3) (hC _ _ _ (by decide) e4))))
        split
        · exact gx_P_b fun s2 e2 => gx_P_b fun _ _ => gx_P_b fun r f1 => gx_P_b fun s3 e3 => gx_P_b fun s4 e4 => gx_P_b fun _ _ => gx_P_i (ht _ _ _ (hC _ _ _ (by show 11 ≤ 34; decide) e2) (ht _ _ _ (hg _ _ _ _ _ r f1) (ht _ _ _ (hC _ _ _ (by show 12 ≤ 34; decide) e3) (hC _ _ _ (by decide) e4))))
        · exact gx_P_e
      · refine fin ?_
        unfold ge_ret
        split
        · exact gx_P_b fun s2 e2 => gx_P_b fun _ _ => gx_P_b fun s3 e3 => gx_P_i (ht _ _ _ (hC _ _ _ (by decide) e2) (hC _ _ _ (by decide) e3))
        · exact gx_P_b fun r f1 => gx_P_b fun _ _ => gx_P_b fun s3 e3 => gx_P_i (ht _ _ _ (he _ _ _ _ r f1) (hC _ _ _ (by decide) e3))
    all_goals (intro z; omega)
end
section
variable {K V P : Nat → Int} {sy w : Bool} {g : am_H}
theorem ce_labq_sm (g : am_H) : gx_P (ce_labq w g) (fun r => ce_same g r.2) := by
  unfold ce_labq
  split
  · exact gx_P_q fun _ => gx_P_i fun a ha => p_up_c _ _ _ _ _ (by omega)
  · exact gx_P_i (ce_same.refl g)
theorem ce_told_sm (g : am_H) : gx_P (ce_told g) (fun r => ce_same g r.2) := by
  unfold ce_told
  exact gx_P_q fun _ => gx_P_i fun a ha => p_up_c _ _ _ _ _ (by omega)
theorem ce_unless_sm {l : Int} (g : am_H) : gx_P (ce_unless w sy l g) (ce_same g) := gx_P_same (ce_li_sm g) fun g1 => gx_P_same (ce_li_sm g1) fun g2 => ce_li_sm g2
theorem ce_step_sm {p : Int} (g : am_H) : gx_P (if sy = true then .inr g else ce_vm w 20 p 0 g) (ce_same g) := by
  split
  · exact gx_P_i (ce_same.refl g)
  · exact ce_vm_sm g
theorem ce_store_sm {x : Int} (g : am_H) : gx_P (ce_store w x g) (ce_same g) := by
  unfold ce_store
  split
  · exact gx_P_i (ce_same.refl g)
  · split
    · exact gx_P_same (ce_vm_sm g) fun g1 => gx_P_same (ce_vm_sm g1) fun g2 => ce_set_sm g2
    · exact ce_vm_sm g
/-- the events of statements keep all but the code and what is told -/
theorem ce_ev2_sm (e : gx_V) (s s1 : ce_S) (he : e.1 ≤ 34) (h : ce w sy K V P e s = .inr s1) : ce_same s.1 s1.1 := by
  by_cases h12 : e.1 ≤ 12
  · exact (ce_ev_sm e s s1 h12 h).1
  obtain ⟨g, t, a, b, c, e5, l⟩ := s
  obtain ⟨n, x, y, z⟩ := e
  have he : n ≤ 34 := he
  have h12 : ¬ n ≤ 12 := h12
  revert h
  show ce w sy K V P (n, x, y, z) (g, t, a, b, c, e5, l) = .inr s1 → ce_same g s1.1
  have wk : ∀ {r : gx_R am_H} {q : Int × Int × Int × Int × Int × List (Int × Int × Int × Int)}, gx_P r (ce_same g) → gx_P (ce_h (g, q) r) (fun s => ce_same g s.1) := fun h a ea => (ce_h_sm h a ea).1
  have cs : n = 13 ∨ n = 14 ∨ n = 15 ∨ n = 16 ∨ n = 17 ∨ n = 18 ∨ n = 19 ∨ n = 20 ∨ n = 21 ∨ n = 22 ∨ n = 23 ∨ n = 24 ∨ n = 25 ∨ n = 26 ∨ n = 27 ∨ n = 28 ∨ n = 29 ∨ n = 30 ∨ n = 31 ∨ n = 32 ∨ n = 33 ∨ n = 34 := by omega
  rcases cs with rfl | rfl | rfl | rfl | rfl | rfl | rfl | rfl | rfl | rfl | rfl | rfl | rfl | rfl | rfl | rfl | rfl | rfl | rfl | rfl | rfl | rfl
  · intro h; cases h
  · intro h; cases h
  · intro h; cases h
  · intro h; cases h
  · intro h; cases h
  · intro h; cases h
  · intro h; cases h
  · exact wk (ce_step_sm g) s1
  · exact wk (gx_P_q fun _ => gx_P_c (gx_P_c (gx_P_i (ce_same.refl g)))) s1
  · exact wk (gx_P_same (ce_store_sm g) fun g1 => ce_tvar_sm g1) s1
  · exact wk (gx_P_same (ce_vm_sm g) fun g1 => gx_P_same (ce_set_sm g1) fun g2 => gx_P_same (ce_li_sm g2) fun g3 => gx_P_same (ce_li_sm g3) fun g4 => gx_P_same (ce_li_sm g4) fun g5 => ce_li_sm g5) s1
  · exact (show gx_P (gx_b (ce_told g) _) (fun s : ce_S => ce_same g s.1) from gx_P_b fun r er => gx_P_i (ce_told_sm g r er)) s1
  · cases l with
    | nil => intro h; cases h
    | cons q l =>
      exact (show gx_P (gx_b (ce_unless w sy q.1 g) _) (fun s : ce_S => ce_same g s.1) from gx_P_b fun g1 e1 => gx_P_b fun r2 e2 => gx_P_b fun r3 e3 => gx_P_b fun g4 e4 => gx_P_b fun g5 e5 => gx_P_b fun g6 e6 => gx_P_i ((ce_unless_sm g g1 e1).trans ((ce_labq_sm g1 r2 e2).trans ((ce_labq_sm _ r3 e3).trans ((ce_vm_sm _ g4 e4).trans ((ce_vm_sm _ g5 e5).trans (ce_vm_sm _ g6 e6))))))) s1
  · cases l with
    | nil => intro h; cases h
    | cons q l =>
      exact (show gx_P (gx_b (ce_labq w g) _) (fun s : ce_S => ce_same g s.1) from gx_P_b fun r2 e2 => gx_P_b fun g3 e3 => gx_P_b fun g4 e4 => gx_P_b fun g5 e5 => gx_P_b fun g6 e6 => gx_P_i ((ce_labq_sm _ r2 e2).trans ((ce_vm_sm _ g3 e3).trans ((ce_vm_sm _ g4 e4).trans ((ce_li_sm _ g5 e5).trans (ce_li_sm _ g6 e6)))))) s1
  · cases l with
    | nil => intro h; cases h
    | cons q l =>
      exact (show gx_P (gx_b (ce_vm w 11 q.2.1 0 g) _) (fun s : ce_S => ce_same g s.1) from gx_P_b fun g3 e3 => gx_P_b fun g4 e4 => gx_P_i ((ce_vm_sm _ g3 e3).trans (ce_li_sm _ g4 e4))) s1
  · cases l with
    | nil => intro h; cases h
    | cons q l =>
      exact (show gx_P (gx_b (ce_vm w 11 q.2.2.1 0 g) _) (fun s : ce_S => ce_same g s.1) from gx_P_b fun g3 e3 => gx_P_b fun g4 e4 => gx_P_i ((ce_vm_sm _ g3 e3).trans (ce_li_sm _ g4 e4))) s1
  · intro h; cases h
  · exact (show gx_P (gx_b (ce_labq w g) _) (fun s : ce_S => ce_same g s.1) from gx_P_b fun r2 e2 => gx_P_b fun r3 e3 => gx_P_b fun r4 e4 => gx_P_b fun g5 e5 => gx_P_b fun g6 e6 => gx_P_b fun g7 e7 => gx_P_i ((ce_labq_sm _ r2 e2).trans ((ce_labq_sm _ r3 e3).trans ((ce_told_sm _ r4 e4).trans ((ce_vm_sm _ g5 e5).trans ((ce_li_sm _ g6 e6).trans (ce_step_sm _ g7 e7))))))) s1
  · cases l with
    | nil => intro h; cases h
    | cons q l =>
      exact wk (gx_P_same (ce_unless_sm g) fun g1 => gx_P_b fun r2 e2 => gx_P_b fun g3 e3 => gx_P_b fun g4 e4 g5 e5 => (ce_labq_sm _ r2 e2).trans ((ce_vm_sm _ g3 e3).trans ((ce_vm_sm _ g4 e4).trans (ce_vm_sm _ g5 e5)))) s1
  · cases l with
    | nil => intro h; cases h
    | cons q l =>
      exact (show gx_P (gx_b (ce_vm w 12 q.2.1 0 g) _) (fun s : ce_S => ce_same g s.1) from gx_P_b fun g3 e3 => gx_P_b fun g4 e4 => gx_P_b fun g5 e5 => gx_P_b fun g6 e6 => gx_P_i ((ce_vm_sm _ g3 e3).trans ((ce_vm_sm _ g4 e4).trans ((ce_li_sm _ g5 e5).trans (ce_li_sm _ g6 e6))))) s1
  · exact wk (ce_both_sm g) s1
  · exact wk (gx_P_same (ce_vm_sm g) fun g1 => ce_li_sm g1) s1
theorem gs_same (G f m deep st i : Nat) (s : ce_S) : gx_P (gs sy K V P (ce w sy K V P) G f m deep st i s) (fun a => ce_same s.1 a.2.2.1) :=
  gs_rel (Rl := fun s s1 => ce_same s.1 s1.1) (fun s => ce_same.refl _) (fun (a b c : ce_S) (h1 : ce_same a.1 b.1) (h2 : ce_same b.1 c.1) => h1.trans h2) (fun e s s1 he h => ce_ev2_sm e s s1 he h) G f m deep st i s
end
