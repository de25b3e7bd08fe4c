/-! PURE LAYER, 48: what expressions keep, for the model's grammar; expression(), call() -/
section
variable {K V P : Nat → Int} {σ : Type} {C : gx_V → σ → gx_R σ} {Rl : σ → σ → Prop}
/-- what every event keeps is kept by an e -/
theorem he_rel (hr : ∀ s, Rl s s) (ht : ∀ a b c, Rl a b → Rl b c → Rl a c) (hC : ∀ e s s1, e.1 ≤ 12 → C e s = .inr s1 → Rl s s1) : ∀ (f m deep st i : Nat) (s : σ), gx_P (he K V P C f m deep st i s) (fun a => Rl s a.2.2.1)
  | 0, _, _, _, _, _ => gx_P_e
  | f + 1, 0, deep, st, i, s => by
    have ih := he_rel hr ht hC f
    rw [he]
    split
    · exact gx_P_b fun s1 e1 => gx_P_b fun _ _ => gx_P_i (hC _ _ _ (by show 1 ≤ 12; decide) e1)
    split
    · exact gx_P_if fun _ => gx_P_b fun s1 e1 => gx_P_b fun _ _ => gx_P_i (hC _ _ _ (by show 5 ≤ 12; decide) e1)
    split
    · refine gx_P_if fun _ => gx_P_b fun s1 e1 => gx_P_b fun _ _ => gx_P_i (hC _ _ _ ?_ e1)
      split
      · show 4 ≤ 12; decide
      · split
        · decide
        · decide
    split
    · refine gx_P_b fun j _ => ?_
      split
      · exact gx_P_b fun s1 e1 => gx_P_b fun _ _ => gx_P_b fun r1 f1 => gx_P_b fun r2 f2 => gx_P_b fun _ _ => gx_P_b fun s2 e2 => gx_P_i (ht _ _ _ (hC _ _ _ (by show 6 ≤ 12; decide) e1) (ht _ _ _ (ih _ _ _ _ _ r1 f1) (ht _ _ _ (ih _ _ _ _ _ r2 f2) (hC _ _ _ (by decide) e2))))
      split
      · exact gx_P_b fun _ _ => gx_P_b fun _ _ => gx_P_b fun s1 e1 => gx_P_b fun _ _ => gx_P_b fun r1 f1 => gx_P_b fun s2 e2 => gx_P_i (ht _ _ _ (hC _ _ _ (by show 11 ≤ 12; decide) e1) (ht _ _ _ (ih _ _ _ _ _ r1 f1) (hC _ _ _ (by show 12 ≤ 12; decide) e2)))
      split
      · exact gx_P_b fun s1 e1 => gx_P_b fun _ _ => gx_P_b fun r1 f1 => gx_P_b fun s2 e2 => gx_P_i (ht _ _ _ (hC _ _ _ (by show 11 ≤ 12; decide) e1) (ht _ _ _ (ih _ _ _ _ _ r1 f1) (hC _ _ _ (by show 12 ≤ 12; decide) e2)))
      · exact gx_P_b fun s1 e1 => gx_P_i (hC _ _ _ (by show 6 ≤ 12; decide) e1)
    split
    · exact gx_P_b fun _ _ => gx_P_b fun r1 f1 => gx_P_b fun r2 f2 => gx_P_b fun _ _ => gx_P_i (ht _ _ _ (ih _ _ _ _ _ r1 f1) (ih _ _ _ _ _ r2 f2))
    · refine gx_P_if fun _ => gx_P_b fun _ _ => gx_P_b fun r1 f1 => gx_P_b fun s2 e2 => gx_P_i (ht _ _ _ (ih _ _ _ _ _ r1 f1) (hC _ _ _ ?_ e2))
      show (if V i = 45 then 9 else 10) ≤ 12
      split <;> decide
  | f + 1, 1, deep, st, i, s => by
    have ih := he_rel hr ht hC f
    rw [he]
    split
    · exact gx_P_b fun _ _ => gx_P_b fun r1 f1 => gx_P_b fun s1 e1 => fun a ea => ht _ _ _ (ih _ _ _ _ _ r1 f1) (ht _ _ _ (hC _ _ _ (by show 8 ≤ 12; decide) e1) (ih _ _ _ _ _ a ea))
    · exact gx_P_i (hr s)
  | f + 1, 2, deep, st, i, s => by
    have ih := he_rel hr ht hC f
    rw [he]
    split
    · exact gx_P_b fun _ _ => gx_P_i (hr s)
    · exact gx_P_b fun r1 f1 => gx_P_b fun r2 f2 => gx_P_b fun r3 f3 => gx_P_i (ht _ _ _ (ih _ _ _ _ _ r1 f1) (ht _ _ _ (ih _ _ _ _ _ r2 f2) (ih _ _ _ _ _ r3 f3)))
  | f + 1, m + 3, deep, st, i, s => by
    have ih := he_rel hr ht hC f
    rw [he]
    · split
      · exact gx_P_b fun _ _ => gx_P_i (hr s)
      · exact gx_P_b fun _ _ => gx_P_b fun r1 f1 => gx_P_b fun r2 f2 => gx_P_b fun r3 f3 => gx_P_i (ht _ _ _ (ih _ _ _ _ _ r1 f1) (ht _ _ _ (ih _ _ _ _ _ r2 f2) (ih _ _ _ _ _ r3 f3)))
    all_goals (intro z; omega)
theorem he_e_rel (hr : ∀ s, Rl s s) (ht : ∀ a b c, Rl a b → Rl b c → Rl a c) (hC : ∀ e s s1, e.1 ≤ 12 → C e s = .inr s1 → Rl s s1) (f deep st i : Nat) (s : σ) : gx_P (he_e K V P C f deep st i s) (fun a => Rl s a.2.2.1) :=
  gx_P_b fun r1 e1 a e2 => ht _ _ _ (he_rel hr ht hC f 0 deep st i s r1 e1) (he_rel hr ht hC f 1 deep _ _ _ a e2)
theorem he_c_rel (hr : ∀ s, Rl s s) (ht : ∀ a b c, Rl a b → Rl b c → Rl a c) (hC : ∀ e s s1, e.1 ≤ 12 → C e s = .inr s1 → Rl s s1) (f deep st i : Nat) (s : σ) : gx_P (he_c K V P C f deep st i s) (fun a => Rl s a.2.2) :=
  gx_P_b fun _ _ => gx_P_b fun r e => gx_P_b fun _ _ => gx_P_i (he_e_rel hr ht hC f _ st _ s r e)
end
/-- blocks and declarations are kept -/
def mk_kp (g g1 : am_H) : Prop := (∀ a, (a = 293 ∨ a = 294 ∨ a = 295 ∨ a = 296) → g1 a = g a) ∧ g1 254 55 = g 254 55 ∧ g1 254 50 = g 254 50
theorem mk_kp.refl (g : am_H) : mk_kp g g := ⟨fun _ _ => rfl, rfl, rfl⟩
theorem mk_kp.trans {a b c : am_H} (h1 : mk_kp a b) (h2 : mk_kp b c) : mk_kp a c := ⟨fun x hx => (h2.1 x hx).trans (h1.1 x hx), h2.2.1.trans h1.2.1, h2.2.2.trans h1.2.2⟩
theorem mk_kp_up {g : am_H} {a k : Nat} {v : Int} (h : a ≠ 254 ∧ a ≠ 293 ∧ a ≠ 294 ∧ a ≠ 295 ∧ a ≠ 296) : mk_kp g (am_up g a k v) :=
  ⟨fun x hx => p_up_c _ _ _ _ _ (by omega), by rw [p_up_c _ _ _ _ _ (by omega)], by rw [p_up_c _ _ _ _ _ (by omega)]⟩
theorem mk_kp_f {g : am_H} {k : Nat} {v : Int} (h : k ≠ 55 ∧ k ≠ 50) : mk_kp g (am_up g 254 k v) :=
  ⟨fun x hx => p_up_c _ _ _ _ _ (by omega), p_up_n _ _ _ _ _ _ (Or.inr (by omega)), p_up_n _ _ _ _ _ _ (Or.inr (by omega))⟩
theorem mk_kp_put (k a b t : Int) (g : am_H) : mk_kp g (mi_put k a b t g) := by
  unfold mi_put
  exact (((((mk_kp_up (by omega)).trans (mk_kp_up (by omega))).trans (mk_kp_up (by omega))).trans (mk_kp_up (by omega))).trans (mk_kp_up (by omega))).trans (mk_kp_f (by omega))
theorem mk_kp_add (k a b t : Int) (g : am_H) : gx_P (mi_add k a b t g) (mk_kp g) := gx_P_q fun _ => gx_P_i (mk_kp_put k a b t g)
theorem mk_kp_call (a b : Int) (g : am_H) : mk_kp g (mi_call a b g) := by
  unfold mi_call
  exact ((((mk_kp_f (by omega)).trans (mk_kp_up (by omega))).trans (mk_kp_up (by omega))).trans (mk_kp_up (by omega))).trans (mk_kp_up (by omega))
theorem mk_kp_h {s : mi_S} {r : gx_R am_H} (h : gx_P r (mk_kp s.1)) : gx_P (mi_h s r) (fun s1 => mk_kp s.1 s1.1) := gx_P_b fun a e => gx_P_i (h a e)
theorem mk_kp_ev (V : Nat → Int) (e : gx_V) (s s1 : mi_S) (he : e.1 ≤ 12) (h : mi V e s = .inr s1) : mk_kp s.1 s1.1 := by
  obtain ⟨g, ty, so, bs, oc⟩ := s
  obtain ⟨n, a, b, c⟩ := e
  have he : n ≤ 12 := he
  revert h
  show mi V (n, a, b, c) (g, ty, so, bs, oc) = .inr s1 → mk_kp g s1.1
  have cs : n = 0 ∨ n = 1 ∨ n = 2 ∨ n = 3 ∨ n = 4 ∨ n = 5 ∨ n = 6 ∨ n = 7 ∨ n = 8 ∨ n = 9 ∨ n = 10 ∨ n = 11 ∨ n = 12 := by omega
  rcases cs with rfl | rfl | rfl | rfl | rfl | rfl | rfl | rfl | rfl | rfl | rfl | rfl | rfl
  · intro h; cases h
  · exact mk_kp_h (mk_kp_add _ _ _ _ g) s1
  · exact mk_kp_h (mk_kp_add _ _ _ _ g) s1
  · exact mk_kp_h (mk_kp_add _ _ _ _ g) s1
  · exact mk_kp_h (mk_kp_add _ _ _ _ g) s1
  · exact mk_kp_h (mk_kp_add _ _ _ _ g) s1
  · exact mk_kp_h (mk_kp_add _ _ _ _ g) s1
  · exact mk_kp_h (mk_kp_add _ _ _ _ g) s1
  · exact mk_kp_h (mk_kp_add _ _ _ _ g) s1
  · exact mk_kp_h (mk_kp_add _ _ _ _ g) s1
  · exact mk_kp_h (mk_kp_add _ _ _ _ g) s1
  · exact (show gx_P (ce_q (g 254 39 < 990) (gx_b (mi_add 9 (g 254 39) 0 0 (mi_call (if c = 1 then a else -1) b g)) fun g1 => (.inr (g1, ty, so, bs, g 254 39 :: oc) : gx_R mi_S))) (fun s1 => mk_kp g s1.1) from gx_P_q fun _ => gx_P_b fun g1 e1 => gx_P_i ((mk_kp_call _ _ g).trans (mk_kp_add _ _ _ _ _ g1 e1))) s1
  · cases oc with
    | nil => intro h; cases h
    | cons x l => exact (show gx_P (gx_b (mi_add 10 x 0 0 (am_up g 284 x.toNat c)) fun g1 => (.inr (g1, ty, so, bs, l) : gx_R mi_S)) (fun s1 => mk_kp g s1.1) from gx_P_b fun g1 e1 => gx_P_i ((mk_kp_up (by omega)).trans (mk_kp_add _ _ _ _ _ g1 e1))) s1
theorem mk_kp_e {K V P : Nat → Int} (f deep st i : Nat) (s : mi_S) : gx_P (he_e K V P (mi V) f deep st i s) (fun a => mk_kp s.1 a.2.2.1.1) :=
  he_e_rel (Rl := fun s s1 => mk_kp s.1 s1.1) (fun s => mk_kp.refl _) (fun (a b c : mi_S) (h1 : mk_kp a.1 b.1) (h2 : mk_kp b.1 c.1) => h1.trans h2) (fun e s s1 he h => mk_kp_ev V e s s1 he h) f deep st i s
theorem mk_kp_g {K V P : Nat → Int} (f m deep st i : Nat) (s : mi_S) : gx_P (he K V P (mi V) f m deep st i s) (fun a => mk_kp s.1 a.2.2.1.1) :=
  he_rel (Rl := fun s s1 => mk_kp s.1 s1.1) (fun s => mk_kp.refl _) (fun (a b c : mi_S) (h1 : mk_kp a.1 b.1) (h2 : mk_kp b.1 c.1) => h1.trans h2) (fun e s s1 he h => mk_kp_ev V e s s1 he h) f m deep st i s
section
variable {K V P : Nat → Int} {Z : Nat} {g0 : am_H} {i deep st : Nat} {g h : am_H} (d L : Nat)
/-- the end of an expression -/
theorem mx_end0 {z : Int} {dv : Int} {u : Option am_V} {oc : List Int} (E : mp_E K V P Z g0 [(0, 0, z)] 0 dv oc i deep st g h) (ho : dv = 0 → ¬ gx_op K V i) : ∃ h', mx_B d L u h = pV L h' ∧ mp_N K V P Z g0 oc i deep st g h' := by
  have N1 := E.1.lvl 0 (by omega)
  have fin : mx_L d L (am_up h 254 51 0) = pV L (am_up h 254 51 0) := by
    unfold mx_L
    rw [q_17_46_0, N1.fa, if_pos rfl, p_up_s, if_neg (by decide)]
  obtain ⟨s1, s2, s3, s4⟩ := E.2.2.1
  have s1 : h 290 0 = 0 := s1
  have s2 : h 291 0 = 0 := s2
  refine ⟨am_up h 254 51 0, ?_, N1⟩
  by_cases c : dv = 0
  · unfold mx_B
    rw [mx_e3 d L E (show (0 : Int) ≠ 4 by decide) rfl (fun z => z.2 c) u, q_17_49_3, mp_isOp (d + 5) L E.1, p_xI, if_pos (by rw [pB_f (ho c)]), p_idx (by simp) (by simp), show (([] : List (Int × Int × Int)).length : Int).toNat = 0 from rfl, s1, if_pos rfl, p_xV, fin]
  · unfold mx_B
    rw [mx_e2 d L E (show (0 : Int) ≠ 4 by decide) rfl u, q_17_49_2, p_idx (by simp) (by simp), p_idx (by simp) (by simp), show (([] : List (Int × Int × Int)).length : Int).toNat = 0 from rfl, s1, if_pos rfl, E.2.2.2.2.1, if_neg c, p_up_id' s2, p_xV, fin]
/-- expression() -/
theorem mq_exp {G : Nat} (hG : G ≤ 900000) (N : mp_N K V P Z g0 [] i deep st g h) (ty so : Int) (bs : List (Int × Int × Int × Int)) : mo L (am_D (d + 10) 17 45 [am_r (am_a 254)] (zS L, h)) g0 4950 (he_e K V P (mi V) G deep st i (g, ty, so, bs, [])) (fun a D => ∃ h', D = pV L h' ∧ (mp_N K V P Z g0 [] a.1 deep a.2.1 a.2.2.1.1 h' ∧ a.2.2.1.2 = (ty, so, bs, []) ∧ mk_kp g a.2.2.1.1)) := by
  obtain ⟨HT, H1, -, -⟩ := mx_all (K := K) (V := V) (P := P) (Z := Z) (g0 := g0) d L G hG
  have E0 : mp_E K V P Z g0 [] (h 254 61) 0 [] i deep st g (am_up (am_up h 254 51 0) 254 62 0) := by
    refine ⟨(N.lvl 0 (by omega)).hup 254 62 0 rfl rfl rfl, ?_, trivial, ?_, p_up_s _ _ _ _, by simp⟩
    · rw [p_up_n _ _ _ _ _ _ (Or.inr (by decide)), p_up_s]; rfl
    · rw [p_up_n _ _ _ _ _ _ (Or.inr (by decide)), p_up_n _ _ _ _ _ _ (Or.inr (by decide))]
  obtain ⟨e1, hE1⟩ := mp_push (d + 8) L E0 0
  have E1 := (hE1 deep E0.1 (by simp)).nt_ 1
  have keep : ∀ {X : gx_R (Nat × Nat × mi_S × Nat)}, X = he_e K V P (mi V) G deep st i (g, ty, so, bs, []) → ∀ a, X = .inr a → mk_kp g a.2.2.1.1 := fun hX a ha => mk_kp_e G deep st i (g, ty, so, bs, []) a (hX ▸ ha)
  have main : mo L (mx_L d L (am_up (am_up (am_up (am_up (am_up (am_up h 254 51 0) 254 62 0) 290 0 0) 291 0 0) 254 51 ((0 : Nat) + 1 : Int)) 254 61 1)) g0 4950 (he_e K V P (mi V) G deep st i (g, ty, so, bs, [])) (fun a D => ∃ h', D = pV L h' ∧ (mp_N K V P Z g0 [] a.1 deep a.2.1 a.2.2.1.1 h' ∧ a.2.2.1.2 = (ty, so, bs, []))) := by
    unfold he_e
    refine mo_bD (HT _ 0 [] deep st i g _ (ty, so, bs, []) E1 (by simp) rfl) ?_
    rintro ⟨a1, a2, ⟨g4, q4⟩, a4⟩ - ⟨h4, u4, e4, E4, eq4, -⟩
    have eq4 : q4 = (ty, so, bs, []) := eq4
    subst eq4
    rw [e4]
    refine mo_imp (H1 _ [] 0 [] deep a2 a1 g4 h4 u4 (ty, so, bs, []) E4 (show (0 : Int) ≠ 4 by decide) rfl (fun z => z.2 rfl) rfl) ?_
    rintro ⟨b1, b2, ⟨g5, q5⟩, b4⟩ - ⟨h5, u5, e5, ⟨E5, eq5, -⟩, no5⟩
    obtain ⟨h6, e6, N6⟩ := mx_end0 (u := u5) d L E5 (fun _ => no5)
    rw [e5]
    exact ⟨h6, e6, N6, eq5⟩
  rw [D_17_45, N.fa, if_neg (by decide), p_bit0, e1, p_xV, p_bit1]
  have e46 : ∀ x, am_D (d + 9) 17 46 [am_r (am_a 254)] (zS L, x) = mx_L d L x := fun x => rfl
  rw [e46]
  have er : he_e K V P (mi V) G deep st i (g, ty, so, bs, []) = gx_b (he_e K V P (mi V) G deep st i (g, ty, so, bs, [])) fun a => .inr a := (gx_b_id _).symm
  rw [er]
  refine mo_bV (Po := fun (a : Nat × Nat × mi_S × Nat) (h' : am_H) => mp_N K V P Z g0 [] a.1 deep a.2.1 a.2.2.1.1 h' ∧ a.2.2.1.2 = (ty, so, bs, [])) main (mb_id L g0 4950) ?_
  rintro a h1 ha ⟨n1, n2⟩
  exact ⟨h1, rfl, n1, n2, keep rfl a ha⟩
theorem mb_exp {m : Nat} {e : Int × Int} (B : mp_B g0 m e h) : am_D (d + 1) 17 45 [am_r (am_a 254)] (zS L, h) = pV L h := by
  rw [D_17_45, if_pos (by rw [B.2.2.1]; exact B.2.1)]
end
