/-! PURE LAYER, 57: what statements keep, for the model -/
section
variable {K V P : Nat → Int} {σ : Type} {C : gx_V → σ → gx_R σ} {Rl : σ → σ → Prop}
theorem hs_rel (hr : ∀ s, Rl s s) (ht : ∀ a b c, Rl a b → Rl b c → Rl a c) (hC : ∀ e s s1, e.1 ≤ 34 → C e s = .inr s1 → Rl s s1) (g : Nat) : ∀ (f m deep st i : Nat) (s : σ), gx_P (hs K V P C g f m deep st i s) (fun a => Rl s a.2.2)
  | 0, _, _, _, _, _ => gx_P_e
  | f + 1, 0, deep, st, i, s => by
    have ih := hs_rel hr ht hC g f
    rw [hs]
    split
    · exact gx_P_b fun r e1 a e2 => ht _ _ _ (ih _ _ _ _ _ r e1) (ih _ _ _ _ _ a e2)
    · exact gx_P_i (hr s)
  | f + 1, m + 1, deep, st, i, s => by
    have ih := hs_rel hr ht hC g f
    have hC2 : ∀ e s s1, e.1 ≤ 12 → C e s = .inr s1 → Rl s s1 := fun e s s1 h => hC e s s1 (by omega)
    have hE := fun deep st i s => he_e_rel (K := K) (V := V) (P := P) hr ht hC2 g deep st i s
    have hc := fun deep st i s => he_c_rel (K := K) (V := V) (P := P) hr ht hC2 g deep st i s
    have hg := fun m deep st i s => he_rel (K := K) (V := V) (P := P) hr ht hC2 g m deep st i s
    rw [hs]
    · refine gx_P_b fun s1 e1 => gx_P_b fun j _ => ?_
      have r1 : Rl s s1 := hC _ _ _ (by show 20 ≤ 34; decide) e1
      have fin : ∀ {x : gx_R (Nat × Nat × σ)}, gx_P x (fun a => Rl s1 a.2.2) → gx_P x (fun a => Rl s a.2.2) := fun h a ea => ht _ _ _ r1 (h a ea)
      split
      · refine fin (gx_P_b fun j1 _ => ?_)
        split
        · exact gx_P_b fun s2 e2 => gx_P_b fun _ _ => gx_P_b fun r f1 => gx_P_b fun _ _ => gx_P_b fun s3 e3 => gx_P_b fun _ _ => gx_P_b fun r2 f2 => gx_P_b fun _ _ => gx_P_b fun s4 e4 => gx_P_i (ht _ _ _ (hC _ _ _ (by show 6 ≤ 34; decide) e2) (ht _ _ _ (hE _ _ _ _ r f1) (ht _ _ _ (hC _ _ _ (by decide) e3) (ht _ _ _ (hE _ _ _ _ r2 f2) (hC _ _ _ (by decide) e4)))))
        · exact gx_P_b fun s2 e2 => gx_P_b fun _ _ => gx_P_b fun r2 f2 => gx_P_b fun _ _ => gx_P_b fun s4 e4 => gx_P_i (ht _ _ _ (hC _ _ _ (by show 21 ≤ 34; decide) e2) (ht _ _ _ (hE _ _ _ _ r2 f2) (hC _ _ _ (by show 22 ≤ 34; decide) e4)))
      split
      · refine fin (gx_P_b fun s2 e2 => gx_P_b fun r f1 => gx_P_b fun s3 e3 => gx_P_b fun _ _ => gx_P_b fun r2 f2 => gx_P_b fun _ _ => ?_)
        have b : Rl s1 r2.2.2 := ht _ _ _ (hC _ _ _ (by decide) e2) (ht _ _ _ (hc _ _ _ _ r f1) (ht _ _ _ (hC _ _ _ (by decide) e3) (ih _ _ _ _ _ r2 f2)))
        split
        · exact gx_P_b fun s4 e4 => gx_P_b fun _ _ => gx_P_b fun _ _ => gx_P_b fun r3 f3 => gx_P_b fun _ _ => gx_P_b fun s5 e5 => gx_P_i (ht _ _ _ b (ht _ _ _ (hC _ _ _ (by decide) e4) (ht _ _ _ (ih _ _ _ _ _ r3 f3) (hC _ _ _ (by decide) e5))))
        · exact gx_P_b fun s4 e4 => gx_P_i (ht _ _ _ b (hC _ _ _ (by decide) e4))
      split
      · refine fin (gx_P_b fun s2 e2 => gx_P_b fun r f1 => gx_P_b fun s3 e3 => gx_P_b fun _ _ => gx_P_b fun r2 f2 => gx_P_b fun _ _ => gx_P_b fun s4 e4 => gx_P_i ?_)
        exact ht _ _ _ (hC _ _ _ (by show 30 ≤ 34; decide) e2) (ht _ _ _ (hc _ _ _ _ r f1) (ht _ _ _ (hC _ _ _ (by decide) e3) (ht _ _ _ (ih _ _ _ _ _ r2 f2) (hC _ _ _ (by decide) e4))))
      split
      · refine fin (gx_P_b fun j1 _ => ?_)
        split
        · exact gx_P_b fun _ _ => gx_P_b fun _ _ => gx_P_b fun s2 e2 => gx_P_b fun _ _ => gx_P_b fun r f1 => gx_P_b fun s3 e3 => gx_P_b fun s4 e4 => gx_P_b fun _ _ => gx_P_i (ht _ _ _ (hC _ _ _ (by show 11 ≤ 34; decide) e2) (ht _ _ _ (hg _ _ _ _ _ r f1) (ht _ _ _ (hC _ _ _ (by show 12 ≤ 34; decide) e3) (hC _ _ _ (by decide) e4))))
        split
        · exact gx_P_b fun s2 e2 => gx_P_b fun _ _ => gx_P_b fun r f1 => gx_P_b fun s3 e3 => gx_P_b fun s4 e4 => gx_P_b fun _ _ => gx_P_i (ht _ _ _ (hC _ _ _ (by show 11 ≤ 34; decide) e2) (ht _ _ _ (hg _ _ _ _ _ r f1) (ht _ _ _ (hC _ _ _ (by show 12 ≤ 34; decide) e3) (hC _ _ _ (by decide) e4))))
        · exact gx_P_e
      · refine fin ?_
        unfold he_ret
        split
        · exact gx_P_b fun s2 e2 => gx_P_b fun _ _ => gx_P_b fun s3 e3 => gx_P_i (ht _ _ _ (hC _ _ _ (by decide) e2) (hC _ _ _ (by decide) e3))
        · exact gx_P_b fun r f1 => gx_P_b fun _ _ => gx_P_b fun s3 e3 => gx_P_i (ht _ _ _ (hE _ _ _ _ r f1) (hC _ _ _ (by decide) e3))
    all_goals (intro z; omega)
end
/-- cells that statements change -/
def mi_SC : List Nat := [277, 278, 279, 280, 281, 282, 283, 284, 289, 293, 294, 295, 296]
def mi_SF : List (Nat × Nat) := [(254, 33), (254, 39), (254, 50), (254, 55)]
def mi_fs (g g1 : am_H) : Prop := p_fr mi_SC mi_SF g g1
theorem mi_fs.refl (g : am_H) : mi_fs g g := p_fr.refl g
theorem mi_fs.trans {a b c : am_H} (h1 : mi_fs a b) (h2 : mi_fs b c) : mi_fs a c := p_fr.trans h1 h2
theorem mi_fs_put (k a b t : Int) (g : am_H) : mi_fs g (mi_put k a b t g) := ((((((p_fr.refl g).upc _ _ _ rfl).upc _ _ _ rfl).upc _ _ _ rfl).upc _ _ _ rfl).upc _ _ _ rfl).upf _ _ _ rfl
theorem mi_fs_add (k a b t : Int) (g : am_H) : gx_P (mi_add k a b t g) (mi_fs g) := gx_P_q fun _ => gx_P_i (mi_fs_put k a b t g)
theorem mi_fs_call (a b : Int) (g : am_H) : mi_fs g (mi_call a b g) := (((((p_fr.refl g).upf _ _ _ rfl).upc _ _ _ rfl).upc _ _ _ rfl).upc _ _ _ rfl).upc _ _ _ rfl
theorem mi_fs_blk (k : Nat) (a b c e : Int) (g : am_H) : mi_fs g (mi_blk k a b c e g) := (((((p_fr.refl g).upc _ _ _ rfl).upc _ _ _ rfl).upc _ _ _ rfl).upc _ _ _ rfl).upf _ _ _ rfl
theorem mi_fs_up {a k : Nat} {v : Int} (g : am_H) (h : mi_SC.contains a = true) : mi_fs g (am_up g a k v) := (p_fr.refl g).upc _ _ _ h
theorem mi_fs_f {k : Nat} {v : Int} (g : am_H) (h : mi_SF.contains (254, k) = true) : mi_fs g (am_up g 254 k v) := (p_fr.refl g).upf _ _ _ h
theorem mi_fs_h {s : mi_S} {r : gx_R am_H} (h : gx_P r (mi_fs s.1)) : gx_P (mi_h s r) (fun s1 => mi_fs s.1 s1.1) := gx_P_b fun a e => gx_P_i (h a e)
theorem mi_fs_2 (k a b t k2 a2 b2 t2 : Int) (g : am_H) : gx_P (gx_b (mi_add k a b t g) (mi_add k2 a2 b2 t2)) (mi_fs g) := gx_P_b fun g1 e1 g2 e2 => (mi_fs_add _ _ _ _ _ g1 e1).trans (mi_fs_add _ _ _ _ _ g2 e2)
theorem mi_fs_ev (V : Nat → Int) (e : gx_V) (s s1 : mi_S) (hE : e.1 ≤ 34) (h : mi V e s = .inr s1) : mi_fs s.1 s1.1 := by
  obtain ⟨g, ty, so, bs, oc⟩ := s
  obtain ⟨n, a, b, c⟩ := e
  have hE : n ≤ 34 := hE
  revert h
  show mi V (n, a, b, c) (g, ty, so, bs, oc) = .inr s1 → mi_fs g s1.1
  have cs : n = 0 ∨ n = 1 ∨ n = 2 ∨ n = 3 ∨ n = 4 ∨ n = 5 ∨ n = 6 ∨ n = 7 ∨ n = 8 ∨ n = 9 ∨ n = 10 ∨ n = 11 ∨ n = 12 ∨ n = 13 ∨ n = 14 ∨ n = 15 ∨ n = 16 ∨ n = 17 ∨ n = 18 ∨ n = 19 ∨ n = 20 ∨ n = 21 ∨ n = 22 ∨ n = 23 ∨ n = 24 ∨ n = 25 ∨ n = 26 ∨ n = 27 ∨ n = 28 ∨ n = 29 ∨ n = 30 ∨ n = 31 ∨ n = 32 ∨ n = 33 ∨ n = 34 := by omega
  rcases cs with rfl | rfl | rfl | rfl | rfl | rfl | rfl | rfl | rfl | rfl | rfl | rfl | rfl | rfl | rfl | rfl | rfl | rfl | rfl | rfl | rfl | rfl | rfl | rfl | rfl | rfl | rfl | rfl | rfl | rfl | rfl | rfl | rfl | rfl | rfl
  · intro h; cases h
  · exact mi_fs_h (mi_fs_add _ _ _ _ g) s1
  · exact mi_fs_h (mi_fs_add _ _ _ _ g) s1
  · exact mi_fs_h (mi_fs_add _ _ _ _ g) s1
  · exact mi_fs_h (mi_fs_add _ _ _ _ g) s1
  · exact mi_fs_h (mi_fs_add _ _ _ _ g) s1
  · exact mi_fs_h (mi_fs_add _ _ _ _ g) s1
  · exact mi_fs_h (mi_fs_add _ _ _ _ g) s1
  · exact mi_fs_h (mi_fs_add _ _ _ _ g) s1
  · exact mi_fs_h (mi_fs_add _ _ _ _ g) s1
  · exact mi_fs_h (mi_fs_add _ _ _ _ g) s1
  · exact (show gx_P (ce_q (g 254 39 < 990) (gx_b (mi_add 9 (g 254 39) 0 0 (mi_call (if c = 1 then a else -1) b g)) fun g1 => (.inr (g1, ty, so, bs, g 254 39 :: oc) : gx_R mi_S))) (fun s1 => mi_fs g s1.1) from gx_P_q fun _ => gx_P_b fun g1 e1 => gx_P_i ((mi_fs_call _ _ g).trans (mi_fs_add _ _ _ _ _ g1 e1))) s1
  · cases oc with
    | nil => intro h; cases h
    | cons x l => exact (show gx_P (gx_b (mi_add 10 x 0 0 (am_up g 284 x.toNat c)) fun g1 => (.inr (g1, ty, so, bs, l) : gx_R mi_S)) (fun s1 => mi_fs g s1.1) from gx_P_b fun g1 e1 => gx_P_i ((mi_fs_up g rfl).trans (mi_fs_add _ _ _ _ _ g1 e1))) s1
  · intro h; cases h
  · intro h; cases h
  · intro h; cases h
  · intro h; cases h
  · intro h; cases h
  · intro h; cases h
  · intro h; cases h
  · exact mi_fs_h (mi_fs_add _ _ _ _ g) s1
  · intro h; cases h; exact mi_fs.refl g
  · exact mi_fs_h (mi_fs_2 _ _ _ _ _ _ _ _ g) s1
  · exact mi_fs_h (mi_fs_2 _ _ _ _ _ _ _ _ g) s1
  · exact (show gx_P (ce_q (0 ≤ g 254 50 ∧ g 254 50 < 99990) (.inr (am_up g 254 50 (g 254 50 + 2), ty, so, (1, g 254 50, 0, g 254 33) :: bs, oc) : gx_R mi_S)) (fun s1 => mi_fs g s1.1) from gx_P_q fun _ => gx_P_i (mi_fs_f g rfl)) s1
  · cases bs with
    | nil => intro h; cases h
    | cons b l => exact (show gx_P (ce_q (l.length < 40) (gx_b (mi_add 15 0 b.2.1 0 g) fun g1 => (.inr (mi_blk l.length 1 b.2.1 (g 254 33) b.2.2.2 g1, ty, so, (1, b.2.1, g 254 33, b.2.2.2) :: l, oc) : gx_R mi_S))) (fun s1 => mi_fs g s1.1) from gx_P_q fun _ => gx_P_b fun g1 e1 => gx_P_i ((mi_fs_add _ _ _ _ _ g1 e1).trans (mi_fs_blk _ _ _ _ _ _))) s1
  · cases bs with
    | nil => intro h; cases h
    | cons b l => exact (show gx_P (gx_b (mi_add 16 0 (b.2.1 + 1) 0 (am_up g 254 55 (l.length : Int))) fun g1 => gx_b (mi_add 20 b.2.1 0 0 g1) fun g2 => (.inr (mi_blk l.length 2 b.2.1 (g 254 33) 0 (am_up g2 278 b.2.2.1.toNat (g1 254 33)), ty, so, (2, b.2.1, g 254 33, 0) :: l, oc) : gx_R mi_S)) (fun s1 => mi_fs g s1.1) from gx_P_b fun g1 e1 => gx_P_b fun g2 e2 => gx_P_i ((mi_fs_f g rfl).trans ((mi_fs_add _ _ _ _ _ g1 e1).trans ((mi_fs_add _ _ _ _ _ g2 e2).trans ((mi_fs_up g2 rfl).trans (mi_fs_blk _ _ _ _ _ _)))))) s1
  · cases bs with
    | nil => intro h; cases h
    | cons b l => exact (show gx_P (gx_b (mi_add 20 b.2.1 0 0 (am_up g 254 55 (l.length : Int))) fun g1 => gx_b (mi_add 12 0 0 0 (am_up g1 278 b.2.2.1.toNat (g 254 33))) fun g2 => (.inr (g2, ty, so, l, oc) : gx_R mi_S)) (fun s1 => mi_fs g s1.1) from gx_P_b fun g1 e1 => gx_P_b fun g2 e2 => gx_P_i ((mi_fs_f g rfl).trans ((mi_fs_add _ _ _ _ _ g1 e1).trans ((mi_fs_up g1 rfl).trans (mi_fs_add _ _ _ _ _ g2 e2))))) s1
  · cases bs with
    | nil => intro h; cases h
    | cons b l => exact (show gx_P (gx_b (mi_add 20 (b.2.1 + 1) 0 0 (am_up g 254 55 (l.length : Int))) fun g1 => gx_b (mi_add 12 0 0 0 (am_up g1 278 b.2.2.1.toNat (g 254 33))) fun g2 => (.inr (g2, ty, so, l, oc) : gx_R mi_S)) (fun s1 => mi_fs g s1.1) from gx_P_b fun g1 e1 => gx_P_b fun g2 e2 => gx_P_i ((mi_fs_f g rfl).trans ((mi_fs_add _ _ _ _ _ g1 e1).trans ((mi_fs_up g1 rfl).trans (mi_fs_add _ _ _ _ _ g2 e2))))) s1
  · intro h; cases h
  · exact (show gx_P (ce_q (0 ≤ g 254 50 ∧ g 254 50 < 99990) (gx_b (mi_add 20 (g 254 50) 0 0 (am_up g 254 50 (g 254 50 + 2))) fun g1 => gx_b (mi_add 17 0 0 0 g1) fun g2 => (.inr (g2, ty, so, (3, g 254 50, 0, g 254 33) :: bs, oc) : gx_R mi_S))) (fun s1 => mi_fs g s1.1) from gx_P_q fun _ => gx_P_b fun g1 e1 => gx_P_b fun g2 e2 => gx_P_i ((mi_fs_f g rfl).trans ((mi_fs_add _ _ _ _ _ g1 e1).trans (mi_fs_add _ _ _ _ _ g2 e2)))) s1
  · cases bs with
    | nil => intro h; cases h
    | cons b l => exact (show gx_P (ce_q (l.length < 40) (gx_b (mi_add 15 0 (b.2.1 + 1) 0 g) fun g1 => (.inr (mi_blk l.length 3 b.2.1 (g 254 33) b.2.2.2 g1, ty, so, (3, b.2.1, g 254 33, b.2.2.2) :: l, oc) : gx_R mi_S))) (fun s1 => mi_fs g s1.1) from gx_P_q fun _ => gx_P_b fun g1 e1 => gx_P_i ((mi_fs_add _ _ _ _ _ g1 e1).trans (mi_fs_blk _ _ _ _ _ _))) s1
  · cases bs with
    | nil => intro h; cases h
    | cons b l => exact (show gx_P (gx_b (mi_add 16 b.2.2.2 b.2.1 0 (am_up g 254 55 (l.length : Int))) fun g1 => gx_b (mi_add 20 (b.2.1 + 1) 0 0 g1) fun g2 => gx_b (mi_add 12 0 0 0 (am_up g2 278 b.2.2.1.toNat (g1 254 33))) fun g3 => (.inr (g3, ty, so, l, oc) : gx_R mi_S)) (fun s1 => mi_fs g s1.1) from gx_P_b fun g1 e1 => gx_P_b fun g2 e2 => gx_P_b fun g3 e3 => gx_P_i ((mi_fs_f g rfl).trans ((mi_fs_add _ _ _ _ _ g1 e1).trans ((mi_fs_add _ _ _ _ _ g2 e2).trans ((mi_fs_up g2 rfl).trans (mi_fs_add _ _ _ _ _ g3 e3)))))) s1
  · exact mi_fs_h (mi_fs_add _ _ _ _ g) s1
  · exact mi_fs_h (mi_fs_2 _ _ _ _ _ _ _ _ g) s1
theorem mi_fs_s {K V P : Nat → Int} (G f m deep st i : Nat) (s : mi_S) : gx_P (hs K V P (mi V) G f m deep st i s) (fun a => mi_fs s.1 a.2.2.1) :=
  hs_rel (Rl := fun s s1 => mi_fs s.1 s1.1) (fun s => mi_fs.refl _) (fun (a b c : mi_S) (h1 : mi_fs a.1 b.1) (h2 : mi_fs b.1 c.1) => h1.trans h2) (fun e s s1 he h => mi_fs_ev V e s s1 he h) G f m deep st i s
