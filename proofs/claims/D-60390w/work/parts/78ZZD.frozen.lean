/-! PURE LAYER, 109: counts of classes and subs that are done stay -/
def fy (g x : am_H) : Prop := x 262 = g 262 ∧ x 267 = g 267 ∧ x 268 = g 268 ∧ x 269 = g 269
def fz (p : pr_S) (g x : am_H) : Prop := (∀ k, (k + 1 < p.1 0 ∨ k + 1 = p.1 0 ∧ p.1 9 ≠ 2) → x 262 k = g 262 k) ∧ (∀ k, (k + 1 < p.1 3 ∨ k + 1 = p.1 3 ∧ p.1 9 ≠ 4) → x 267 k = g 267 k) ∧ (∀ k, (k + 1 < p.1 3 ∨ k + 1 = p.1 3 ∧ p.1 9 ≠ 4 ∧ p.1 9 ≠ 5) → x 268 k = g 268 k ∧ x 269 k = g 269 k)
section
variable {g x : am_H} {p p' : pr_S}
theorem fy.refl (g : am_H) : fy g g := ⟨rfl, rfl, rfl, rfl⟩
theorem fy.up (F : fy g x) {a k : Nat} {v : Int} (ha : a ≠ 262 ∧ a ≠ 267 ∧ a ≠ 268 ∧ a ≠ 269) : fy g (am_up x a k v) := ⟨by rw [p_up_c _ _ _ _ _ (Ne.symm ha.1)]; exact F.1, by rw [p_up_c _ _ _ _ _ (Ne.symm ha.2.1)]; exact F.2.1, by rw [p_up_c _ _ _ _ _ (Ne.symm ha.2.2.1)]; exact F.2.2.1, by rw [p_up_c _ _ _ _ _ (Ne.symm ha.2.2.2)]; exact F.2.2.2⟩
theorem fy.put (F : fy g x) (k a b t : Int) : fy g (mi_put k a b t x) := (((((F.up (by decide)).up (by decide)).up (by decide)).up (by decide)).up (by decide)).up (by decide)
theorem fy.add (F : fy g x) (k a b t : Int) : gx_P (mi_add k a b t x) (fy g) := gx_P_q fun _ => gx_P_i (F.put k a b t)
theorem fy.blk (F : fy g x) (k : Nat) (a b c e : Int) : fy g (mi_blk k a b c e x) := ((((F.up (by decide)).up (by decide)).up (by decide)).up (by decide)).up (by decide)
theorem fy.call (F : fy g x) (a b : Int) : fy g (mi_call a b x) := ((((F.up (by decide)).up (by decide)).up (by decide)).up (by decide)).up (by decide)
theorem fy.dec (F : fy g x) (x1 x2 x3 x4 x5 x6 : Int) : fy g (mi_dec x1 x2 x3 x4 x5 x6 x) := (((((((F.up (by decide)).up (by decide)).up (by decide)).up (by decide)).up (by decide)).up (by decide)).up (by decide)).up (by decide)
theorem fy.hh {s : mi_S} {r : gx_R am_H} (H : gx_P r (fy s.1)) : gx_P (mi_h s r) (fun s1 => fy s.1 s1.1) := gx_P_b fun a e => gx_P_i (H a e)
theorem fy.z (F : fy g x) (p : pr_S) : fz p g x := ⟨fun k _ => by rw [F.1], fun k _ => by rw [F.2.1], fun k _ => ⟨by rw [F.2.2.1], by rw [F.2.2.2]⟩⟩
theorem fz.trans {y : am_H} (A : fz p g x) (B : fz p' x y) (h0 : p.1 0 ≤ p'.1 0) (h3 : p.1 3 ≤ p'.1 3) (q2 : p'.1 9 = 2 → p.1 9 = 2 ∨ p.1 0 < p'.1 0) (q4 : p'.1 9 = 4 → p.1 9 = 4 ∨ p.1 3 < p'.1 3) (q5 : p'.1 9 = 4 ∨ p'.1 9 = 5 → (p.1 9 = 4 ∨ p.1 9 = 5) ∨ p.1 3 < p'.1 3) : fz p g y := by
  refine ⟨fun k hk => (B.1 k (by omega)).trans (A.1 k hk), fun k hk => (B.2.1 k (by omega)).trans (A.2.1 k hk), fun k hk => ?_⟩
  have a := A.2.2 k hk
  have b := B.2.2 k (by omega)
  exact ⟨b.1.trans a.1, b.2.trans a.2⟩
variable {K V : Nat → Int} {s s' : mi_S} {e : gx_V}
/-- bodies leave these counts alone -/
theorem fy_ev (he : e.1 ≤ 34) (hm : mi V e s = .inr s') : fy s.1 s'.1 := by
  obtain ⟨g, ty, so, bs, oc⟩ := s
  obtain ⟨n, a, b, c⟩ := e
  dsimp only at he
  have D0 : fy g g := fy.refl g
  have two : ∀ (k a b t k2 a2 b2 t2 : Int), gx_P (gx_b (mi_add k a b t g) (mi_add k2 a2 b2 t2)) (fy g) := fun k a b t k2 a2 b2 t2 => gx_P_b fun g1 e1 => (D0.add k a b t g1 e1).add k2 a2 b2 t2
  show fy g s'.1
  unfold mi at hm
  dsimp only at hm
  split at hm
  all_goals first
    | (exact fy.hh (s := (g, ty, so, bs, oc)) (D0.add _ _ _ _) s' hm)
    | (exact fy.hh (s := (g, ty, so, bs, oc)) (two _ _ _ _ _ _ _ _) s' hm)
    | (exfalso; omega)
    | skip
  · exact (show gx_P (ce_q (g 254 39 < 990) (gx_b (mi_add 9 (g 254 39) 0 0 (mi_call (if c = 1 then a else -1) b g)) fun g1 => (.inr (g1, ty, so, bs, g 254 39 :: oc) : gx_R mi_S))) (fun s1 => fy g s1.1) from gx_P_q fun _ => gx_P_b fun g1 e1 => gx_P_i ((D0.call _ _).add _ _ _ _ g1 e1)) s' hm
  · cases oc with
    | nil => cases hm
    | cons x l => exact (show gx_P (gx_b (mi_add 10 x 0 0 (am_up g 284 x.toNat c)) fun g1 => (.inr (g1, ty, so, bs, l) : gx_R mi_S)) (fun s1 => fy g s1.1) from gx_P_b fun g1 e1 => gx_P_i ((D0.up (by decide)).add _ _ _ _ g1 e1)) s' hm
  · cases hm; exact D0
  · exact (show gx_P (ce_q (0 ≤ g 254 50 ∧ g 254 50 < 99990) (.inr (am_up g 254 50 (g 254 50 + 2), ty, so, (1, g 254 50, 0, g 254 33) :: bs, oc) : gx_R mi_S)) (fun s1 => fy g s1.1) from gx_P_q fun _ => gx_P_i (D0.up (by decide))) s' hm
  · cases bs with
    | nil => cases hm
    | cons b l => exact (show gx_P (ce_q (l.length < 40) (gx_b (mi_add 15 0 b.2.1 0 g) fun g1 => (.inr (mi_blk l.length 1 b.2.1 (g 254 33) b.2.2.2 g1, ty, so, (1, b.2.1, g 254 33, b.2.2.2) :: l, oc) : gx_R mi_S))) (fun s1 => fy g s1.1) from gx_P_q fun _ => gx_P_b fun g1 e1 => gx_P_i ((D0.add _ _ _ _ g1 e1).blk _ _ _ _ _)) s' hm
  · cases bs with
    | nil => cases hm
    | cons b l => exact (show gx_P (gx_b (mi_add 16 0 (b.2.1 + 1) 0 (am_up g 254 55 (l.length : Int))) fun g1 => gx_b (mi_add 20 b.2.1 0 0 g1) fun g2 => (.inr (mi_blk l.length 2 b.2.1 (g 254 33) 0 (am_up g2 278 b.2.2.1.toNat (g1 254 33)), ty, so, (2, b.2.1, g 254 33, 0) :: l, oc) : gx_R mi_S)) (fun s1 => fy g s1.1) from gx_P_b fun g1 e1 => gx_P_b fun g2 e2 => gx_P_i ((((D0.up (by decide)).add _ _ _ _ g1 e1).add _ _ _ _ g2 e2 |>.up (by decide)).blk _ _ _ _ _)) s' hm
  · cases bs with
    | nil => cases hm
    | cons b l => exact (show gx_P (gx_b (mi_add 20 b.2.1 0 0 (am_up g 254 55 (l.length : Int))) fun g1 => gx_b (mi_add 12 0 0 0 (am_up g1 278 b.2.2.1.toNat (g 254 33))) fun g2 => (.inr (g2, ty, so, l, oc) : gx_R mi_S)) (fun s1 => fy g s1.1) from gx_P_b fun g1 e1 => gx_P_b fun g2 e2 => gx_P_i (((D0.up (by decide)).add _ _ _ _ g1 e1 |>.up (by decide)).add _ _ _ _ g2 e2)) s' hm
  · cases bs with
    | nil => cases hm
    | cons b l => exact (show gx_P (gx_b (mi_add 20 (b.2.1 + 1) 0 0 (am_up g 254 55 (l.length : Int))) fun g1 => gx_b (mi_add 12 0 0 0 (am_up g1 278 b.2.2.1.toNat (g 254 33))) fun g2 => (.inr (g2, ty, so, l, oc) : gx_R mi_S)) (fun s1 => fy g s1.1) from gx_P_b fun g1 e1 => gx_P_b fun g2 e2 => gx_P_i (((D0.up (by decide)).add _ _ _ _ g1 e1 |>.up (by decide)).add _ _ _ _ g2 e2)) s' hm
  · exact (show gx_P (ce_q (0 ≤ g 254 50 ∧ g 254 50 < 99990) (gx_b (mi_add 20 (g 254 50) 0 0 (am_up g 254 50 (g 254 50 + 2))) fun g1 => gx_b (mi_add 17 0 0 0 g1) fun g2 => (.inr (g2, ty, so, (3, g 254 50, 0, g 254 33) :: bs, oc) : gx_R mi_S))) (fun s1 => fy g s1.1) from gx_P_q fun _ => gx_P_b fun g1 e1 => gx_P_b fun g2 e2 => gx_P_i (((D0.up (by decide)).add _ _ _ _ g1 e1).add _ _ _ _ g2 e2)) s' hm
  · cases bs with
    | nil => cases hm
    | cons b l => exact (show gx_P (ce_q (l.length < 40) (gx_b (mi_add 15 0 (b.2.1 + 1) 0 g) fun g1 => (.inr (mi_blk l.length 3 b.2.1 (g 254 33) b.2.2.2 g1, ty, so, (3, b.2.1, g 254 33, b.2.2.2) :: l, oc) : gx_R mi_S))) (fun s1 => fy g s1.1) from gx_P_q fun _ => gx_P_b fun g1 e1 => gx_P_i ((D0.add _ _ _ _ g1 e1).blk _ _ _ _ _)) s' hm
  · cases bs with
    | nil => cases hm
    | cons b l => exact (show gx_P (gx_b (mi_add 16 b.2.2.2 b.2.1 0 (am_up g 254 55 (l.length : Int))) fun g1 => gx_b (mi_add 20 (b.2.1 + 1) 0 0 g1) fun g2 => gx_b (mi_add 12 0 0 0 (am_up g2 278 b.2.2.1.toNat (g1 254 33))) fun g3 => (.inr (g3, ty, so, l, oc) : gx_R mi_S)) (fun s1 => fy g s1.1) from gx_P_b fun g1 e1 => gx_P_b fun g2 e2 => gx_P_b fun g3 e3 => gx_P_i ((((D0.up (by decide)).add _ _ _ _ g1 e1).add _ _ _ _ g2 e2 |>.up (by decide)).add _ _ _ _ g3 e3)) s' hm
  · cases hm
theorem fz_ev {w : Nat → Nat → Nat} (h : pr w K V e p = .inr p') (hm : mi V e s = .inr s') (R : rv K p s) : fz p s.1 s'.1 ∧ p.1 0 ≤ p'.1 0 ∧ p.1 3 ≤ p'.1 3 ∧ (p'.1 9 = 2 → p.1 9 = 2 ∨ p.1 0 < p'.1 0) ∧ (p'.1 9 = 4 → p.1 9 = 4 ∨ p.1 3 < p'.1 3) ∧ (p'.1 9 = 4 ∨ p'.1 9 = 5 → (p.1 9 = 4 ∨ p.1 9 = 5) ∨ p.1 3 < p'.1 3) := by
  by_cases he : e.1 ≤ 34
  · have z := pz_ev he h
    refine ⟨(fy_ev he hm).z p, ?_⟩
    rw [z 0 (by decide), z 3 (by decide), z 9 (by decide)]
    exact ⟨Nat.le_refl _, Nat.le_refl _, Or.inl, Or.inl, Or.inl⟩
  obtain ⟨n, x, y, z⟩ := e
  obtain ⟨g, ty, so, bs, oc⟩ := s
  dsimp only at he
  obtain ⟨-, ⟨r1, r2, -⟩, ⟨r3, r4⟩, -⟩ := R
  dsimp only at r1 r2
  have D0 : fy g g := fy.refl g
  have P2 : ∀ (k v j : Nat), pu p.1 k v j = if j = k then v else p.1 j := fun _ _ _ => rfl
  unfold pr at h
  split at h
  all_goals first
    | (cases h; done)
    | (rename_i hn; have hn : n = _ := hn; subst hn; exfalso; revert he; decide)
    | (rename_i hn; have hn : n = _ := hn; subst hn)
    | skip
  · -- 39
    obtain ⟨hc, -, hp⟩ := pr_q_in h
    subst hp; cases hm
    exact ⟨D0.z p, by simp [pu], by simp [pu], by simp [pu], by simp [pu], by simp [pu]⟩
  · -- 40
    obtain ⟨hc, -, hp⟩ := pr_q_in h
    subst hp; cases hm
    have c1 := hc.1
    refine ⟨⟨fun k hk => ?_, fun k _ => ?_, fun k _ => ⟨?_, ?_⟩⟩, by simp [pu], by simp [pu], by simp [pu], by simp [pu], by simp [pu]⟩
    · dsimp only
      rw [p_up_c _ _ _ _ _ (by decide), p_up_c _ _ _ _ _ (by decide), p_up_n _ _ _ _ _ _ (Or.inr (by omega)), p_up_c _ _ _ _ _ (by decide)]
    · dsimp only
      rw [p_up_c _ _ _ _ _ (by decide), p_up_c _ _ _ _ _ (by decide), p_up_c _ _ _ _ _ (by decide), p_up_c _ _ _ _ _ (by decide)]
    · dsimp only
      rw [p_up_c _ _ _ _ _ (by decide), p_up_c _ _ _ _ _ (by decide), p_up_c _ _ _ _ _ (by decide), p_up_c _ _ _ _ _ (by decide)]
    · dsimp only
      rw [p_up_c _ _ _ _ _ (by decide), p_up_c _ _ _ _ _ (by decide), p_up_c _ _ _ _ _ (by decide), p_up_c _ _ _ _ _ (by decide)]
  · -- 38
    obtain ⟨hc, -, hp⟩ := pr_q_in h
    subst hp; cases hm
    exact ⟨D0.z p, by simp [pu], by simp [pu], by simp [pu], by simp [pu], by simp [pu]⟩
  · -- 41
    obtain ⟨hc, -, hp⟩ := pr_q_in h
    subst hp; cases hm
    exact ⟨D0.z p, by simp [pu], by simp [pu], by simp [pu], by simp [pu], by simp [pu]⟩
  · -- 42
    obtain ⟨hc, -, hp⟩ := pr_q_in h
    have hm := ce_q_in (show ce_q (g 254 25 < 1090) _ = .inr s' from hm)
    have hp0 : p'.1 0 = p.1 0 := by rw [hp]; dsimp only; rw [pu_n _ _ _ _ (by decide), pu_n _ _ _ _ (by decide)]; split <;> exact pu_n _ _ _ _ (by decide)
    have hp3 : p'.1 3 = p.1 3 := by rw [hp]; dsimp only; rw [pu_n _ _ _ _ (by decide), pu_n _ _ _ _ (by decide)]; split <;> exact pu_n _ _ _ _ (by decide)
    have hp9 : p'.1 9 = p.1 9 := by rw [hp]; dsimp only; rw [pu_n _ _ _ _ (by decide), pu_n _ _ _ _ (by decide)]; split <;> exact pu_n _ _ _ _ (by decide)
    rw [hp0, hp3, hp9]
    refine ⟨?_, Nat.le_refl _, Nat.le_refl _, Or.inl, Or.inl, Or.inl⟩
    have c1 := hc.1
    split at hm
    · cases hm
      have F := D0.dec (-1) 1 ty x (g 262 (g 254 14 - 1).toNat) (g 262 (g 254 14 - 1).toNat)
      refine ⟨fun k hk => ?_, fun k _ => ?_, fun k _ => ⟨?_, ?_⟩⟩
      · dsimp only
        have := r3 (by omega)
        rw [p_up_n _ _ _ _ _ _ (Or.inr (by omega)), F.1]
      · dsimp only; rw [p_up_c _ _ _ _ _ (by decide), F.2.1]
      · dsimp only; rw [p_up_c _ _ _ _ _ (by decide), F.2.2.1]
      · dsimp only; rw [p_up_c _ _ _ _ _ (by decide), F.2.2.2]
    · cases hm
      exact (((D0.dec _ _ _ _ _ _).up (by decide)).up (by decide)).z p
  · -- 43
    obtain ⟨hc, -, hp⟩ := pr_q_in h
    subst hp; cases hm
    exact ⟨D0.z p, by simp [pu], by simp [pu], by simp [pu], by simp [pu], by simp [pu]⟩
  · -- 44
    obtain ⟨hc, -, hp⟩ := pr_q_in h
    subst hp; cases hm
    exact ⟨D0.z p, by simp [pu], by simp [pu], by simp [pu], by simp [pu], by simp [pu]⟩
  · -- 45
    obtain ⟨hc, -, hp⟩ := pr_q_in h
    subst hp; cases hm
    have F : ∀ k : Nat, k < p.1 3 → ∀ a, a = 267 ∨ a = 268 ∨ a = 269 → am_up (am_up (am_up (am_up (am_up (am_up (am_up (am_up (am_up g 263 (g 254 17).toNat (g 254 14 - 1)) 264 (g 254 17).toNat so) 265 (g 254 17).toNat x) 266 (g 254 17).toNat ty) 267 (g 254 17).toNat 0) 268 (g 254 17).toNat 0) 269 (g 254 17).toNat (g 254 33)) 254 17 (g 254 17 + 1)) 254 50 0 a k = g a k := by
      intro k hk a ha
      rw [p_up_c _ _ _ _ _ (by omega), p_up_c _ _ _ _ _ (by omega), p_up_n _ _ _ _ _ _ (Or.inr (by omega)), p_up_n _ _ _ _ _ _ (Or.inr (by omega)), p_up_n _ _ _ _ _ _ (Or.inr (by omega)), p_up_c _ _ _ _ _ (by omega), p_up_c _ _ _ _ _ (by omega), p_up_c _ _ _ _ _ (by omega), p_up_c _ _ _ _ _ (by omega)]
    refine ⟨⟨fun k _ => ?_, fun k hk => F k (by omega) 267 (by omega), fun k hk => ⟨F k (by omega) 268 (by omega), F k (by omega) 269 (by omega)⟩⟩, by simp [pu], by simp [pu], by simp [pu], by simp [pu], by simp [pu]⟩
    dsimp only
    rw [p_up_c _ _ _ _ _ (by decide), p_up_c _ _ _ _ _ (by decide), p_up_c _ _ _ _ _ (by decide), p_up_c _ _ _ _ _ (by decide), p_up_c _ _ _ _ _ (by decide), p_up_c _ _ _ _ _ (by decide), p_up_c _ _ _ _ _ (by decide), p_up_c _ _ _ _ _ (by decide), p_up_c _ _ _ _ _ (by decide)]
  · -- 51
    obtain ⟨hc, -, hp⟩ := pr_q_in h
    subst hp; cases hm
    exact ⟨D0.z p, by simp [pu], by simp [pu], by simp [pu], by simp [pu], by simp [pu]⟩
  · -- 46
    obtain ⟨hc, -, hp⟩ := pr_q_in h
    have hm := ce_q_in (show ce_q (g 254 25 < 1090) _ = .inr s' from hm)
    subst hp; cases hm
    have c1 := hc.1
    have c2 := r4 (by omega)
    have F := D0.dec (g 254 17 - 1) 2 ty x (g 267 (g 254 17 - 1).toNat) (g 267 (g 254 17 - 1).toNat)
    refine ⟨⟨fun k hk => ?_, fun k hk => ?_, fun k _ => ⟨?_, ?_⟩⟩, by simp [pu], by simp [pu], by simp [pu], by simp [pu], by simp [pu]⟩
    · dsimp only; rw [p_up_c _ _ _ _ _ (by decide), F.1]
    · dsimp only; rw [p_up_n _ _ _ _ _ _ (Or.inr (by omega)), F.2.1]
    · dsimp only; rw [p_up_c _ _ _ _ _ (by decide), F.2.2.1]
    · dsimp only; rw [p_up_c _ _ _ _ _ (by decide), F.2.2.2]
  · -- 47
    obtain ⟨hc, -, hp⟩ := pr_q_in h
    subst hp; cases hm
    have c1 := hc.1
    exact ⟨D0.z p, by simp [pu], by simp [pu], by simp [pu], by simp [pu], fun _ => Or.inl (Or.inl c1)⟩
  · -- 50
    obtain ⟨hc, -, hp⟩ := pr_q_in h
    have hm := ce_q_in (show ce_q (g 254 25 < 1090) _ = .inr s' from hm)
    subst hp; cases hm
    have c1 := hc.1
    have c2 := r4 (by omega)
    have F := D0.dec (g 254 17 - 1) 3 ty x (g 268 (g 254 17 - 1).toNat) (g 268 (g 254 17 - 1).toNat)
    refine ⟨⟨fun k hk => ?_, fun k hk => ?_, fun k hk => ⟨?_, ?_⟩⟩, by simp [pu], by simp [pu], by simp [pu], by simp [pu], by simp [pu]⟩
    · dsimp only; rw [p_up_c _ _ _ _ _ (by decide), F.1]
    · dsimp only; rw [p_up_c _ _ _ _ _ (by decide), F.2.1]
    · dsimp only; rw [p_up_n _ _ _ _ _ _ (Or.inr (by omega)), F.2.2.1]
    · dsimp only; rw [p_up_c _ _ _ _ _ (by decide), F.2.2.2]
  · -- 48
    obtain ⟨hc, -, hp⟩ := pr_q_in h
    subst hp; cases hm
    have c1 := hc.1
    have c2 := r4 (by omega)
    refine ⟨⟨fun k hk => ?_, fun k hk => ?_, fun k hk => ⟨?_, ?_⟩⟩, by simp [pu], by simp [pu], by simp [pu], by simp [pu], by simp [pu]⟩
    · dsimp only; rw [p_up_c _ _ _ _ _ (by decide), p_up_c _ _ _ _ _ (by decide)]
    · dsimp only; rw [p_up_c _ _ _ _ _ (by decide), p_up_c _ _ _ _ _ (by decide)]
    · dsimp only; rw [p_up_c _ _ _ _ _ (by decide), p_up_c _ _ _ _ _ (by decide)]
    · dsimp only; rw [p_up_c _ _ _ _ _ (by decide), p_up_n _ _ _ _ _ _ (Or.inr (by omega))]
  · -- 49
    obtain ⟨hc, -, hp⟩ := pr_q_in h
    subst hp
    refine ⟨fy.z ((fy.hh (s := (g, ty, so, bs, oc)) (gx_P_b fun g1 e1 => (D0.add 0 0 0 0 g1 e1).add 18 1 0 0) s' hm)) p, by simp [pu], by simp [pu], by simp [pu], by simp [pu], by simp [pu]⟩
theorem fz_run {w : Nat → Nat → Nat} : ∀ (es : List gx_V) {p p' : pr_S} {s s' : mi_S}, gx_fold (pr pw K V) es p = .inr p' → gx_fold (mi V) es s = .inr s' → rv K p s → fz p s.1 s'.1
  | [], p, p', s, s', h, hm, R => by cases h; cases hm; exact (fy.refl _).z p
  | e :: es, p, p', s, s', h, hm, R => by
    obtain ⟨p1, e1, e2⟩ := gx_b_ok h
    obtain ⟨s1, m1, m2⟩ := gx_b_ok hm
    obtain ⟨a1, a2, a3, a4, a5, a6⟩ := fz_ev e1 m1 R
    exact a1.trans (fz_run (w := w) es e2 m2 (rv_ev e1 m1 R)) a2 a3 a4 a5 a6
end
