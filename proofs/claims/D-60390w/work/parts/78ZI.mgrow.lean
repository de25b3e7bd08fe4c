/-! PURE LAYER, 88: the model's tables only grow -/
/-- cells of tables, each with the count of its table -/
def mx_c (a : Nat) : Option Nat := match a with
  | 261 => some 14 | 263 => some 17 | 264 => some 17 | 265 => some 17 | 266 => some 17
  | 270 => some 25 | 271 => some 25 | 272 => some 25 | 273 => some 25 | 274 => some 25 | 275 => some 25 | 276 => some 25
  | 277 => some 33 | 280 => some 33 | 281 => some 33
  | 282 => some 39 | 283 => some 39 | 289 => some 39
  | _ => none
def mx_k (c : Nat) : Prop := c = 14 ∨ c = 17 ∨ c = 25 ∨ c = 33 ∨ c = 39
def mx (g g' : am_H) : Prop := (∀ c, mx_k c → g 254 c ≤ g' 254 c) ∧ ∀ a c, mx_c a = some c → ∀ k : Nat, (k : Int) < g 254 c → g' a k = g a k
theorem mx.refl (g : am_H) : mx g g := ⟨fun _ _ => Int.le_refl _, fun _ _ _ _ _ => rfl⟩
theorem mx_ck {a c : Nat} (h : mx_c a = some c) : mx_k c ∧ a ≠ 254 := by
  unfold mx_c at h
  unfold mx_k
  split at h <;> cases h <;> exact ⟨by decide, by decide⟩
theorem mx.trans {a b c : am_H} (h1 : mx a b) (h2 : mx b c) : mx a c := ⟨fun k hk => Int.le_trans (h1.1 k hk) (h2.1 k hk), fun x k hx j hj => (h2.2 x k hx j (by have := h1.1 k (mx_ck hx).1; omega)).trans (h1.2 x k hx j hj)⟩
theorem mx.up {g x : am_H} (m : mx g x) {a k : Nat} {v : Int} (ha : a ≠ 254) (h : ∀ c, mx_c a = some c → g 254 c ≤ k) : mx g (am_up x a k v) := by
  refine ⟨fun c hc => by rw [p_up_c _ _ _ _ _ (Ne.symm ha)]; exact m.1 c hc, fun b c hb j hj => ?_⟩
  by_cases e : b = a ∧ j = k
  · obtain ⟨rfl, rfl⟩ := e
    have := h c hb
    omega
  · rw [p_up_n _ _ _ _ _ _ (by omega)]; exact m.2 b c hb j hj
theorem mx.upf {g x : am_H} (m : mx g x) {k : Nat} {v : Int} (h : mx_k k → g 254 k ≤ v) : mx g (am_up x 254 k v) := by
  refine ⟨fun c hc => ?_, fun b c hb j hj => ?_⟩
  · by_cases e : c = k
    · subst e; rw [p_up_s]; exact h hc
    · rw [p_up_n _ _ _ _ _ _ (Or.inr e)]; exact m.1 c hc
  · rw [p_up_c _ _ _ _ _ (mx_ck hb).2]; exact m.2 b c hb j hj
theorem mx.n {g x : am_H} (m : mx g x) {a k : Nat} {v : Int} (ha : a ≠ 254) (h : mx_c a = none) : mx g (am_up x a k v) := m.up ha (fun c hc => by rw [h] at hc; cases hc)
theorem mx.i {g x : am_H} (m : mx g x) {a n : Nat} {v w : Int} (ha : a ≠ 254) (h : mx_c a = some n) (hw : g 254 n ≤ w) : mx g (am_up x a w.toNat v) := m.up ha (fun c hc => by rw [h] at hc; cases hc; omega)
theorem mx_put (k a b t : Int) (g : am_H) : mx g (mi_put k a b t g) := ((((((mx.refl g).i (by decide) rfl (Int.le_refl _)).n (by decide) rfl).n (by decide) rfl).i (by decide) rfl (Int.le_refl _)).i (by decide) rfl (Int.le_refl _)).upf (fun _ => by omega)
theorem mx_add (k a b t : Int) (g : am_H) : gx_P (mi_add k a b t g) (mx g) := gx_P_q fun _ => gx_P_i (mx_put k a b t g)
theorem mx_h {s : mi_S} {r : gx_R am_H} (h : gx_P r (mx s.1)) : gx_P (mi_h s r) (fun s1 => mx s.1 s1.1) := gx_P_b fun a e => gx_P_i (h a e)
theorem mx_2 (k a b t k2 a2 b2 t2 : Int) (g : am_H) : gx_P (gx_b (mi_add k a b t g) (mi_add k2 a2 b2 t2)) (mx g) := gx_P_b fun g1 e1 g2 e2 => (mx_add _ _ _ _ _ g1 e1).trans (mx_add _ _ _ _ _ g2 e2)
theorem mx_blk (k : Nat) (a b c e : Int) (g : am_H) : mx g (mi_blk k a b c e g) := (((((mx.refl g).n (by decide) rfl).n (by decide) rfl).n (by decide) rfl).n (by decide) rfl).upf (fun h => by unfold mx_k at h; omega)
theorem mx_55 (g : am_H) (v : Int) : mx g (am_up g 254 55 v) := (mx.refl g).upf (fun h => by unfold mx_k at h; omega)
theorem mx_50 (g : am_H) (v : Int) : mx g (am_up g 254 50 v) := (mx.refl g).upf (fun h => by unfold mx_k at h; omega)
theorem mx_278 (g : am_H) (k : Nat) (v : Int) : mx g (am_up g 278 k v) := (mx.refl g).n (by decide) rfl
theorem mx_call (a b : Int) (g : am_H) : mx g (mi_call a b g) := (((((mx.refl g).upf (fun _ => by omega)).i (by decide) rfl (Int.le_refl _)).i (by decide) rfl (Int.le_refl _)).n (by decide) rfl).i (by decide) rfl (Int.le_refl _)
theorem mx_dec (x1 x2 x3 x4 x5 x6 : Int) (g : am_H) : mx g (mi_dec x1 x2 x3 x4 x5 x6 g) := ((((((((mx.refl g).i (by decide) rfl (Int.le_refl _)).i (by decide) rfl (Int.le_refl _)).i (by decide) rfl (Int.le_refl _)).i (by decide) rfl (Int.le_refl _)).i (by decide) rfl (Int.le_refl _)).i (by decide) rfl (Int.le_refl _)).i (by decide) rfl (Int.le_refl _)).upf (fun _ => by omega)
theorem mx_sub (so t ty : Int) (g : am_H) : mx g (mi_sub so t ty g) := (((((((((mx.refl g).i (by decide) rfl (Int.le_refl _)).i (by decide) rfl (Int.le_refl _)).i (by decide) rfl (Int.le_refl _)).i (by decide) rfl (Int.le_refl _)).n (by decide) rfl).n (by decide) rfl).n (by decide) rfl).upf (fun _ => by omega)).upf (fun h => by unfold mx_k at h; omega)
theorem mx_cls (t : Int) (g : am_H) : mx g (mi_cls t g) := ((((mx.refl g).i (by decide) rfl (Int.le_refl _)).n (by decide) rfl).upf (fun _ => by omega)).upf (fun h => by unfold mx_k at h; omega)
/-- every event -/
theorem mx_ev (V : Nat → Int) (e : gx_V) (s s1 : mi_S) (h : mi V e s = .inr s1) : mx s.1 s1.1 := by
  obtain ⟨g, ty, so, bs, oc⟩ := s
  obtain ⟨n, a, b, c⟩ := e
  show mx g s1.1
  unfold mi at h
  dsimp only at h
  split at h
  · exact mx_h (mx_add _ _ _ _ g) s1 h
  · exact mx_h (mx_add _ _ _ _ g) s1 h
  · exact mx_h (mx_add _ _ _ _ g) s1 h
  · exact mx_h (mx_add _ _ _ _ g) s1 h
  · exact mx_h (mx_add _ _ _ _ g) s1 h
  · exact mx_h (mx_add _ _ _ _ g) s1 h
  · exact mx_h (mx_add _ _ _ _ g) s1 h
  · exact mx_h (mx_add _ _ _ _ g) s1 h
  · exact mx_h (mx_add _ _ _ _ g) s1 h
  · exact mx_h (mx_add _ _ _ _ g) s1 h
  · exact (show gx_P (ce_q (g 254 39 < 990) (gx_b (mi_add 9 (g 254 39) 0 0 (mi_call (if c = 1 then a else -1) b g)) fun g1 => (.inr (g1, ty, so, bs, g 254 39 :: oc) : gx_R mi_S))) (fun s1 => mx g s1.1) from gx_P_q fun _ => gx_P_b fun g1 e1 => gx_P_i ((mx_call _ _ g).trans (mx_add _ _ _ _ _ g1 e1))) s1 h
  · cases oc with
    | nil => cases h
    | cons x l => exact (show gx_P (gx_b (mi_add 10 x 0 0 (am_up g 284 x.toNat c)) fun g1 => (.inr (g1, ty, so, bs, l) : gx_R mi_S)) (fun s1 => mx g s1.1) from gx_P_b fun g1 e1 => gx_P_i (((mx.refl g).n (by decide) rfl).trans (mx_add _ _ _ _ _ g1 e1))) s1 h
  · exact mx_h (mx_add _ _ _ _ g) s1 h
  · cases h; exact mx.refl g
  · exact mx_h (mx_2 _ _ _ _ _ _ _ _ g) s1 h
  · exact mx_h (mx_2 _ _ _ _ _ _ _ _ g) s1 h
  · exact (show gx_P (ce_q (0 ≤ g 254 50 ∧ g 254 50 < 99990) (.inr (am_up g 254 50 (g 254 50 + 2), ty, so, (1, g 254 50, 0, g 254 33) :: bs, oc) : gx_R mi_S)) (fun s1 => mx g s1.1) from gx_P_q fun _ => gx_P_i (mx_50 g _)) s1 h
  · cases bs with
    | nil => cases h
    | cons b l => exact (show gx_P (ce_q (l.length < 40) (gx_b (mi_add 15 0 b.2.1 0 g) fun g1 => (.inr (mi_blk l.length 1 b.2.1 (g 254 33) b.2.2.2 g1, ty, so, (1, b.2.1, g 254 33, b.2.2.2) :: l, oc) : gx_R mi_S))) (fun s1 => mx g s1.1) from gx_P_q fun _ => gx_P_b fun g1 e1 => gx_P_i ((mx_add _ _ _ _ _ g1 e1).trans (mx_blk _ _ _ _ _ _))) s1 h
  · cases bs with
    | nil => cases h
    | cons b l => exact (show gx_P (gx_b (mi_add 16 0 (b.2.1 + 1) 0 (am_up g 254 55 (l.length : Int))) fun g1 => gx_b (mi_add 20 b.2.1 0 0 g1) fun g2 => (.inr (mi_blk l.length 2 b.2.1 (g 254 33) 0 (am_up g2 278 b.2.2.1.toNat (g1 254 33)), ty, so, (2, b.2.1, g 254 33, 0) :: l, oc) : gx_R mi_S)) (fun s1 => mx g s1.1) from gx_P_b fun g1 e1 => gx_P_b fun g2 e2 => gx_P_i ((mx_55 g _).trans ((mx_add _ _ _ _ _ g1 e1).trans ((mx_add _ _ _ _ _ g2 e2).trans ((mx_278 g2 _ _).trans (mx_blk _ _ _ _ _ _)))))) s1 h
  · cases bs with
    | nil => cases h
    | cons b l => exact (show gx_P (gx_b (mi_add 20 b.2.1 0 0 (am_up g 254 55 (l.length : Int))) fun g1 => gx_b (mi_add 12 0 0 0 (am_up g1 278 b.2.2.1.toNat (g 254 33))) fun g2 => (.inr (g2, ty, so, l, oc) : gx_R mi_S)) (fun s1 => mx g s1.1) from gx_P_b fun g1 e1 => gx_P_b fun g2 e2 => gx_P_i ((mx_55 g _).trans ((mx_add _ _ _ _ _ g1 e1).trans ((mx_278 g1 _ _).trans (mx_add _ _ _ _ _ g2 e2))))) s1 h
  · cases bs with
    | nil => cases h
    | cons b l => exact (show gx_P (gx_b (mi_add 20 (b.2.1 + 1) 0 0 (am_up g 254 55 (l.length : Int))) fun g1 => gx_b (mi_add 12 0 0 0 (am_up g1 278 b.2.2.1.toNat (g 254 33))) fun g2 => (.inr (g2, ty, so, l, oc) : gx_R mi_S)) (fun s1 => mx g s1.1) from gx_P_b fun g1 e1 => gx_P_b fun g2 e2 => gx_P_i ((mx_55 g _).trans ((mx_add _ _ _ _ _ g1 e1).trans ((mx_278 g1 _ _).trans (mx_add _ _ _ _ _ g2 e2))))) s1 h
  · exact (show gx_P (ce_q (0 ≤ g 254 50 ∧ g 254 50 < 99990) (gx_b (mi_add 20 (g 254 50) 0 0 (am_up g 254 50 (g 254 50 + 2))) fun g1 => gx_b (mi_add 17 0 0 0 g1) fun g2 => (.inr (g2, ty, so, (3, g 254 50, 0, g 254 33) :: bs, oc) : gx_R mi_S))) (fun s1 => mx g s1.1) from gx_P_q fun _ => gx_P_b fun g1 e1 => gx_P_b fun g2 e2 => gx_P_i ((mx_50 g _).trans ((mx_add _ _ _ _ _ g1 e1).trans (mx_add _ _ _ _ _ g2 e2)))) s1 h
  · cases bs with
    | nil => cases h
    | cons b l => exact (show gx_P (ce_q (l.length < 40) (gx_b (mi_add 15 0 (b.2.1 + 1) 0 g) fun g1 => (.inr (mi_blk l.length 3 b.2.1 (g 254 33) b.2.2.2 g1, ty, so, (3, b.2.1, g 254 33, b.2.2.2) :: l, oc) : gx_R mi_S))) (fun s1 => mx g s1.1) from gx_P_q fun _ => gx_P_b fun g1 e1 => gx_P_i ((mx_add _ _ _ _ _ g1 e1).trans (mx_blk _ _ _ _ _ _))) s1 h
  · cases bs with
    | nil => cases h
    | cons b l => exact (show gx_P (gx_b (mi_add 16 b.2.2.2 b.2.1 0 (am_up g 254 55 (l.length : Int))) fun g1 => gx_b (mi_add 20 (b.2.1 + 1) 0 0 g1) fun g2 => gx_b (mi_add 12 0 0 0 (am_up g2 278 b.2.2.1.toNat (g1 254 33))) fun g3 => (.inr (g3, ty, so, l, oc) : gx_R mi_S)) (fun s1 => mx g s1.1) from gx_P_b fun g1 e1 => gx_P_b fun g2 e2 => gx_P_b fun g3 e3 => gx_P_i ((mx_55 g _).trans ((mx_add _ _ _ _ _ g1 e1).trans ((mx_add _ _ _ _ _ g2 e2).trans ((mx_278 g2 _ _).trans (mx_add _ _ _ _ _ g3 e3)))))) s1 h
  · exact mx_h (mx_add _ _ _ _ g) s1 h
  · exact mx_h (mx_2 _ _ _ _ _ _ _ _ g) s1 h
  · cases h; exact mx.refl g
  · cases h; exact mx.refl g
  · cases h; exact mx_cls _ g
  · cases h; exact mx.refl g
  · unfold ce_q at h
    split at h
    · split at h
      · cases h; exact (mx_dec _ _ _ _ _ _ g).n (by decide) rfl
      · cases h; exact ((mx_dec _ _ _ _ _ _ g).upf (fun z => by unfold mx_k at z; omega)).upf (fun z => by unfold mx_k at z; omega)
    · cases h
  · cases h; exact mx.refl g
  · cases h; exact mx.refl g
  · cases h; exact mx_sub _ _ _ g
  · cases h; exact mx.refl g
  · unfold ce_q at h
    split at h
    · cases h; exact (mx_dec _ _ _ _ _ _ g).n (by decide) rfl
    · cases h
  · cases h; exact mx.refl g
  · unfold ce_q at h
    split at h
    · cases h; exact (mx_dec _ _ _ _ _ _ g).n (by decide) rfl
    · cases h
  · cases h; exact ((mx.refl g).n (by decide) rfl).upf (fun z => by unfold mx_k at z; omega)
  · exact mx_h (mx_2 _ _ _ _ _ _ _ _ g) s1 h
  · cases h
theorem mx_run (V : Nat → Int) : ∀ (es : List gx_V) (s s1 : mi_S), gx_fold (mi V) es s = .inr s1 → mx s.1 s1.1
  | [], s, s1, h => by cases h; exact mx.refl _
  | e :: es, s, s1, h => by
    obtain ⟨s2, h1, h2⟩ := gx_b_ok h
    exact (mx_ev V e s s2 h1).trans (mx_run V es s2 s1 h2)
