/-! PURE LAYER, 127: the rows that an event adds to the model's items -/
def ie (e : gx_V) (s : mi_S) : List (Int × Int × Int × Int) :=
  let g := s.1
  let b := s.2.2.2.1.headD (0, 0, 0, 0)
  match e.1 with
  | 1 => [(0, e.2.1, 0, 0)]
  | 2 => [(0, -1, 0, 0)]
  | 3 => [(0, 0, 0, 0)]
  | 4 => [(3, 0, 0, e.2.1)]
  | 5 => [(1, 0, 0, e.2.1)]
  | 6 => [(4, 0, 0, e.2.1)]
  | 7 => [(5, 0, 0, 0)]
  | 8 => [(6, e.2.1, 0, 0)]
  | 9 => [(7, 0, 0, 0)]
  | 10 => [(8, 0, 0, 0)]
  | 11 => [(9, g 254 39, 0, 0)]
  | 12 => [(10, s.2.2.2.2.headD 0, 0, 0)]
  | 20 => [(11, 0, 0, e.2.1)]
  | 22 => [(13, 0, 0, e.2.1), (12, 0, 0, 0)]
  | 23 => [(14, 0, 0, 0), (12, 0, 0, 0)]
  | 25 => [(15, 0, b.2.1, 0)]
  | 26 => [(16, 0, b.2.1 + 1, 0), (20, b.2.1, 0, 0)]
  | 27 => [(20, b.2.1, 0, 0), (12, 0, 0, 0)]
  | 28 => [(20, b.2.1 + 1, 0, 0), (12, 0, 0, 0)]
  | 30 => [(20, g 254 50, 0, 0), (17, 0, 0, 0)]
  | 31 => [(15, 0, b.2.1 + 1, 0)]
  | 32 => [(16, b.2.2.2, b.2.1, 0), (20, b.2.1 + 1, 0, 0), (12, 0, 0, 0)]
  | 33 => [(18, 0, 0, 0)]
  | 34 => [(19, 0, 0, 0), (12, 0, 0, 0)]
  | 49 => [(0, 0, 0, 0), (18, 1, 0, 0)]
  | _ => []
/-- rows behind those that were there -/
def rw1 (g x : am_H) (l : List (Int × Int × Int × Int)) : Prop := x 254 17 = g 254 17 ∧ x 254 33 = g 254 33 + l.length ∧ ∀ j r, l[j]? = some r → x 277 ((g 254 33).toNat + j) = r.1 ∧ (r.1 ≠ 15 → r.1 ≠ 16 → x 278 ((g 254 33).toNat + j) = r.2.1) ∧ x 279 ((g 254 33).toNat + j) = r.2.2.1 ∧ x 280 ((g 254 33).toNat + j) = r.2.2.2 ∧ x 281 ((g 254 33).toNat + j) = g 254 17 - 1
section
variable {g x : am_H} {l : List (Int × Int × Int × Int)}
theorem rw1.nil (g : am_H) : rw1 g g [] := ⟨rfl, by simp, fun j r h => by cases h⟩
theorem rw1.fr {y : am_H} (R : rw1 g x l) (h17 : y 254 17 = x 254 17) (h33 : y 254 33 = x 254 33) (h : ∀ c, 277 ≤ c → c ≤ 281 → ∀ j, (g 254 33).toNat ≤ j → y c j = x c j) : rw1 g y l := by
  refine ⟨h17.trans R.1, h33.trans R.2.1, fun j r hj => ?_⟩
  rw [h 277 (by omega) (by omega) _ (by omega), h 278 (by omega) (by omega) _ (by omega), h 279 (by omega) (by omega) _ (by omega), h 280 (by omega) (by omega) _ (by omega), h 281 (by omega) (by omega) _ (by omega)]
  exact R.2.2 j r hj
theorem rw1.up (R : rw1 g x l) {a k : Nat} {v : Int} (ha : a ≠ 254 ∧ ¬ (277 ≤ a ∧ a ≤ 281)) : rw1 g (am_up x a k v) l :=
  R.fr (by rw [p_up_c _ _ _ _ _ (by omega)]) (by rw [p_up_c _ _ _ _ _ (by omega)]) (fun c h1 h2 j _ => by rw [p_up_c _ _ _ _ _ (by omega)])
theorem rw1.upf (R : rw1 g x l) {k : Nat} {v : Int} (hk : k ≠ 33 ∧ k ≠ 17) : rw1 g (am_up x 254 k v) l :=
  R.fr (p_up_n _ _ _ _ _ _ (Or.inr (by omega))) (p_up_n _ _ _ _ _ _ (Or.inr (by omega))) (fun c h1 h2 j _ => by rw [p_up_c _ _ _ _ _ (by omega)])
theorem rw1.hole (R : rw1 g x l) {k : Nat} {v : Int} (hk : k < (g 254 33).toNat) : rw1 g (am_up x 278 k v) l :=
  R.fr (by rw [p_up_c _ _ _ _ _ (by decide)]) (by rw [p_up_c _ _ _ _ _ (by decide)]) (fun c h1 h2 j hj => p_up_n _ _ _ _ _ _ (Or.inr (by omega)))
theorem rw1.blk (R : rw1 g x l) (k : Nat) (a b c e : Int) : rw1 g (mi_blk k a b c e x) l := ((((R.up (by decide)).up (by decide)).up (by decide)).up (by decide)).upf (by decide)
theorem rw1.call (R : rw1 g x l) (a b : Int) : rw1 g (mi_call a b x) l := ((((R.upf (by decide)).up (by decide)).up (by decide)).up (by decide)).up (by decide)
theorem mi_put_17 (k a b t : Int) (g : am_H) : mi_put k a b t g 254 17 = g 254 17 := by
  unfold mi_put
  rw [p_up_n _ _ _ _ _ _ (Or.inr (by decide)), p_up_c _ _ _ _ _ (by decide), p_up_c _ _ _ _ _ (by decide), p_up_c _ _ _ _ _ (by decide), p_up_c _ _ _ _ _ (by decide), p_up_c _ _ _ _ _ (by decide)]
theorem rw1.put (R : rw1 g x l) (h33 : 0 ≤ g 254 33) (k a b t : Int) : rw1 g (mi_put k a b t x) (l ++ [(k, a, b, t)]) := by
  obtain ⟨r1, r2, r3⟩ := R
  have ix : (x 254 33).toNat = (g 254 33).toNat + l.length := by omega
  refine ⟨by rw [mi_put_17]; exact r1, by rw [mi_put_33, List.length_append]; show _ = _ + ((l.length + 1 : Nat) : Int); omega, fun j r hj => ?_⟩
  by_cases c : j < l.length
  · rw [List.getElem?_append_left c] at hj
    rw [mi_put_lo _ _ _ _ _ (by omega) 277 (by omega), mi_put_lo _ _ _ _ _ (by omega) 278 (by omega), mi_put_lo _ _ _ _ _ (by omega) 279 (by omega), mi_put_lo _ _ _ _ _ (by omega) 280 (by omega), mi_put_lo _ _ _ _ _ (by omega) 281 (by omega)]
    exact r3 j r hj
  · rw [List.getElem?_append_right (by omega)] at hj
    have e0 : j - l.length = 0 := by
      have := (List.getElem?_eq_some_iff.1 hj).1
      simp at this; omega
    rw [e0] at hj
    cases hj
    have ej : (g 254 33).toNat + j = (x 254 33).toNat := by omega
    obtain ⟨w1, w2, w3, w4, w5⟩ := mi_put_277 k a b t x
    rw [ej]
    exact ⟨w1, fun _ _ => w4, w5, w2, by rw [w3, r1]⟩
theorem rw1.add (R : rw1 g x l) (h33 : 0 ≤ g 254 33) (k a b t : Int) {y : am_H} (h : mi_add k a b t x = .inr y) : rw1 g y (l ++ [(k, a, b, t)]) := by rw [mi_add_in h]; exact R.put h33 k a b t
variable {V K : Nat → Int} {e : gx_V} {s s' : mi_S} {p p' : pr_S} {S : am_H}
theorem ie_ev {w : Nat → Nat → Nat} (he : e.1 ≤ 34 ∨ e.1 = 49) (hp : pr w K V e p = .inr p') (hm : mi V e s = .inr s') (h33 : 0 ≤ s.1 254 33) {st : List (Int × Int × Int × Int)} (B : bw S (s.1 254 33) p.2.1 s.2.2.2.1 st) : rw1 s.1 s'.1 (ie e s) := by
  obtain ⟨g, ty, so, bs, oc⟩ := s
  obtain ⟨n, a, b, c⟩ := e
  dsimp only at h33 B he
  have M := rw1.nil g
  have one : ∀ (k a b t : Int), gx_P (mi_h (g, ty, so, bs, oc) (mi_add k a b t g)) (fun s1 => rw1 g s1.1 [(k, a, b, t)]) := fun k a b t => gx_P_b fun g1 e1 => gx_P_i (M.add h33 k a b t e1)
  have two : ∀ (k a b t k2 a2 b2 t2 : Int), gx_P (mi_h (g, ty, so, bs, oc) (gx_b (mi_add k a b t g) (mi_add k2 a2 b2 t2))) (fun s1 => rw1 g s1.1 [(k, a, b, t), (k2, a2, b2, t2)]) := fun k a b t k2 a2 b2 t2 => gx_P_b fun g1 e1 => gx_P_i (by
    obtain ⟨g2, w1, w2⟩ := gx_b_ok e1
    exact (M.add h33 k a b t w1).add h33 k2 a2 b2 t2 w2)
  have hole : ∀ (q : Int × Int × Int × Int) (l : List (Int × Int × Int × Int)) (a : Nat), bs = q :: l → p.2.1.head? = some a → (a = 1 ∨ a = 2 ∨ a = 4) → q.2.2.1.toNat < (g 254 33).toNat := by
    intro q l a h1 h2 h3
    cases hq : p.2.1 with
    | nil => rw [hq] at h2; cases h2
    | cons y pl =>
      rw [hq] at h2; cases h2
      rw [h1, hq] at B
      cases st with
      | nil => exact B.elim
      | cons r st =>
        obtain ⟨⟨-, -, b3, b4⟩, -⟩ := B
        rcases h3 with z | z | z
        · have := b3 (Or.inl z); omega
        · have := b4 z; omega
        · have := b3 (Or.inr z); omega
  show rw1 g s'.1 _
  unfold mi at hm
  dsimp only at hm
  split at hm
  all_goals first
    | (exact one _ _ _ _ s' hm)
    | (exact two _ _ _ _ _ _ _ _ s' hm)
    | (exfalso; omega)
    | (cases hm; exact M)
    | (cases hm; done)
    | skip
  · exact (show gx_P (ce_q (g 254 39 < 990) (gx_b (mi_add 9 (g 254 39) 0 0 (mi_call (if c = 1 then a else -1) b g)) fun g1 => (.inr (g1, ty, so, bs, g 254 39 :: oc) : gx_R mi_S))) (fun s1 => rw1 g s1.1 [(9, g 254 39, 0, 0)]) from gx_P_q fun _ => gx_P_b fun g1 e1 => gx_P_i ((M.call _ _).add h33 _ _ _ _ e1)) s' hm
  · cases oc with
    | nil => cases hm
    | cons x l => exact (show gx_P (gx_b (mi_add 10 x 0 0 (am_up g 284 x.toNat c)) fun g1 => (.inr (g1, ty, so, bs, l) : gx_R mi_S)) (fun s1 => rw1 g s1.1 [(10, x, 0, 0)]) from gx_P_b fun g1 e1 => gx_P_i ((M.up (by decide)).add h33 _ _ _ _ e1)) s' hm
  · exact (show gx_P (ce_q (0 ≤ g 254 50 ∧ g 254 50 < 99990) (.inr (am_up g 254 50 (g 254 50 + 2), ty, so, (1, g 254 50, 0, g 254 33) :: bs, oc) : gx_R mi_S)) (fun s1 => rw1 g s1.1 []) from gx_P_q fun _ => gx_P_i (M.upf (by decide))) s' hm
  · cases bs with
    | nil => cases hm
    | cons b l => exact (show gx_P (ce_q (l.length < 40) (gx_b (mi_add 15 0 b.2.1 0 g) fun g1 => (.inr (mi_blk l.length 1 b.2.1 (g 254 33) b.2.2.2 g1, ty, so, (1, b.2.1, g 254 33, b.2.2.2) :: l, oc) : gx_R mi_S))) (fun s1 => rw1 g s1.1 [(15, 0, b.2.1, 0)]) from gx_P_q fun _ => gx_P_b fun g1 e1 => gx_P_i ((M.add h33 _ _ _ _ e1).blk _ _ _ _ _)) s' hm
  · cases hbs : bs with
    | nil => rw [hbs] at hm; cases hm
    | cons b l =>
      rw [hbs] at hm
      obtain ⟨hc, -, -⟩ := pr_q_in hp
      have ho := hole b l 1 hbs hc.2.2.1 (by omega)
      exact (show gx_P (gx_b (mi_add 16 0 (b.2.1 + 1) 0 (am_up g 254 55 (l.length : Int))) fun g1 => gx_b (mi_add 20 b.2.1 0 0 g1) fun g2 => (.inr (mi_blk l.length 2 b.2.1 (g 254 33) 0 (am_up g2 278 b.2.2.1.toNat (g1 254 33)), ty, so, (2, b.2.1, g 254 33, 0) :: l, oc) : gx_R mi_S)) (fun s1 => rw1 g s1.1 [(16, 0, b.2.1 + 1, 0), (20, b.2.1, 0, 0)]) from gx_P_b fun g1 e1 => gx_P_b fun g2 e2 => gx_P_i ((((M.upf (by decide)).add h33 _ _ _ _ e1).add h33 _ _ _ _ e2 |>.hole ho).blk _ _ _ _ _)) s' hm
  · cases hbs : bs with
    | nil => rw [hbs] at hm; cases hm
    | cons b l =>
      rw [hbs] at hm
      obtain ⟨hc, -, -⟩ := pr_q_in hp
      have ho := hole b l 1 hbs hc.2.2.1 (by omega)
      exact (show gx_P (gx_b (mi_add 20 b.2.1 0 0 (am_up g 254 55 (l.length : Int))) fun g1 => gx_b (mi_add 12 0 0 0 (am_up g1 278 b.2.2.1.toNat (g 254 33))) fun g2 => (.inr (g2, ty, so, l, oc) : gx_R mi_S)) (fun s1 => rw1 g s1.1 [(20, b.2.1, 0, 0), (12, 0, 0, 0)]) from gx_P_b fun g1 e1 => gx_P_b fun g2 e2 => gx_P_i (((M.upf (by decide)).add h33 _ _ _ _ e1 |>.hole ho).add h33 _ _ _ _ e2)) s' hm
  · cases hbs : bs with
    | nil => rw [hbs] at hm; cases hm
    | cons b l =>
      rw [hbs] at hm
      obtain ⟨hc, -, -⟩ := pr_q_in hp
      have ho := hole b l 2 hbs hc.2.2.1 (by omega)
      exact (show gx_P (gx_b (mi_add 20 (b.2.1 + 1) 0 0 (am_up g 254 55 (l.length : Int))) fun g1 => gx_b (mi_add 12 0 0 0 (am_up g1 278 b.2.2.1.toNat (g 254 33))) fun g2 => (.inr (g2, ty, so, l, oc) : gx_R mi_S)) (fun s1 => rw1 g s1.1 [(20, b.2.1 + 1, 0, 0), (12, 0, 0, 0)]) from gx_P_b fun g1 e1 => gx_P_b fun g2 e2 => gx_P_i (((M.upf (by decide)).add h33 _ _ _ _ e1 |>.hole ho).add h33 _ _ _ _ e2)) s' hm
  · exact (show gx_P (ce_q (0 ≤ g 254 50 ∧ g 254 50 < 99990) (gx_b (mi_add 20 (g 254 50) 0 0 (am_up g 254 50 (g 254 50 + 2))) fun g1 => gx_b (mi_add 17 0 0 0 g1) fun g2 => (.inr (g2, ty, so, (3, g 254 50, 0, g 254 33) :: bs, oc) : gx_R mi_S))) (fun s1 => rw1 g s1.1 [(20, g 254 50, 0, 0), (17, 0, 0, 0)]) from gx_P_q fun _ => gx_P_b fun g1 e1 => gx_P_b fun g2 e2 => gx_P_i (((M.upf (by decide)).add h33 _ _ _ _ e1).add h33 _ _ _ _ e2)) s' hm
  · cases bs with
    | nil => cases hm
    | cons b l => exact (show gx_P (ce_q (l.length < 40) (gx_b (mi_add 15 0 (b.2.1 + 1) 0 g) fun g1 => (.inr (mi_blk l.length 3 b.2.1 (g 254 33) b.2.2.2 g1, ty, so, (3, b.2.1, g 254 33, b.2.2.2) :: l, oc) : gx_R mi_S))) (fun s1 => rw1 g s1.1 [(15, 0, b.2.1 + 1, 0)]) from gx_P_q fun _ => gx_P_b fun g1 e1 => gx_P_i ((M.add h33 _ _ _ _ e1).blk _ _ _ _ _)) s' hm
  · cases hbs : bs with
    | nil => rw [hbs] at hm; cases hm
    | cons b l =>
      rw [hbs] at hm
      obtain ⟨hc, -, -⟩ := pr_q_in hp
      have ho := hole b l 4 hbs hc.2.2.1 (by omega)
      exact (show gx_P (gx_b (mi_add 16 b.2.2.2 b.2.1 0 (am_up g 254 55 (l.length : Int))) fun g1 => gx_b (mi_add 20 (b.2.1 + 1) 0 0 g1) fun g2 => gx_b (mi_add 12 0 0 0 (am_up g2 278 b.2.2.1.toNat (g1 254 33))) fun g3 => (.inr (g3, ty, so, l, oc) : gx_R mi_S)) (fun s1 => rw1 g s1.1 [(16, b.2.2.2, b.2.1, 0), (20, b.2.1 + 1, 0, 0), (12, 0, 0, 0)]) from gx_P_b fun g1 e1 => gx_P_b fun g2 e2 => gx_P_b fun g3 e3 => gx_P_i ((((M.upf (by decide)).add h33 _ _ _ _ e1).add h33 _ _ _ _ e2 |>.hole ho).add h33 _ _ _ _ e3)) s' hm
/-- the rows in the end -/
theorem ie_end {w : Nat → Nat → Nat} (he : e.1 ≤ 34 ∨ e.1 = 49) (hp : pr w K V e p = .inr p') (hm : mi V e s = .inr s') (Rv : rv K p s) {st : List (Int × Int × Int × Int)} (B : bw S (s.1 254 33) p.2.1 s.2.2.2.1 st) (M : mx s'.1 S) (Y : my s'.1 S) {j : Nat} {r : Int × Int × Int × Int} (hj : (ie e s)[j]? = some r) :
    S 277 ((s.1 254 33).toNat + j) = r.1 ∧ (r.1 ≠ 15 → r.1 ≠ 16 → S 278 ((s.1 254 33).toNat + j) = r.2.1) ∧ S 279 ((s.1 254 33).toNat + j) = r.2.2.1 ∧ S 280 ((s.1 254 33).toNat + j) = r.2.2.2 ∧ S 281 ((s.1 254 33).toNat + j) = (p.1 3 : Int) - 1 := by
  have h33 : 0 ≤ s.1 254 33 := Rv.1.2.2.2.1.1
  have R := ie_ev he hp hm h33 B
  have hl := (List.getElem?_eq_some_iff.1 hj).1
  have lt : (((s.1 254 33).toNat + j : Nat) : Int) < s'.1 254 33 := by have := R.2.1; omega
  obtain ⟨a1, a2, a3, a4, a5⟩ := R.2.2 j r hj
  have y := Y.2 _ lt
  refine ⟨by rw [M.2 277 33 rfl _ lt, a1], fun z1 z2 => by rw [y.2 (by rw [a1]; exact z1) (by rw [a1]; exact z2), a2 z1 z2], by rw [y.1, a3], by rw [M.2 280 33 rfl _ lt, a4], by rw [M.2 281 33 rfl _ lt, a5, Rv.2.1.2.1]⟩
end
