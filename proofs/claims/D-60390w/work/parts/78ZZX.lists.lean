/-! PURE LAYER, 129: what is put behind, sub by sub -/
/-- subs whose heads have been told -/
def hq (p : pr_S) : Nat := if p.1 9 = 4 ∨ p.1 9 = 5 then p.1 3 - 1 else p.1 3
def FI (S : am_H) (p : pr_S) (s : mi_S) : Prop := ∀ a, a < hq p → 0 ≤ S 269 a ∧ S 269 a ≤ s.1 254 33 ∧ ∀ b, a ≤ b → b < hq p → S 269 a ≤ S 269 b
section
variable {α : Type} {hd it it' : Nat → List α} {fi : Nat → Int}
theorem tU_body {q N w : Nat} (h1 : 1 ≤ q) (h : (fi (q - 1)).toNat ≤ N) : tU hd it fi q (N + w) = tU hd it fi q N ++ rgn it N w := by
  obtain ⟨s, rfl⟩ : ∃ s, q = s + 1 := ⟨q - 1, by omega⟩
  have h : (fi s).toNat ≤ N := h
  unfold tU
  rw [show N + w - (fi s).toNat = N - (fi s).toNat + w by omega, rgn_add, show (fi s).toNat + (N - (fi s).toNat) = N by omega, List.append_assoc, List.append_assoc, List.append_assoc]
theorem tU_head {q N : Nat} (h : (fi q).toNat = N) : tU hd it fi (q + 1) N = tU hd it fi q N ++ hd q := by
  show tU hd it fi q (fi q).toNat ++ hd q ++ rgn it (fi q).toNat (N - (fi q).toNat) = _
  rw [h, Nat.sub_self]
  exact List.append_nil _
theorem rgn_congr {a : Nat} : ∀ {m : Nat}, (∀ k, a ≤ k → k < a + m → it k = it' k) → rgn it a m = rgn it' a m
  | 0, _ => rfl
  | m + 1, h => by
    show rgn it a m ++ it (a + m) = rgn it' a m ++ it' (a + m)
    rw [rgn_congr (fun k h1 h2 => h k h1 (by omega)), h (a + m) (by omega) (by omega)]
theorem tU_congr : ∀ {q N : Nat}, (∀ k, k < N → it k = it' k) → (∀ a, a < q → (fi a).toNat ≤ N ∧ ∀ b, a ≤ b → b < q → (fi a).toNat ≤ (fi b).toNat) → tU hd it fi q N = tU hd it' fi q N
  | 0, _, _, _ => rfl
  | s + 1, N, h, hf => by
    show tU hd it fi s (fi s).toNat ++ hd s ++ rgn it (fi s).toNat (N - (fi s).toNat) = tU hd it' fi s (fi s).toNat ++ hd s ++ rgn it' (fi s).toNat (N - (fi s).toNat)
    have hs := (hf s (by omega)).1
    rw [tU_congr (fun k hk => h k (by omega)) (fun a ha => ⟨(hf a (by omega)).2 s (by omega) (by omega), fun b h1 h2 => (hf a (by omega)).2 b h1 (by omega)⟩), rgn_congr (fun k h1 h2 => h k (by omega))]
end
section
variable {K P V sc ss : Nat → Int} {cs : Nat → Nat} {b21 b15 : Nat} {c0 : am_H} {pE : pr_S} {S : mi_S} {e : gx_V} {es : List gx_V} {p p1 : pr_S} {s s1 : mi_S} {c c1 : ce_S}
theorem hq_ev (B : bd K V pE S (e :: es) p s c) (hp : pr pw K V e p = .inr p1) (hm : mi V e s = .inr s1) (B1 : bd K V pE S es p1 s1 c1) :
    ((e.1 ≤ 34 ∨ e.1 = 49) ∧ hq p1 = hq p ∧ 1 ≤ hq p ∧ s1.1 254 33 = s.1 254 33 + (pw 0 e.1 : Int) ∧ p.1 9 = 6 ∧ hq p = p.1 3) ∨
    (e.1 = 48 ∧ hq p1 = hq p + 1 ∧ s1.1 254 33 = s.1 254 33 ∧ S.1 269 (hq p) = s.1 254 33 ∧ hq p + 1 = p.1 3) ∨
    ((e.1 ≠ 48 ∧ e.1 ≠ 49 ∧ ¬ e.1 ≤ 34) ∧ hq p1 = hq p ∧ s1.1 254 33 = s.1 254 33) := by
  obtain ⟨⟨f1, f2⟩, ⟨Rv, Rm, Q, Bd, O⟩, -⟩ := B
  obtain ⟨⟨g1, g2⟩, ⟨Rv1, Rm1, -⟩, -⟩ := B1
  have wt := pr_wt hp 0
  have c33 : s1.1 254 33 = s.1 254 33 + (pw 0 e.1 : Int) := by
    have a := Rm.1
    have b := Rm1.1
    omega
  by_cases he : e.1 ≤ 34
  · have h9 := pr_body9 he hp
    have e9 := pz_ev he hp 9 (by decide)
    have e3 := pz_ev he hp 3 (by decide)
    have := Rv.2.2.1.2 (by omega)
    left
    unfold hq
    rw [e9, h9, if_neg (by decide), if_neg (by decide), e3]
    exact ⟨Or.inl he, rfl, by omega, c33, rfl, rfl⟩
  by_cases h48 : e.1 = 48
  · right; left
    have hfz : fz p1 s1.1 S.1 := fz_run (w := pw) es g1 g2 Rv1
    obtain ⟨n, a, b, d⟩ := e
    dsimp only at h48 he c33
    subst h48
    obtain ⟨hc, -, hq'⟩ := pr_q_in hp
    have h3 := Rv.2.2.1.2 (by have := hc.1; omega)
    have e9 : p1.1 9 = 6 := by rw [hq']; rfl
    have e3 : p1.1 3 = p.1 3 := by rw [hq']; rfl
    have h1 : hq p = p.1 3 - 1 := by unfold hq; rw [if_pos (Or.inr hc.1)]
    have h2 : hq p1 = p.1 3 := by unfold hq; rw [e9, if_neg (by decide), e3]
    have c33 : s1.1 254 33 = s.1 254 33 := by rw [c33]; show _ + ((0 : Nat) : Int) = _; omega
    refine ⟨rfl, by omega, c33, ?_, by omega⟩
    rw [(hfz.2.2 (hq p) (Or.inr ⟨by omega, by omega, by omega⟩)).2]
    cases hm
    show am_up (am_up s.1 269 (s.1 254 17 - 1).toNat (s.1 254 33)) 254 55 0 269 (hq p) = _
    rw [p_up_c _ _ _ _ _ (by decide), show (s.1 254 17 - 1).toNat = hq p by have := Rv.2.1.2.1; omega]
    exact p_up_s _ _ _ _
  · by_cases h49 : e.1 = 49
    · left
      obtain ⟨n, a, b, d⟩ := e
      dsimp only at h49 he c33
      subst h49
      obtain ⟨hc, -, hq'⟩ := pr_q_in hp
      have h3 := Rv.2.2.1.2 (by have := hc.1; omega)
      have e9 : p1.1 9 = 3 := by rw [hq']; rfl
      have e3 : p1.1 3 = p.1 3 := by rw [hq']; rfl
      unfold hq
      rw [e9, hc.1, if_neg (by decide), if_neg (by decide), e3]
      exact ⟨Or.inr rfl, rfl, by omega, c33, rfl, rfl⟩
    · right; right
      refine ⟨⟨h48, h49, he⟩, ?_, ?_⟩
      · obtain ⟨n, a, b, d⟩ := e
        dsimp only at h48 h49 he
        have h4 := Rv.2.2.1.2
        unfold hq
        unfold pr at hp
        split at hp
        all_goals first
          | (cases hp; done)
          | (rename_i hn; have hn : n = _ := hn; subst hn)
        all_goals first
          | (exfalso; omega)
          | skip
        all_goals (obtain ⟨hc, -, hq'⟩ := pr_q_in hp; subst hq'; dsimp only)
        all_goals first
          | (simp [pu] at *; try omega; done)
          | skip
        all_goals first
          | (by_cases hb : b = 1 <;> simp [pu, hb])
          | (have h0 := hc.1; simp [pu, h0]; done)
          | (rcases hc.1 with h0 | h0 <;> simp [pu, h0]; done)
          | skip
      · rw [c33]
        have : pw 0 e.1 = 0 := by
          obtain ⟨n, a, b, d⟩ := e
          dsimp only at h48 h49 he ⊢
          unfold pr at hp
          split at hp
          all_goals first
            | (cases hp; done)
            | (rename_i hn; have hn : n = _ := hn; subst hn)
          all_goals first
            | (exfalso; omega)
            | rfl
        rw [this]; omega
theorem FI_ev (B : bd K V pE S (e :: es) p s c) (hp : pr pw K V e p = .inr p1) (hm : mi V e s = .inr s1) (B1 : bd K V pE S es p1 s1 c1) (F : FI S.1 p s) : FI S.1 p1 s1 := by
  have h33 : 0 ≤ s.1 254 33 := B.2.1.1.1.2.2.2.1.1
  rcases hq_ev B hp hm B1 with ⟨-, h1, h2, h3, -⟩ | ⟨-, h1, h2, h3, -⟩ | ⟨-, h1, h2⟩
  · intro a ha
    rw [h1] at ha
    obtain ⟨x1, x2, x3⟩ := F a ha
    exact ⟨x1, by rw [h3]; omega, fun b h4 h5 => x3 b h4 (by rw [← h1]; exact h5)⟩
  · intro a ha
    rw [h1] at ha
    by_cases c : a = hq p
    · subst c
      refine ⟨by omega, by omega, fun b h4 h5 => ?_⟩
      have : b = hq p := by omega
      rw [this]; exact Int.le_refl _
    · obtain ⟨x1, x2, x3⟩ := F a (by omega)
      refine ⟨x1, by omega, fun b h4 h5 => ?_⟩
      by_cases c2 : b = hq p
      · rw [c2]; omega
      · exact x3 b h4 (by omega)
  · intro a ha
    rw [h1] at ha
    obtain ⟨x1, x2, x3⟩ := F a ha
    exact ⟨x1, by omega, fun b h4 h5 => x3 b h4 (by rw [← h1]; exact h5)⟩
/-- rows of a list -/
def rws (g : am_H) (a b : Nat) (l : List (Int × Int × Int)) : Prop := ∀ j v, l[j]? = some v → g a (b + j) = v.1 ∧ g (a + 1) (b + j) = am_s16 v.2.1 ∧ g (a + 2) (b + j) = am_s16 v.2.2
theorem rws_app {g g' : am_H} {a b : Nat} {l m : List (Int × Int × Int)} (R : rws g a b l) (h : ∀ k, b ≤ k → k < b + l.length → g' a k = g a k ∧ g' (a + 1) k = g (a + 1) k ∧ g' (a + 2) k = g (a + 2) k) (h2 : ∀ j v, m[j]? = some v → g' a (b + l.length + j) = v.1 ∧ g' (a + 1) (b + l.length + j) = am_s16 v.2.1 ∧ g' (a + 2) (b + l.length + j) = am_s16 v.2.2) : rws g' a b (l ++ m) := by
  intro j v hj
  by_cases c : j < l.length
  · rw [List.getElem?_append_left c] at hj
    obtain ⟨x1, x2, x3⟩ := h (b + j) (by omega) (by omega)
    rw [x1, x2, x3]; exact R j v hj
  · rw [List.getElem?_append_right (by omega)] at hj
    have := h2 _ v hj
    rw [show b + l.length + (j - l.length) = b + j by omega] at this
    exact this
theorem oE_49 {h : am_H} {x y z l t : Int} {st : List (Int × Int × Int × Int)} : oE K P V sc ss cs b21 b15 h c0 (49, x, y, z) p l t st = ([(0, 0, 0), (16, 0, 0)], [(0, 0, 0), (16, 0, 0)], st, l, t) := rfl
theorem oE_48 {h : am_H} {x y z l t : Int} {st : List (Int × Int × Int × Int)} : (oE K P V sc ss cs b21 b15 h c0 (48, x, y, z) p l t st).2.1 = (14, c0 222 ((b21 : Int) + ((p.1 3 : Int) - 1)).toNat, (p.1 5 : Int)) :: (if h 264 ((p.1 3 : Int) - 1).toNat = 3 then [(0, 1, 0), (1, 6, 0)] else if h 264 ((p.1 3 : Int) - 1).toNat = 1 then [(0, 0, if h 262 (p.1 0 - 1) ≤ 1 then 1 else h 262 (p.1 0 - 1)), (15, c0 222 (sysS c0 28 29).toNat, 1), (1, 6, 0)] else []) := rfl
theorem oE_0 {h : am_H} {l t : Int} {st : List (Int × Int × Int × Int)} (h1 : e.1 ≠ 48) (h2 : e.1 ≠ 49) (h3 : ¬ e.1 ≤ 34) : oE K P V sc ss cs b21 b15 h c0 e p l t st = ([], [], st, l, t) := by
  obtain ⟨n, a, b, d⟩ := e
  dsimp only at h1 h2 h3
  unfold oE
  dsimp only
  split
  all_goals first
    | rfl
    | (exfalso; omega)
/-- the commands that have been told -/
def LI (K P V sc ss : Nat → Int) (cs : Nat → Nat) (b21 : Nat) (c0 S : am_H) (p : pr_S) (s : mi_S) (c : ce_S) : Prop := FI S p s ∧ c.1 235 3 = (tU (lH b21 c0 S) (lS K P V sc ss cs b21 c0 S) (S 269) (hq p) (s.1 254 33).toNat).length ∧ rws c.1 236 0 (tU (lH b21 c0 S) (lS K P V sc ss cs b21 c0 S) (S 269) (hq p) (s.1 254 33).toNat)
theorem lH_ev (B : bd K V pE S (e :: es) p s c) (hp : pr pw K V e p = .inr p1) (hm : mi V e s = .inr s1) (B1 : bd K V pE S es p1 s1 c1) (h48 : e.1 = 48) {l t : Int} {st : List (Int × Int × Int × Int)} (h263 : S.1 263 (p.1 3 - 1) = (p.1 0 : Int) - 1) (h0 : 1 ≤ p.1 0) : (oE K P V sc ss cs b21 b15 S.1 c0 e p l t st).2.1 = lH b21 c0 S.1 (p.1 3 - 1) := by
  obtain ⟨⟨g1, g2⟩, ⟨Rv1, Rm1, -⟩, -⟩ := B1
  have hfz : fz p1 s1.1 S.1 := fz_run (w := pw) es g1 g2 Rv1
  have h3 := Rv1.2.2.1.2
  obtain ⟨n, a, b, d⟩ := e
  dsimp only at h48
  subst h48
  obtain ⟨hc, -, hq'⟩ := pr_q_in hp
  have e9 : p1.1 9 = 6 := by rw [hq']; rfl
  have e3 : p1.1 3 = p.1 3 := by rw [hq']; rfl
  have e5 : p1.1 5 = p.1 5 := by rw [hq']; rfl
  have e0 : p1.1 0 = p.1 0 := by rw [hq']; rfl
  rw [e9, e3] at h3
  have h3 := h3 (by decide)
  have h268 : S.1 268 (p.1 3 - 1) = (p.1 5 : Int) := by
    rw [(hfz.2.2 (p.1 3 - 1) (Or.inr ⟨by omega, by omega, by omega⟩)).1]
    have := (Rv1.2.2.2.2.2 (by omega)).2
    rw [e3, e5] at this
    exact this
  rw [oE_48]
  unfold lH
  rw [h268, h263, show ((b21 : Int) + ((p.1 3 : Int) - 1)).toNat = b21 + (p.1 3 - 1) by omega, show ((p.1 3 : Int) - 1).toNat = p.1 3 - 1 by omega, show ((p.1 0 : Int) - 1).toNat = p.1 0 - 1 by omega]
theorem LI_ev (B : bd K V pE S (e :: es) p s c) (hp : pr pw K V e p = .inr p1) (hm : mi V e s = .inr s1) (hc : CO (oE K P V sc ss cs b21 b15 S.1 c0 e p (c.1 8 4) (c.1 235 4) c.2.2.2.2.2.2) c c1) (B1 : bd K V pE S es p1 s1 c1) (M1 : mx s1.1 S.1) (Y1 : my s1.1 S.1) (HK : ∀ k : Nat, (k : Int) < S.1 254 39 → pr_cs K V (S.1 283 k).toNat (S.1 284 k)) (hV : ∀ i, i < 1000 → K i = 3 → 0 ≤ V i) (h263 : e.1 = 48 → S.1 263 (p.1 3 - 1) = (p.1 0 : Int) - 1 ∧ 1 ≤ p.1 0) (I : LI K P V sc ss cs b21 c0 S.1 p s c) : LI K P V sc ss cs b21 c0 S.1 p1 s1 c1 := by
  obtain ⟨F, I1, I2⟩ := I
  have F1 := FI_ev B hp hm B1 F
  have h33 : 0 ≤ s.1 254 33 := B.2.1.1.1.2.2.2.1.1
  obtain ⟨⟨⟨-, x1⟩, -, x2, -, x3⟩, -⟩ := hc
  have key : tU (lH b21 c0 S.1) (lS K P V sc ss cs b21 c0 S.1) (S.1 269) (hq p1) (s1.1 254 33).toNat = tU (lH b21 c0 S.1) (lS K P V sc ss cs b21 c0 S.1) (S.1 269) (hq p) (s.1 254 33).toNat ++ (oE K P V sc ss cs b21 b15 S.1 c0 e p (c.1 8 4) (c.1 235 4) c.2.2.2.2.2.2).2.1 := by
    rcases hq_ev B hp hm B1 with ⟨he, h1, h2, h3, h9, -⟩ | ⟨he, h1, h2, h3, h4⟩ | ⟨⟨d1, d2, d3⟩, h1, h2⟩
    · rw [h1, h3, show (s.1 254 33 + (pw 0 e.1 : Int)).toNat = (s.1 254 33).toNat + pw 0 e.1 by omega, tU_body h2 (by have := (F (hq p - 1) (by omega)).2.1; omega)]
      congr 1
      by_cases he' : e.1 ≤ 34
      · obtain ⟨-, ⟨Rv, Rm, Q, Bd, O⟩, Bw, ⟨RQ, -⟩, l6, -⟩ := B
        exact ((lE_ev he' hp hm Rv Rm B1.2.1.2.1 M1 Y1 Bw RQ O HK hV (c.1 8 4) (c.1 235 4) (fun _ => l6 h9)).1).symm
      · have h49 : e.1 = 49 := by omega
        obtain ⟨-, ⟨Rv, Rm, Q, Bd, O⟩, Bw, -⟩ := B
        have r0 := ie_end (j := 0) (r := (0, 0, 0, 0)) (Or.inr h49) hp hm Rv Bw M1 Y1 (by unfold ie; rw [h49]; rfl)
        have r1 := ie_end (j := 1) (r := (18, 1, 0, 0)) (Or.inr h49) hp hm Rv Bw M1 Y1 (by unfold ie; rw [h49]; rfl)
        obtain ⟨n, a, b, d⟩ := e
        dsimp only at h49
        subst h49
        rw [oE_49]
        show ([] ++ lS K P V sc ss cs b21 c0 S.1 ((s.1 254 33).toNat + 0)) ++ lS K P V sc ss cs b21 c0 S.1 ((s.1 254 33).toNat + 1) = _
        rw [lS_0 r0.1, lS_18 r1.1, r0.2.1 (by decide) (by decide)]
        rfl
    · rw [h1, h2, tU_head (by rw [h3]), lH_ev B hp hm B1 he (h263 he).1 (h263 he).2, show p.1 3 - 1 = hq p by omega]
    · rw [h1, h2, oE_0 d1 d2 d3, List.append_nil]
  refine ⟨F1, ?_, ?_⟩
  · rw [key, List.length_append, x1, I1]; omega
  · rw [key]
    refine rws_app I2 (fun k h1 h2 => x2 k (by omega)) (fun j v hj => ?_)
    have := x3 j v hj
    rw [show (c.1 235 3).toNat = 0 + (tU (lH b21 c0 S.1) (lS K P V sc ss cs b21 c0 S.1) (S.1 269) (hq p) (s.1 254 33).toNat).length by omega] at this
    exact this
end
