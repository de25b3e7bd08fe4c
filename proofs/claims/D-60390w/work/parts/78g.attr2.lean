/-! PURE LAYER, 138: attributes grow event by event -/
section
variable {V P : Nat → Int} {S : am_H} {f : Nat → List (Int × Int × Int)} {a : Nat → Nat × List Nat} {k : Nat}
theorem ATk.push (h : S 277 k = 0 ∨ S 277 k = 1 ∨ S 277 k = 3 ∨ S 277 k = 4) (g : a (k + 1) = ((a k).1 + 1, (a k).2)) : ATk V P S f a k := by
  unfold ATk; refine ⟨fun _ => g, fun z => ?_, fun z => ?_, fun z => ?_, fun z => ?_, fun z => ?_, fun z => ?_, fun z => ?_, fun z => ?_, fun z => ?_, fun z => ?_, fun z => ?_, fun z => ?_⟩ <;> (exfalso; omega)
theorem ATk.bin (h : S 277 k = 5 ∨ S 277 k = 6) (g : 2 ≤ (a k).1 ∧ a (k + 1) = ((a k).1 - 1, (a k).2)) : ATk V P S f a k := by
  unfold ATk; refine ⟨fun z => ?_, fun _ => g, fun z => ?_, fun z => ?_, fun z => ?_, fun z => ?_, fun z => ?_, fun z => ?_, fun z => ?_, fun z => ?_, fun z => ?_, fun z => ?_, fun z => ?_⟩ <;> (exfalso; omega)
theorem ATk.un (h : S 277 k = 7 ∨ S 277 k = 8) (g : 1 ≤ (a k).1 ∧ a (k + 1) = a k) : ATk V P S f a k := by
  unfold ATk; refine ⟨fun z => ?_, fun z => ?_, fun _ => g, fun z => ?_, fun z => ?_, fun z => ?_, fun z => ?_, fun z => ?_, fun z => ?_, fun z => ?_, fun z => ?_, fun z => ?_, fun z => ?_⟩ <;> (exfalso; omega)
theorem ATk.obj (h : S 277 k = 9) (g : a (k + 1) = ((a k).1 + ob V S (S 278 k).toNat, (a k).2)) : ATk V P S f a k := by
  unfold ATk; refine ⟨fun z => ?_, fun z => ?_, fun z => ?_, fun _ => g, fun z => ?_, fun z => ?_, fun z => ?_, fun z => ?_, fun z => ?_, fun z => ?_, fun z => ?_, fun z => ?_, fun z => ?_⟩ <;> (exfalso; omega)
theorem ATk.call (h : S 277 k = 10) (g : (S 284 (S 278 k).toNat).toNat + ob V S (S 278 k).toNat ≤ (a k).1 ∧ a (k + 1) = ((a k).1 - ((S 284 (S 278 k).toNat).toNat + ob V S (S 278 k).toNat) + 1, (a k).2)) : ATk V P S f a k := by
  unfold ATk; refine ⟨fun z => ?_, fun z => ?_, fun z => ?_, fun z => ?_, fun _ => g, fun z => ?_, fun z => ?_, fun z => ?_, fun z => ?_, fun z => ?_, fun z => ?_, fun z => ?_, fun z => ?_⟩ <;> (exfalso; omega)
theorem ATk.beg (h : S 277 k = 11) (g : (a k).1 = 0 ∧ a (k + 1) = (0, (S 280 k).toNat :: (a k).2)) : ATk V P S f a k := by
  unfold ATk; refine ⟨fun z => ?_, fun z => ?_, fun z => ?_, fun z => ?_, fun z => ?_, fun _ => g, fun z => ?_, fun z => ?_, fun z => ?_, fun z => ?_, fun z => ?_, fun z => ?_, fun z => ?_⟩ <;> (exfalso; omega)
theorem ATk.done (h : S 277 k = 12) (g : (a k).1 = 0 ∧ (a k).2 ≠ [] ∧ a (k + 1) = (0, (a k).2.tail)) : ATk V P S f a k := by
  unfold ATk; refine ⟨fun z => ?_, fun z => ?_, fun z => ?_, fun z => ?_, fun z => ?_, fun z => ?_, fun _ => g, fun z => ?_, fun z => ?_, fun z => ?_, fun z => ?_, fun z => ?_, fun z => ?_⟩ <;> (exfalso; omega)
theorem ATk.pop1 (h : S 277 k = 13 ∨ S 277 k = 15 ∨ S 277 k = 19) (g : (a k).1 = 1 ∧ a (k + 1) = (0, (a k).2)) : ATk V P S f a k := by
  unfold ATk; refine ⟨fun z => ?_, fun z => ?_, fun z => ?_, fun z => ?_, fun z => ?_, fun z => ?_, fun z => ?_, fun _ => g, fun z => ?_, fun z => ?_, fun z => ?_, fun z => ?_, fun z => ?_⟩ <;> (exfalso; omega)
theorem ATk.pop2 (h : S 277 k = 14) (g : (a k).1 = 2 ∧ a (k + 1) = (0, (a k).2)) : ATk V P S f a k := by
  unfold ATk; refine ⟨fun z => ?_, fun z => ?_, fun z => ?_, fun z => ?_, fun z => ?_, fun z => ?_, fun z => ?_, fun z => ?_, fun _ => g, fun z => ?_, fun z => ?_, fun z => ?_, fun z => ?_⟩ <;> (exfalso; omega)
theorem ATk.jmp (h : S 277 k = 16) (g : (a k).1 = 0) : ATk V P S f a k := by
  unfold ATk; refine ⟨fun z => ?_, fun z => ?_, fun z => ?_, fun z => ?_, fun z => ?_, fun z => ?_, fun z => ?_, fun z => ?_, fun z => ?_, fun _ => g, fun z => ?_, fun z => ?_, fun z => ?_⟩ <;> (exfalso; omega)
theorem ATk.ask (h : S 277 k = 17) (g : (a k).1 = 0 ∧ a (k + 1) = a k ∧ ∃ t r, (a k).2 = t :: r ∧ f k = [(20, P t, 0)]) : ATk V P S f a k := by
  unfold ATk; refine ⟨fun z => ?_, fun z => ?_, fun z => ?_, fun z => ?_, fun z => ?_, fun z => ?_, fun z => ?_, fun z => ?_, fun z => ?_, fun z => ?_, fun _ => g, fun z => ?_, fun z => ?_⟩ <;> (exfalso; omega)
theorem ATk.ret (h : S 277 k = 18) (g : (a k).1 = 1) : ATk V P S f a k := by
  unfold ATk; refine ⟨fun z => ?_, fun z => ?_, fun z => ?_, fun z => ?_, fun z => ?_, fun z => ?_, fun z => ?_, fun z => ?_, fun z => ?_, fun z => ?_, fun z => ?_, fun _ => g, fun z => ?_⟩ <;> (exfalso; omega)
theorem ATk.lab (h : S 277 k = 20) (g : (a k).1 = 0 ∧ a (k + 1) = a k) : ATk V P S f a k := by
  unfold ATk; refine ⟨fun z => ?_, fun z => ?_, fun z => ?_, fun z => ?_, fun z => ?_, fun z => ?_, fun z => ?_, fun z => ?_, fun z => ?_, fun z => ?_, fun z => ?_, fun z => ?_, fun _ => g⟩ <;> (exfalso; omega)
theorem bka_nil {n : Int} {bs : List (Int × Int × Int × Int)} {bt : List Nat} (h : bka a n [] bs bt) : bt = [] := by
  cases bs with
  | nil => cases bt with
    | nil => rfl
    | cons t bt => exact h.elim
  | cons b bs => cases bt <;> exact h.elim
theorem bka_cons {n : Int} {z : Nat} {pl : List Nat} {bs : List (Int × Int × Int × Int)} {bt : List Nat} (h : bka a n (z :: pl) bs bt) : ∃ b bs' t bt', bs = b :: bs' ∧ bt = t :: bt' := by
  cases bs with
  | nil => cases bt <;> exact h.elim
  | cons b bs => cases bt with
    | nil => exact h.elim
    | cons t bt => exact ⟨b, bs, t, bt, rfl, rfl⟩
end
section
variable {K P V : Nat → Int} {pE : pr_S} {S : mi_S} {e : gx_V} {es : List gx_V} {p p1 : pr_S} {s s1 : mi_S} {c c1 : ce_S} {f f' : Nat → List (Int × Int × Int)} {a : Nat → Nat × List Nat} {bt bt' : List Nat} {cur cur' : Nat}
theorem AI_fin {l : List (Nat × List Nat)} (h33 : 0 ≤ s.1 254 33) (F : FI S.1 p s) (hq1 : hq p1 = hq p) (hf : ∀ k : Nat, (k : Int) < s.1 254 33 → f' k = f k) (A : AI V P S.1 p s f a bt cur) (hl : s1.1 254 33 = s.1 254 33 + (l.length : Int))
    (h1 : (p1.1 9 = 6 → exa a (s.1 254 33).toNat l ((s.1 254 33).toNat + l.length) = (p1.1 6 + objs V S.1 s1.2.2.2.2, wt p1 bt' cur')) ∧ (p1.1 9 ≠ 6 → exa a (s.1 254 33).toNat l ((s.1 254 33).toNat + l.length) = (0, [])))
    (h2 : ∀ j, j < l.length → ATk V P S.1 f' (exa a (s.1 254 33).toNat l) ((s.1 254 33).toNat + j)) (h3 : ∀ x ∈ l, x.1 ≤ 352 ∧ x.2.length ≤ 26)
    (h4 : bka (exa a (s.1 254 33).toNat l) (s1.1 254 33) p1.2.1 s1.2.2.2.1 bt')
    (h5 : ∀ k : Nat, (k : Int) < s1.1 254 33 → S.1 277 k = 15 ∨ S.1 277 k = 16 → k ∈ hol p1.2.1 s1.2.2.2.1 ∨ 0 ≤ S.1 278 k ∧ S.1 278 k < s1.1 254 33 ∧ exa a (s.1 254 33).toNat l (S.1 278 k).toNat = (0, (exa a (s.1 254 33).toNat l k).2))
    (h6 : p1.1 9 = 6 → p1.1 16 = 1 → p1.1 6 = 0 → p1.2.2.1 = [] → p1.1 15 = 0 → p1.1 10 = cur' + 1) : AI V P S.1 p1 s1 f' (exa a (s.1 254 33).toNat l) bt' cur' := by
  have en : (s1.1 254 33).toNat = (s.1 254 33).toNat + l.length := by omega
  refine ⟨by rw [en]; exact h1, fun k hk => ?_, fun k hk => ?_, h4, h5, h6, fun q hq' => ?_⟩
  · by_cases ck : (k : Int) < s.1 254 33
    · exact (A.2.1 k ck).fr (exa_lo (by omega)) (exa_lo (by omega)) (hf k ck)
    · have := h2 (k - (s.1 254 33).toNat) (by omega)
      rw [show (s.1 254 33).toNat + (k - (s.1 254 33).toNat) = k by omega] at this
      exact this
  · by_cases ck : (k : Int) ≤ s.1 254 33
    · rw [exa_lo (by omega)]; exact A.2.2.1 k ck
    · have hj : k - (s.1 254 33).toNat - 1 < l.length := by omega
      have g := List.getElem?_eq_getElem hj
      have := exa_hi (a := a) (N := (s.1 254 33).toNat) g
      rw [show (s.1 254 33).toNat + (k - (s.1 254 33).toNat - 1) + 1 = k by omega] at this
      rw [this]
      exact h3 _ (List.mem_of_getElem? g)
  · rw [hq1] at hq'
    rw [exa_lo (by have := F q hq'; omega)]
    exact A.2.2.2.2.2.2 q hq'
theorem wt_on {p : pr_S} (h1 : p.1 16 = 1) (h2 : nh p.2.1) : wt p bt cur = cur :: bt := by unfold wt; rw [if_pos ⟨h1, h2⟩]
theorem wt_0 {p : pr_S} (h1 : p.1 16 = 0) : wt p bt cur = bt := by unfold wt; rw [if_neg (fun z => by omega)]
theorem wt_c {p : pr_S} {pl : List Nat} {z : Nat} (h1 : p.2.1 = z :: pl) (h2 : z = 0 ∨ z = 3) : wt p bt cur = bt := by
  unfold wt; rw [if_neg]
  intro q
  obtain ⟨-, q1, q2⟩ := q
  rw [h1] at q1 q2
  rcases h2 with rfl | rfl
  · exact q1 rfl
  · exact q2 rfl
theorem wt_same {p p1 : pr_S} (h1 : p1.1 16 = p.1 16) (h2 : p1.2.1 = p.2.1) : wt p1 bt cur = wt p bt cur := by unfold wt; rw [h1, h2]
end
