/-! PURE LAYER, 139: attributes grow event by event, the events -/
section
variable {K P V : Nat → Int} {pE : pr_S} {S : mi_S} {e : gx_V} {es : List gx_V} {p p1 : pr_S} {s s1 : mi_S} {c c1 : ce_S} {f f' : Nat → List (Int × Int × Int)} {a : Nat → Nat × List Nat} {bt : List Nat} {cur cur' : Nat}
theorem bka_len {n : Int} : ∀ {pl : List Nat} {bs : List (Int × Int × Int × Int)} {bt : List Nat}, bka a n pl bs bt → bt.length = pl.length
  | [], [], [], _ => rfl
  | _ :: _, _ :: _, _ :: _, ⟨_, h⟩ => by rw [List.length_cons, List.length_cons, bka_len h]
  | [], [], _ :: _, z => z.elim
  | [], _ :: _, [], z => z.elim
  | [], _ :: _, _ :: _, z => z.elim
  | _ :: _, [], [], z => z.elim
  | _ :: _, [], _ :: _, z => z.elim
  | _ :: _, _ :: _, [], z => z.elim
theorem wt_len {es' : List gx_V} {p' : pr_S} (A : AI V P S.1 p s f a bt cur) (B : bd K V pE S es' p s c) : (wt p' bt cur').length ≤ 26 := by
  have := bka_len A.2.2.2.1
  have := B.2.1.2.1.2.2.2.2.2.2
  unfold wt
  split
  · rw [List.length_cons]; omega
  · omega
/-- events that leave blocks alone -/
theorem AI_pl {l : List (Nat × List Nat)} (pn : pnx e.1) (B : bd K V pE S (e :: es) p s c) (hp : pr pw K V e p = .inr p1) (hm : mi V e s = .inr s1) (B1 : bd K V pE S es p1 s1 c1) (M1 : mx s1.1 S.1) (Y1 : my s1.1 S.1) (F : FI S.1 p s) (hf : ∀ k : Nat, (k : Int) < s.1 254 33 → f' k = f k) (A : AI V P S.1 p s f a bt cur) (he : e.1 ≤ 34 ∨ e.1 = 49) (hl : l.length = (ie e s).length)
    (h1 : (p1.1 9 = 6 → exa a (s.1 254 33).toNat l ((s.1 254 33).toNat + l.length) = (p1.1 6 + objs V S.1 s1.2.2.2.2, wt p1 bt cur')) ∧ (p1.1 9 ≠ 6 → exa a (s.1 254 33).toNat l ((s.1 254 33).toNat + l.length) = (0, [])))
    (h2 : ∀ j, j < l.length → ATk V P S.1 f' (exa a (s.1 254 33).toNat l) ((s.1 254 33).toNat + j)) (h3 : ∀ x ∈ l, x.1 ≤ 352 ∧ x.2.length ≤ 26)
    (h6 : p1.1 9 = 6 → p1.1 16 = 1 → p1.1 6 = 0 → p1.2.2.1 = [] → p1.1 15 = 0 → p1.1 10 = cur' + 1) : AI V P S.1 p1 s1 f' (exa a (s.1 254 33).toNat l) bt cur' := by
  have h33 : 0 ≤ s.1 254 33 := B.2.1.1.1.2.2.2.1.1
  have il := ie_len h33 he B hp hm B1
  have hq1 : hq p1 = hq p := by
    rcases hq_ev B hp hm B1 with ⟨-, h, -⟩ | ⟨h, -⟩ | ⟨⟨d1, d2, d3⟩, -⟩
    · exact h
    · omega
    · omega
  have ep := (pe_ev hp).1
  rw [pe_n pn] at ep
  have eb := be_ev hm
  rw [be_n pn] at eb
  refine AI_fin h33 F hq1 hf A (by omega) h1 h2 h3 ?_ ?_ h6
  · rw [ep, eb]
    exact A.2.2.2.1.mono (by omega) (fun k hk => exa_lo (by omega))
  · intro k hk hk2
    rw [ep, eb]
    by_cases ck : (k : Int) < s.1 254 33
    · rcases A.2.2.2.2.1 k ck hk2 with z | ⟨z1, z2, z3⟩
      · exact Or.inl z
      · right
        refine ⟨z1, by omega, ?_⟩
        rw [exa_lo (by omega), exa_lo (by omega)]; exact z3
    · exfalso
      have hj : k - (s.1 254 33).toNat < (ie e s).length := by omega
      have g := List.getElem?_eq_getElem hj
      have a1 := (ie_end he hp hm B.2.1.1 B.2.2.1 M1 Y1 g).1
      rw [show (s.1 254 33).toNat + (k - (s.1 254 33).toNat) = k by omega] at a1
      have := ie_kind pn _ (List.mem_of_getElem? g)
      omega
theorem exa_1 {N : Nat} {x : Nat × List Nat} {l : List (Nat × List Nat)} : exa a N (x :: l) (N + 1) = x := exa_hi (j := 0) rfl
theorem exa_2 {N : Nat} {x y : Nat × List Nat} {l : List (Nat × List Nat)} : exa a N (x :: y :: l) (N + 1 + 1) = y := exa_hi (j := 1) rfl
theorem exa_3 {N : Nat} {x y z : Nat × List Nat} {l : List (Nat × List Nat)} : exa a N (x :: y :: z :: l) (N + 2 + 1) = z := exa_hi (j := 2) rfl
/-- one item -/
theorem AI_one (pn : pnx e.1) (B : bd K V pE S (e :: es) p s c) (hp : pr pw K V e p = .inr p1) (hm : mi V e s = .inr s1) (B1 : bd K V pE S es p1 s1 c1) (M1 : mx s1.1 S.1) (Y1 : my s1.1 S.1) (F : FI S.1 p s) (hf : ∀ k : Nat, (k : Int) < s.1 254 33 → f' k = f k) (A : AI V P S.1 p s f a bt cur) (he : e.1 ≤ 34) (hl : (ie e s).length = 1) (x : Nat × List Nat) (h9 : p1.1 9 = 6) (hx : x = (p1.1 6 + objs V S.1 s1.2.2.2.2, wt p1 bt cur')) (hb : x.1 ≤ 352)
    (h2 : ∀ a' : Nat → Nat × List Nat, a' (s.1 254 33).toNat = a (s.1 254 33).toNat → a' ((s.1 254 33).toNat + 1) = x → ATk V P S.1 f' a' (s.1 254 33).toNat)
    (h6 : p1.1 16 = 1 → p1.1 6 = 0 → p1.2.2.1 = [] → p1.1 15 = 0 → p1.1 10 = cur' + 1) : ∃ a' bt' cur', AI V P S.1 p1 s1 f' a' bt' cur' := by
  refine ⟨exa a (s.1 254 33).toNat [x], bt, cur', AI_pl pn B hp hm B1 M1 Y1 F hf A (Or.inl he) hl.symm ⟨fun _ => exa_1.trans hx, fun h => absurd h9 h⟩ (fun j hj => ?_) (fun y hy => ?_) (fun _ => h6)⟩
  · have hj : j < 1 := hj
    have : j = 0 := by omega
    subst this
    exact h2 _ (exa_lo (Nat.le_refl _)) exa_1
  · rw [List.mem_singleton] at hy; rw [hy]; exact ⟨hb, by rw [hx]; exact wt_len A B⟩
/-- an item and the end of a statement -/
theorem AI_two (pn : pnx e.1) (B : bd K V pE S (e :: es) p s c) (hp : pr pw K V e p = .inr p1) (hm : mi V e s = .inr s1) (B1 : bd K V pE S es p1 s1 c1) (M1 : mx s1.1 S.1) (Y1 : my s1.1 S.1) (F : FI S.1 p s) (hf : ∀ k : Nat, (k : Int) < s.1 254 33 → f' k = f k) (A : AI V P S.1 p s f a bt cur) (he : e.1 ≤ 34) (hl : (ie e s).length = 2) (h9 : p1.1 9 = 6) (h6z : p1.1 6 = 0) (hoc : objs V S.1 s1.2.2.2.2 = 0) (h16 : p1.1 16 = 0) (hw : (a (s.1 254 33).toNat).2 = cur :: bt) (hk1 : S.1 277 ((s.1 254 33).toNat + 1) = 12)
    (h2 : ∀ a' : Nat → Nat × List Nat, a' (s.1 254 33).toNat = a (s.1 254 33).toNat → a' ((s.1 254 33).toNat + 1) = (0, cur :: bt) → ATk V P S.1 f' a' (s.1 254 33).toNat) : ∃ a' bt' cur', AI V P S.1 p1 s1 f' a' bt' cur' := by
  refine ⟨exa a (s.1 254 33).toNat [(0, cur :: bt), (0, bt)], bt, cur, AI_pl pn B hp hm B1 M1 Y1 F hf A (Or.inl he) hl.symm ⟨fun _ => ?_, fun h => absurd h9 h⟩ (fun j hj => ?_) (fun y hy => ?_) (fun _ h => by omega)⟩
  · show exa a (s.1 254 33).toNat [(0, cur :: bt), (0, bt)] ((s.1 254 33).toNat + 1 + 1) = _
    rw [exa_2, wt_0 h16, h6z, hoc]
  · have hj : j < 2 := hj
    have : j = 0 ∨ j = 1 := by omega
    rcases this with rfl | rfl
    · exact h2 _ (exa_lo (Nat.le_refl _)) exa_1
    · refine ATk.done hk1 ⟨?_, ?_, ?_⟩
      · rw [exa_1]
      · rw [exa_1]; exact List.cons_ne_nil _ _
      · rw [exa_2, exa_1]; rfl
  · simp only [List.mem_cons, List.not_mem_nil, or_false] at hy
    have := bka_len A.2.2.2.1
    have := B.2.1.2.1.2.2.2.2.2.2
    rcases hy with hy | hy <;> rw [hy] <;> exact ⟨Nat.zero_le _, by (try dsimp only); (try simp only [List.length_cons]); omega⟩
/-- an event that changes blocks -/
theorem AI_bl {l : List (Nat × List Nat)} {bt' : List Nat} (B : bd K V pE S (e :: es) p s c) (hp : pr pw K V e p = .inr p1) (hm : mi V e s = .inr s1) (B1 : bd K V pE S es p1 s1 c1) (F : FI S.1 p s) (hf : ∀ k : Nat, (k : Int) < s.1 254 33 → f' k = f k) (A : AI V P S.1 p s f a bt cur) (he : e.1 ≤ 34) (hl : l.length = (ie e s).length) (h9 : p1.1 9 = 6)
    (h1 : exa a (s.1 254 33).toNat l ((s.1 254 33).toNat + l.length) = (p1.1 6 + objs V S.1 s1.2.2.2.2, wt p1 bt' cur'))
    (h2 : ∀ j, j < l.length → ATk V P S.1 f' (exa a (s.1 254 33).toNat l) ((s.1 254 33).toNat + j)) (h3 : ∀ x ∈ l, x.1 = 0 ∧ x.2.length ≤ bt.length + 1)
    (h4 : bka (exa a (s.1 254 33).toNat l) (s1.1 254 33) p1.2.1 s1.2.2.2.1 bt')
    (h5 : ∀ k : Nat, (k : Int) < s.1 254 33 → k ∈ hol p.2.1 s.2.2.2.1 → k ∈ hol p1.2.1 s1.2.2.2.1 ∨ 0 ≤ S.1 278 k ∧ S.1 278 k < s1.1 254 33 ∧ exa a (s.1 254 33).toNat l (S.1 278 k).toNat = (0, (a k).2))
    (h5' : ∀ j, j < l.length → S.1 277 ((s.1 254 33).toNat + j) = 15 ∨ S.1 277 ((s.1 254 33).toNat + j) = 16 → (s.1 254 33).toNat + j ∈ hol p1.2.1 s1.2.2.2.1 ∨ 0 ≤ S.1 278 ((s.1 254 33).toNat + j) ∧ S.1 278 ((s.1 254 33).toNat + j) < s1.1 254 33 ∧ exa a (s.1 254 33).toNat l (S.1 278 ((s.1 254 33).toNat + j)).toNat = (0, (exa a (s.1 254 33).toNat l ((s.1 254 33).toNat + j)).2))
    (h6 : p1.1 16 = 1 → p1.1 6 = 0 → p1.2.2.1 = [] → p1.1 15 = 0 → p1.1 10 = cur' + 1) : ∃ a' bt' cur', AI V P S.1 p1 s1 f' a' bt' cur' := by
  have h33 : 0 ≤ s.1 254 33 := B.2.1.1.1.2.2.2.1.1
  have il := ie_len h33 (Or.inl he) B hp hm B1
  have hq1 : hq p1 = hq p := by
    rcases hq_ev B hp hm B1 with ⟨-, h, -⟩ | ⟨h, -⟩ | ⟨⟨d1, d2, d3⟩, -⟩
    · exact h
    · omega
    · omega
  refine ⟨_, bt', cur', AI_fin (l := l) h33 F hq1 hf A (by omega) ⟨fun _ => h1, fun h => absurd h9 h⟩ h2 (fun x hx => by have := bka_len A.2.2.2.1; have := B.2.1.2.1.2.2.2.2.2.2; have := h3 x hx; omega) h4 ?_ (fun _ => h6)⟩
  intro k hk hk2
  by_cases ck : (k : Int) < s.1 254 33
  · rcases A.2.2.2.2.1 k ck hk2 with z | ⟨z1, z2, z3⟩
    · rcases h5 k ck z with q | q
      · exact Or.inl q
      · right; rw [exa_lo (a := a) (k := k) (by omega)]; exact q
    · right
      refine ⟨z1, by omega, ?_⟩
      rw [exa_lo (by omega), exa_lo (by omega)]; exact z3
  · have := h5' (k - (s.1 254 33).toNat) (by omega)
    rw [show (s.1 254 33).toNat + (k - (s.1 254 33).toNat) = k by omega] at this
    exact this hk2
theorem AI_ev (B : bd K V pE S (e :: es) p s c) (hp : pr pw K V e p = .inr p1) (hm : mi V e s = .inr s1) (B1 : bd K V pE S es p1 s1 c1) (M1 : mx s1.1 S.1) (Y1 : my s1.1 S.1) (HK : ∀ k : Nat, (k : Int) < S.1 254 39 → pr_cs K V (S.1 283 k).toNat (S.1 284 k)) (HC : ∀ k : Nat, (k : Int) < S.1 254 39 → S.1 284 k ≤ 12) (F : FI S.1 p s) (H : HS p s) (hf : ∀ k : Nat, (k : Int) < s.1 254 33 → f' k = f k) (hf30 : e.1 = 30 → f' ((s.1 254 33).toNat + 1) = [(20, P e.2.1.toNat, 0)]) (hb0 : ∀ b ∈ s.2.2.2.1, 0 ≤ b.2.2.2) (A : AI V P S.1 p s f a bt cur) : ∃ a' bt' cur', AI V P S.1 p1 s1 f' a' bt' cur' := by
  have h33 : 0 ≤ s.1 254 33 := B.2.1.1.1.2.2.2.1.1
  have aN : ∀ l, exa a (s.1 254 33).toNat l (s.1 254 33).toNat = a (s.1 254 33).toNat := fun l => exa_lo (Nat.le_refl _)
  have rqc1 := rq_cnt (V := V) HK HC B1.2.2.2.1.1
  have rqc0 := rq_cnt (V := V) HK HC B.2.2.2.1.1
  have oc1 := oce_ev hm
  have E := fun (he : e.1 ≤ 34 ∨ e.1 = 49) (j : Nat) (r : Int × Int × Int × Int) (h : (ie e s)[j]? = some r) => ie_end he hp hm B.2.1.1 B.2.2.1 M1 Y1 h
  have ol := objs_le V S.1 s.2.2.2.2
  have ol1 := objs_le V S.1 s1.2.2.2.2
  have oln : s.2.2.2.2.length = p.2.2.1.length := B.2.1.2.1.2.2.2.2.2.1
  have oln1 : s1.2.2.2.2.length = p1.2.2.1.length := B1.2.1.2.1.2.2.2.2.2.1
  have onil : p.2.2.1 = [] → s.2.2.2.2 = [] := fun h => by
    rw [h] at oln; exact List.eq_nil_of_length_eq_zero oln
  have onil1 : p1.2.2.1 = [] → objs V S.1 s1.2.2.2.2 = 0 := fun h => by
    rw [h] at oln1; rw [List.eq_nil_of_length_eq_zero oln1]; rfl
  have A6 := A.1.1
  obtain ⟨n, x, y, z⟩ := e
  have hp' := hp
  unfold pr at hp'
  split at hp'
  all_goals first
    | (cases hp'; done)
    | (rename_i hn; have hn : n = _ := hn; subst hn)
  -- 1 .. 6
  iterate 6
    · obtain ⟨cc, -, q⟩ := pr_q_in hp'
      have h9 := cc.1.1
      have h16 := cc.1.2
      have hb : pr_hb K V (p.1 6 + 1) p.2.2.1 := by first | exact cc.2 | exact cc.2.1 | exact cc.2.2 | exact cc.2.2.2.2
      have hb := hb rqc0
      have e6 : p1.1 6 = p.1 6 + 1 := by rw [q]; rfl
      have eo : s1.2.2.2.2 = s.2.2.2.2 := oc1
      have ew : wt p1 bt cur = wt p bt cur := wt_same (by rw [q]; rfl) (by rw [q])
      have aN' := A6 h9
      refine AI_one (by unfold pnx; dsimp only; omega) B hp hm B1 M1 Y1 F hf A (by dsimp only; omega) rfl (p1.1 6 + objs V S.1 s1.2.2.2.2, wt p1 bt cur) (by rw [q]; exact h9) rfl (by show p1.1 6 + objs V S.1 s1.2.2.2.2 ≤ 352; rw [e6, eo]; omega) (fun a' w1 w2 => ATk.push ?_ ?_) (fun _ h => by omega)
      · have := (E (Or.inl (by dsimp only; omega)) 0 _ rfl).1
        rw [Nat.add_zero] at this
        rw [this]; dsimp only; omega
      · rw [w2, w1, aN', e6, eo, ew]
        show (p.1 6 + 1 + objs V S.1 s.2.2.2.2, wt p bt cur) = (p.1 6 + objs V S.1 s.2.2.2.2 + 1, wt p bt cur)
        rw [Nat.add_right_comm]
  -- 7, 8
  iterate 2
    · obtain ⟨cc, -, q⟩ := pr_q_in hp'
      have h9 := cc.1.1
      have h2 : 2 ≤ p.1 6 := by first | exact cc.2 | exact cc.2.1
      have e6 : p1.1 6 = p.1 6 - 1 := by rw [q]; rfl
      have eo : s1.2.2.2.2 = s.2.2.2.2 := oc1
      have ew : wt p1 bt cur = wt p bt cur := wt_same (by rw [q]; rfl) (by rw [q])
      have aN' := A6 h9
      have hb := (A.2.2.1 (s.1 254 33).toNat (by omega)).1
      rw [aN'] at hb
      have hb : p.1 6 + objs V S.1 s.2.2.2.2 ≤ 352 := hb
      refine AI_one (by unfold pnx; dsimp only; omega) B hp hm B1 M1 Y1 F hf A (by dsimp only; omega) rfl (p1.1 6 + objs V S.1 s1.2.2.2.2, wt p1 bt cur) (by rw [q]; exact h9) rfl (by show p1.1 6 + objs V S.1 s1.2.2.2.2 ≤ 352; rw [e6, eo]; omega) (fun a' w1 w2 => ATk.bin ?_ ⟨?_, ?_⟩) (fun _ h => by omega)
      · have := (E (Or.inl (by dsimp only; omega)) 0 _ rfl).1
        rw [Nat.add_zero] at this
        rw [this]; dsimp only; omega
      · rw [w1, aN']; show 2 ≤ p.1 6 + objs V S.1 s.2.2.2.2; omega
      · rw [w2, w1, aN', e6, eo, ew]
        show (p.1 6 - 1 + objs V S.1 s.2.2.2.2, wt p bt cur) = (p.1 6 + objs V S.1 s.2.2.2.2 - 1, wt p bt cur)
        rw [show p.1 6 - 1 + objs V S.1 s.2.2.2.2 = p.1 6 + objs V S.1 s.2.2.2.2 - 1 by omega]
  -- 9, 10
  iterate 2
    · obtain ⟨cc, -, q⟩ := pr_q_in hp'
      have h9 := cc.1.1
      have h2 := cc.2
      have e6 : p1.1 6 = p.1 6 := by rw [q]
      have eo : s1.2.2.2.2 = s.2.2.2.2 := oc1
      have ew : wt p1 bt cur = wt p bt cur := wt_same (by rw [q]) (by rw [q])
      have aN' := A6 h9
      have hb := (A.2.2.1 (s.1 254 33).toNat (by omega)).1
      rw [aN'] at hb
      have hb : p.1 6 + objs V S.1 s.2.2.2.2 ≤ 352 := hb
      refine AI_one (by unfold pnx; dsimp only; omega) B hp hm B1 M1 Y1 F hf A (by dsimp only; omega) rfl (p1.1 6 + objs V S.1 s1.2.2.2.2, wt p1 bt cur) (by rw [q]; exact h9) rfl (by show p1.1 6 + objs V S.1 s1.2.2.2.2 ≤ 352; rw [e6, eo]; omega) (fun a' w1 w2 => ATk.un ?_ ⟨?_, ?_⟩) (fun _ h => by omega)
      · have := (E (Or.inl (by dsimp only; omega)) 0 _ rfl).1
        rw [Nat.add_zero] at this
        rw [this]; dsimp only; omega
      · rw [w1, aN']; show 1 ≤ p.1 6 + objs V S.1 s.2.2.2.2; omega
      · rw [w2, w1, aN', e6, eo, ew]
  · -- 11
    obtain ⟨cc, -, q⟩ := pr_q_in hp'
    have h9 := cc.1.1
    have eoc : p1.2.2.1 = (x, y, p.1 6) :: p.2.2.1 := by rw [q]
    have hb := cc.2.2.2.2 (by rw [eoc] at rqc1; exact rqc1)
    have hb : p.1 6 + (p.2.2.1.length + 1) ≤ 352 := hb
    have e6 : p1.1 6 = p.1 6 := by rw [q]; rfl
    have eo : s1.2.2.2.2 = s.1 254 39 :: s.2.2.2.2 := oc1
    have ew : wt p1 bt cur = wt p bt cur := wt_same (by rw [q]; rfl) (by rw [q])
    have aN' := A6 h9
    have ob1 := ob_le V S.1 (s.1 254 39).toNat
    have e1 : objs V S.1 s1.2.2.2.2 = ob V S.1 (s.1 254 39).toNat + objs V S.1 s.2.2.2.2 := by rw [eo]; rfl
    refine AI_one (by unfold pnx; dsimp only; omega) B hp hm B1 M1 Y1 F hf A (by dsimp only; omega) rfl (p1.1 6 + objs V S.1 s1.2.2.2.2, wt p1 bt cur) (by rw [q]; exact h9) rfl (by show p1.1 6 + objs V S.1 s1.2.2.2.2 ≤ 352; rw [e6, e1]; omega) (fun a' w1 w2 => ?_) (fun _ _ h => by rw [eoc] at h; cases h)
    have r := E (Or.inl (by dsimp only; omega)) 0 _ rfl
    rw [Nat.add_zero] at r
    refine ATk.obj r.1 ?_
    rw [w2, w1, aN', e6, e1, ew, r.2.1 (by dsimp only; omega) (by dsimp only; omega)]
    show (p.1 6 + (ob V S.1 (s.1 254 39).toNat + objs V S.1 s.2.2.2.2), wt p bt cur) = (p.1 6 + objs V S.1 s.2.2.2.2 + ob V S.1 (s.1 254 39).toNat, wt p bt cur)
    rw [show p.1 6 + (ob V S.1 (s.1 254 39).toNat + objs V S.1 s.2.2.2.2) = p.1 6 + objs V S.1 s.2.2.2.2 + ob V S.1 (s.1 254 39).toNat by omega]
  · -- 12
    cases hq : p.2.2.1 with
    | nil => rw [hq] at hp'; cases hp'
    | cons q l =>
      rw [hq] at hp'
      obtain ⟨cc, -, qq⟩ := pr_q_in hp'
      have h9 := cc.1.1
      have c6 := cc.2.2.2.2.1
      have c5 : 0 ≤ z := cc.2.2.2.1
      have ccs := cc.2.2.2.2.2.1
      have eoc : p1.2.2.1 = l := by rw [qq]
      have hb := cc.2.2.2.2.2.2 (by rw [eoc] at rqc1; exact rqc1)
      have RQ := B.2.2.2.1.1
      rw [hq] at RQ
      cases hs : s.2.2.2.2 with
      | nil => rw [hs] at RQ; exact RQ.elim
      | cons k ks =>
        rw [hs] at RQ
        obtain ⟨⟨k0, k1, -, k3, -⟩, -⟩ := RQ
        have eo : s1.2.2.2.2 = ks := by
          have : s1.2.2.2.2 = s.2.2.2.2.tail := oc1
          rw [this, hs]; rfl
        have cnt : S.1 284 k.toNat = z := by
          have g1 := HK k.toNat (by omega) K (fun _ _ _ => rfl)
          have g2 := ccs K (fun _ _ _ => rfl)
          rw [k3] at g1
          have e2 : q.2.1 = y := cc.2.2.1
          rw [e2] at g1
          unfold pr_c at g1 g2
          rw [g1] at g2
          injection g2
        have e6 : p1.1 6 = q.2.2 + 1 := by rw [qq]; rfl
        have ew : wt p1 bt cur = wt p bt cur := wt_same (by rw [qq]; rfl) (by rw [qq])
        have aN' := A6 h9
        have e1 : objs V S.1 s.2.2.2.2 = ob V S.1 k.toNat + objs V S.1 ks := by rw [hs]; rfl
        have ol' : objs V S.1 ks ≤ ks.length := objs_le V S.1 ks
        have : ks.length = l.length := by rw [hs, hq] at oln; exact Nat.succ.inj oln
        have c6 : p.1 6 = q.2.2 + z.toNat := c6
        refine AI_one (by unfold pnx; dsimp only; omega) B hp hm B1 M1 Y1 F hf A (by dsimp only; omega) rfl (p1.1 6 + objs V S.1 s1.2.2.2.2, wt p1 bt cur) (by rw [qq]; exact h9) rfl (by show p1.1 6 + objs V S.1 s1.2.2.2.2 ≤ 352; rw [e6, eo]; omega) (fun a' w1 w2 => ?_) (fun _ h => by omega)
        have r := E (Or.inl (by dsimp only; omega)) 0 _ rfl
        rw [Nat.add_zero] at r
        have r2 := r.2.1 (by dsimp only; omega) (by dsimp only; omega)
        have r2 : S.1 278 (s.1 254 33).toNat = s.2.2.2.2.headD 0 := r2
        rw [hs] at r2
        have r2 : S.1 278 (s.1 254 33).toNat = k := r2
        refine ATk.call r.1 ⟨?_, ?_⟩
        · rw [w1, aN', r2, cnt]; show z.toNat + ob V S.1 k.toNat ≤ p.1 6 + objs V S.1 s.2.2.2.2; omega
        · rw [w2, w1, aN', e6, eo, ew, r2, cnt]
          show (q.2.2 + 1 + objs V S.1 ks, wt p bt cur) = (p.1 6 + objs V S.1 s.2.2.2.2 - (z.toNat + ob V S.1 k.toNat) + 1, wt p bt cur)
          rw [show q.2.2 + 1 + objs V S.1 ks = p.1 6 + objs V S.1 s.2.2.2.2 - (z.toNat + ob V S.1 k.toNat) + 1 by omega]
  · -- 20
    obtain ⟨cc, -, q⟩ := pr_q_in hp'
    obtain ⟨h9, h6, h0, ht, h16, hnh⟩ := cc
    have aN' := A6 h9
    rw [onil h0, h6, wt_0 h16] at aN'
    simp only [objs, Nat.add_zero] at aN'
    have e6 : p1.1 6 = 0 := by rw [q]; exact h6
    have ew : wt p1 bt x.toNat = x.toNat :: bt := wt_on (by rw [q]; rfl) (by rw [q]; exact hnh)
    have e0 := onil1 (by rw [q]; exact h0)
    refine AI_one (cur' := x.toNat) (by unfold pnx; dsimp only; omega) B hp hm B1 M1 Y1 F hf A (by dsimp only; omega) rfl (p1.1 6 + objs V S.1 s1.2.2.2.2, wt p1 bt x.toNat) (by rw [q]; exact h9) rfl (by show p1.1 6 + objs V S.1 s1.2.2.2.2 ≤ 352; rw [e6, e0]; omega) (fun a' w1 w2 => ?_) (fun _ _ _ _ => by rw [q]; rfl)
    have r := E (Or.inl (by dsimp only; omega)) 0 _ rfl
    rw [Nat.add_zero] at r
    have r4 : S.1 280 (s.1 254 33).toNat = x := r.2.2.2.1
    refine ATk.beg r.1 ⟨?_, ?_⟩
    · rw [w1, aN']
    · rw [w2, w1, aN', e6, e0, ew, r4]
  · -- 21
    obtain ⟨cc, -, q⟩ := pr_q_in hp'
    have h9 := cc.1.1
    have aN' := A6 h9
    have e6 : p1.1 6 = p.1 6 := by rw [q]; rfl
    have eo : s1.2.2.2.2 = s.2.2.2.2 := oc1
    have ew : wt p1 bt cur = wt p bt cur := wt_same (by rw [q]; rfl) (by rw [q])
    refine ⟨_, bt, cur, AI_pl (l := []) (by unfold pnx; dsimp only; omega) B hp hm B1 M1 Y1 F hf A (Or.inl (by dsimp only; omega)) rfl ⟨fun _ => ?_, fun h => absurd (by rw [q]; exact h9) h⟩ (fun j hj => (by cases hj)) (fun x hx => (by cases hx)) (fun _ _ _ _ h => ?_)⟩
    · show exa a (s.1 254 33).toNat [] (s.1 254 33).toNat = _
      rw [aN, aN', e6, eo, ew]
    · rw [q] at h; cases h
  · -- 22
    obtain ⟨cc, -, q⟩ := pr_q_in hp'
    obtain ⟨⟨h9, h16⟩, h6, h0, -, -, -, -, hnh⟩ := cc
    have aN' := A6 h9
    rw [onil h0, h6, wt_on h16 hnh] at aN'
    simp only [objs, Nat.add_zero] at aN'
    refine AI_two (by unfold pnx; dsimp only; omega) B hp hm B1 M1 Y1 F hf A (by dsimp only; omega) rfl (by rw [q]; exact h9) (by rw [q]; rfl) (onil1 (by rw [q]; exact h0)) (by rw [q]; rfl) (by rw [aN']) (E (Or.inl (by dsimp only; omega)) 1 _ rfl).1 (fun a' w1 w2 => ?_)
    have r := (E (Or.inl (by dsimp only; omega)) 0 _ rfl).1
    rw [Nat.add_zero] at r
    exact ATk.pop1 (Or.inl r) ⟨by rw [w1, aN'], by rw [w2, w1, aN']⟩
  · -- 23
    obtain ⟨cc, -, q⟩ := pr_q_in hp'
    obtain ⟨⟨h9, h16⟩, h6, h0, hnh⟩ := cc
    have aN' := A6 h9
    rw [onil h0, h6, wt_on h16 hnh] at aN'
    simp only [objs, Nat.add_zero] at aN'
    refine AI_two (by unfold pnx; dsimp only; omega) B hp hm B1 M1 Y1 F hf A (by dsimp only; omega) rfl (by rw [q]; exact h9) (by rw [q]; rfl) (onil1 (by rw [q]; exact h0)) (by rw [q]; rfl) (by rw [aN']) (E (Or.inl (by dsimp only; omega)) 1 _ rfl).1 (fun a' w1 w2 => ?_)
    have r := (E (Or.inl (by dsimp only; omega)) 0 _ rfl).1
    rw [Nat.add_zero] at r
    exact ATk.pop2 r ⟨by rw [w1, aN'], by rw [w2, w1, aN']⟩
  · -- 24
    obtain ⟨cc, -, q⟩ := pr_q_in hp'
    obtain ⟨⟨h9, h16⟩, h6, -, h0, hnh⟩ := cc
    have aN' := A6 h9
    rw [onil h0, h6, wt_on h16 hnh] at aN'
    simp only [objs, Nat.add_zero] at aN'
    have ep : p1.2.1 = 0 :: p.2.1 := (pe_ev hp).1
    have eb : s1.2.2.2.1 = (1, s.1 254 50, 0, s.1 254 33) :: s.2.2.2.1 := be_ev hm
    have e0 := onil1 (by rw [q]; exact h0)
    have e1 : p1.1 = p.1 := by rw [q]
    have il := ie_len h33 (Or.inl (by dsimp only; omega)) B hp hm B1
    have il : s1.1 254 33 = s.1 254 33 + ((0 : Nat) : Int) := il
    refine AI_bl (l := []) (bt' := cur :: bt) (cur' := cur) B hp hm B1 F hf A (by dsimp only; omega) rfl (by rw [e1]; exact h9) ?_ (fun j hj => (by cases hj)) (fun x hx => (by cases hx)) ?_ (fun k hk h => Or.inl ?_) (fun j hj => (by cases hj)) (fun w1 w2 w3 w4 => ?_)
    · show exa a (s.1 254 33).toNat [] (s.1 254 33).toNat = _
      rw [aN, aN', e0, e1, h6, wt_c ep (Or.inl rfl)]
    · rw [ep, eb]
      exact ⟨⟨fun z => (by rcases z with z | z <;> cases z), fun z => (by cases z), fun z => (by rcases z with z | z <;> cases z)⟩, A.2.2.2.1.mono (by omega) (fun k hk => exa_lo (by omega))⟩
    · rw [ep, eb]; exact h
    · rw [e1] at w1 w2 w4 ⊢
      exact A.2.2.2.2.2.1 h9 w1 w2 h0 w4
  · -- 25
    obtain ⟨cc, -, q⟩ := pr_q_in hp'
    obtain ⟨⟨h9, h16⟩, h6, hh, h0⟩ := cc
    obtain ⟨pl, hpl⟩ := (pe_ev hp).2 0 rfl
    have aN' := A6 h9
    rw [onil h0, h6, wt_c hpl (Or.inl rfl)] at aN'
    simp only [objs, Nat.add_zero] at aN'
    have K4 := A.2.2.2.1
    have ol4 := A.2.2.2.2.1
    rw [hpl] at K4
    obtain ⟨b, bs, t, bt0, hb, rfl⟩ := bka_cons K4
    rw [hb] at K4
    have ep : p1.2.1 = 1 :: pl := by have : p1.2.1 = 1 :: p.2.1.tail := (pe_ev hp).1; rw [this, hpl]; rfl
    have eb : s1.2.2.2.1 = (1, b.2.1, s.1 254 33, b.2.2.2) :: bs := by
      have : s1.2.2.2.1 = (1, (s.2.2.2.1.headD (0, 0, 0, 0)).2.1, s.1 254 33, (s.2.2.2.1.headD (0, 0, 0, 0)).2.2.2) :: s.2.2.2.1.tail := be_ev hm
      rw [this, hb]; rfl
    have e0 := onil1 (by rw [q]; exact h0)
    have il := ie_len h33 (Or.inl (by dsimp only; omega)) B hp hm B1
    have il : s1.1 254 33 = s.1 254 33 + ((1 : Nat) : Int) := il
    have r := (E (Or.inl (by dsimp only; omega)) 0 _ rfl).1
    rw [Nat.add_zero] at r
    have r : S.1 277 (s.1 254 33).toNat = 15 := r
    refine AI_bl (l := [(0, t :: bt0)]) (bt' := t :: bt0) (cur' := cur) B hp hm B1 F hf A (by dsimp only; omega) rfl (by rw [q]; exact h9) ?_ (fun j hj => ?_) (fun x hx => ?_) ?_ (fun k hk h => Or.inl ?_) (fun j hj _ => Or.inl ?_) (fun w1 => ?_)
    · show exa a (s.1 254 33).toNat [(0, t :: bt0)] ((s.1 254 33).toNat + 1) = _
      rw [exa_1, e0, wt_0 (by rw [q]; rfl), q]; rfl
    · have hj : j < 1 := hj
      have : j = 0 := by omega
      subst this
      show ATk V P S.1 f' _ (s.1 254 33).toNat
      exact ATk.pop1 (Or.inr (Or.inl r)) ⟨by rw [aN, aN'], by rw [exa_1, aN, aN']⟩
    · rw [List.mem_singleton] at hx; rw [hx]; exact ⟨rfl, by (try dsimp only); (try simp only [List.length_cons]); omega⟩
    · rw [ep, eb]
      refine ⟨⟨fun _ => ⟨by show ((s.1 254 33).toNat : Int) < _; omega, exa_1⟩, fun z => (by cases z), fun z => (by rcases z with z | z <;> cases z)⟩, K4.2.mono (by omega) (fun k hk => exa_lo (by omega))⟩
    · rw [ep, eb]; rw [hpl, hb] at h; exact List.mem_cons_of_mem _ h
    · have hj : j < 1 := hj
      have : j = 0 := by omega
      subst this
      rw [ep, eb]; exact List.mem_cons_self
    · rw [q] at w1; cases w1
  · -- 26
    obtain ⟨cc, -, q⟩ := pr_q_in hp'
    obtain ⟨h9, h6, hh, h0, h16⟩ := cc
    obtain ⟨pl, hpl⟩ := (pe_ev hp).2 1 rfl
    have aN' := A6 h9
    rw [onil h0, h6, wt_0 h16] at aN'
    simp only [objs, Nat.add_zero] at aN'
    have K4 := A.2.2.2.1
    have cl := (close_ev B hp hm B1 H).2.1 (Or.inl rfl)
    have bw0 := B.2.2.1
    rw [hpl] at K4 bw0
    obtain ⟨b, bs, t, bt0, hb, rfl⟩ := bka_cons K4
    rw [hb] at K4 cl bw0
    have cl : S.1 278 b.2.2.1.toNat = s.1 254 33 + 1 := cl
    have b15 : S.1 277 b.2.2.1.toNat = 15 := by
      cases hst : c.2.2.2.2.2.2 with
      | nil => rw [hst] at bw0; exact bw0.elim
      | cons w ws => rw [hst] at bw0; exact (bw0.1.2.2.1 (Or.inl rfl)).2.2
    have hat := (A.2.1 b.2.2.1.toNat (K4.1.1 (Or.inl rfl)).1).2.2.2.2.2.2.2.1 (Or.inr (Or.inl b15))
    have eh : (a b.2.2.1.toNat).2 = t :: bt0 := by
      have := hat.2
      rw [(K4.1.1 (Or.inl rfl)).2] at this
      injection this with _ g; exact g.symm
    have ep : p1.2.1 = 2 :: pl := by have : p1.2.1 = 2 :: p.2.1.tail := (pe_ev hp).1; rw [this, hpl]; rfl
    have eb : s1.2.2.2.1 = (2, b.2.1, s.1 254 33, 0) :: bs := by
      have : s1.2.2.2.1 = (2, (s.2.2.2.1.headD (0, 0, 0, 0)).2.1, s.1 254 33, 0) :: s.2.2.2.1.tail := be_ev hm
      rw [this, hb]; rfl
    have e0 := onil1 (by rw [q]; exact h0)
    have il := ie_len h33 (Or.inl (by dsimp only; omega)) B hp hm B1
    have il : s1.1 254 33 = s.1 254 33 + ((2 : Nat) : Int) := il
    have r := (E (Or.inl (by dsimp only; omega)) 0 _ rfl).1
    rw [Nat.add_zero] at r
    have r1 := (E (Or.inl (by dsimp only; omega)) 1 _ rfl).1
    have r : S.1 277 (s.1 254 33).toNat = 16 := r
    have r1 : S.1 277 ((s.1 254 33).toNat + 1) = 20 := r1
    refine AI_bl (l := [(0, t :: bt0), (0, t :: bt0)]) (bt' := t :: bt0) (cur' := cur) B hp hm B1 F hf A (by dsimp only; omega) rfl (by rw [q]; exact h9) ?_ (fun j hj => ?_) (fun x hx => ?_) ?_ (fun k hk h => ?_) (fun j hj h => ?_) (fun w1 => ?_)
    · show exa a (s.1 254 33).toNat [(0, t :: bt0), (0, t :: bt0)] ((s.1 254 33).toNat + 1 + 1) = _
      rw [exa_2, e0, wt_0 (by rw [q]; exact h16), q]; show _ = (p.1 6 + 0, _); rw [h6]
    · have hj : j < 2 := hj
      have : j = 0 ∨ j = 1 := by omega
      rcases this with rfl | rfl
      · show ATk V P S.1 f' _ (s.1 254 33).toNat
        exact ATk.jmp r (by rw [aN, aN'])
      · exact ATk.lab r1 ⟨by rw [exa_1], by rw [exa_1, exa_2]⟩
    · simp only [List.mem_cons, List.not_mem_nil, or_false] at hx; rcases hx with hx | hx <;> rw [hx] <;> exact ⟨rfl, by (try dsimp only); (try simp only [List.length_cons]); omega⟩
    · rw [ep, eb]
      refine ⟨⟨fun z => (by rcases z with z | z <;> cases z), fun _ => ⟨by show ((s.1 254 33).toNat : Int) < _; omega, by rw [show ((2, b.2.1, s.1 254 33, 0) : Int × Int × Int × Int).2.2.1.toNat = (s.1 254 33).toNat from rfl, aN, aN']⟩, fun z => (by rcases z with z | z <;> cases z)⟩, K4.2.mono (by omega) (fun k hk => exa_lo (by omega))⟩
    · rw [hpl, hb] at h
      rcases List.mem_cons.1 h with h | h
      · right
        rw [h, cl, show (s.1 254 33 + 1).toNat = (s.1 254 33).toNat + 1 by omega, exa_1, eh]
        exact ⟨by omega, by omega, rfl⟩
      · left; rw [ep, eb]; exact List.mem_cons_of_mem _ h
    · have hj : j < 2 := hj
      have : j = 0 ∨ j = 1 := by omega
      rcases this with rfl | rfl
      · left; rw [ep, eb]; exact List.mem_cons_self
      · exfalso; omega
    · rw [q] at w1; exact absurd w1 (by rw [h16]; decide)
  -- 27, 28
  iterate 2
    · obtain ⟨cc, -, q⟩ := pr_q_in hp'
      obtain ⟨h9, h6, hh, h0, h16⟩ := cc
      obtain ⟨za, pl, hza, hpl⟩ : ∃ za pl, (za = 1 ∨ za = 2) ∧ p.2.1 = za :: pl := by
        cases hq : p.2.1 with
        | nil => rw [hq] at hh; cases hh
        | cons u v => rw [hq] at hh; have : u = _ := Option.some.inj hh; subst this; first | exact ⟨1, v, Or.inl rfl, rfl⟩ | exact ⟨2, v, Or.inr rfl, rfl⟩
      have aN' := A6 h9
      rw [onil h0, h6, wt_0 h16] at aN'
      simp only [objs, Nat.add_zero] at aN'
      have K4 := A.2.2.2.1
      have cl := (close_ev B hp hm B1 H).1 (by first | exact Or.inl rfl | exact Or.inr rfl)
      have bw0 := B.2.2.1
      rw [hpl] at K4 bw0
      obtain ⟨b, bs, t, bt0, hb, rfl⟩ := bka_cons K4
      rw [hb] at K4 cl bw0
      have cl : S.1 278 b.2.2.1.toNat = s.1 254 33 := cl
      have eh : (a b.2.2.1.toNat).2 = t :: bt0 := by
        rcases hza with rfl | rfl
        · have b15 : S.1 277 b.2.2.1.toNat = 15 := by
            cases hst : c.2.2.2.2.2.2 with
            | nil => rw [hst] at bw0; exact bw0.elim
            | cons w ws => rw [hst] at bw0; exact (bw0.1.2.2.1 (Or.inl rfl)).2.2
          have hat := (A.2.1 b.2.2.1.toNat (K4.1.1 (Or.inl rfl)).1).2.2.2.2.2.2.2.1 (Or.inr (Or.inl b15))
          have := hat.2
          rw [(K4.1.1 (Or.inl rfl)).2] at this
          injection this with _ g; exact g.symm
        · rw [(K4.1.2.1 rfl).2]
      have ep : p1.2.1 = pl := by have : p1.2.1 = p.2.1.tail := (pe_ev hp).1; rw [this, hpl]; rfl
      have eb : s1.2.2.2.1 = bs := by
        have : s1.2.2.2.1 = s.2.2.2.1.tail := be_ev hm
        rw [this, hb]; rfl
      have e0 := onil1 (by rw [q]; exact h0)
      have il := ie_len h33 (Or.inl (by dsimp only; omega)) B hp hm B1
      have il : s1.1 254 33 = s.1 254 33 + ((2 : Nat) : Int) := il
      have r := (E (Or.inl (by dsimp only; omega)) 0 _ rfl).1
      rw [Nat.add_zero] at r
      have r1 := (E (Or.inl (by dsimp only; omega)) 1 _ rfl).1
      have r : S.1 277 (s.1 254 33).toNat = 20 := r
      have r1 : S.1 277 ((s.1 254 33).toNat + 1) = 12 := r1
      refine AI_bl (l := [(0, t :: bt0), (0, bt0)]) (bt' := bt0) (cur' := cur) B hp hm B1 F hf A (by dsimp only; omega) rfl (by rw [q]; exact h9) ?_ (fun j hj => ?_) (fun x hx => ?_) ?_ (fun k hk h => ?_) (fun j hj h => ?_) (fun w1 => ?_)
      · show exa a (s.1 254 33).toNat [(0, t :: bt0), (0, bt0)] ((s.1 254 33).toNat + 1 + 1) = _
        rw [exa_2, e0, wt_0 (by rw [q]; exact h16), q]; show _ = (p.1 6 + 0, _); rw [h6]
      · have hj : j < 2 := hj
        have : j = 0 ∨ j = 1 := by omega
        rcases this with rfl | rfl
        · show ATk V P S.1 f' _ (s.1 254 33).toNat
          exact ATk.lab r ⟨by rw [aN, aN'], by rw [exa_1, aN, aN']⟩
        · exact ATk.done r1 ⟨by rw [exa_1], by rw [exa_1]; exact List.cons_ne_nil _ _, by rw [exa_1, exa_2]; rfl⟩
      · simp only [List.mem_cons, List.not_mem_nil, or_false] at hx; rcases hx with hx | hx <;> rw [hx] <;> exact ⟨rfl, by (try dsimp only); (try simp only [List.length_cons]); omega⟩
      · rw [ep, eb]
        exact K4.2.mono (by omega) (fun k hk => exa_lo (by omega))
      · rw [hpl, hb] at h
        have h : k ∈ b.2.2.1.toNat :: hol pl bs := by rcases hza with rfl | rfl <;> exact h
        rcases List.mem_cons.1 h with h | h
        · right
          rw [h, cl, aN, aN', eh]
          exact ⟨by omega, by omega, rfl⟩
        · left; rw [ep, eb]; exact h
      · have hj : j < 2 := hj
        have : j = 0 ∨ j = 1 := by omega
        rcases this with rfl | rfl
        · exfalso; rw [Nat.add_zero] at h; omega
        · exfalso; omega
      · rw [q] at w1; exact absurd w1 (by rw [h16]; decide)
  · -- 30
    obtain ⟨cc, -, q⟩ := pr_q_in hp'
    obtain ⟨⟨h9, h16⟩, h6, -, -, ⟨-, h10, h15, hnh⟩, h0⟩ := cc
    have aN' := A6 h9
    rw [onil h0, h6, wt_on h16 hnh] at aN'
    simp only [objs, Nat.add_zero] at aN'
    have ep : p1.2.1 = 3 :: p.2.1 := (pe_ev hp).1
    have eb : s1.2.2.2.1 = (3, s.1 254 50, 0, s.1 254 33) :: s.2.2.2.1 := be_ev hm
    have e0 := onil1 (by rw [q]; exact h0)
    have e1 : p1.1 = p.1 := by rw [q]
    have ecur : x.toNat = cur := by
      have := A.2.2.2.2.2.1 h9 h16 h6 h0 h15
      have h10 : p.1 10 = x.toNat + 1 := h10
      omega
    have il := ie_len h33 (Or.inl (by dsimp only; omega)) B hp hm B1
    have il : s1.1 254 33 = s.1 254 33 + ((2 : Nat) : Int) := il
    have r := (E (Or.inl (by dsimp only; omega)) 0 _ rfl).1
    rw [Nat.add_zero] at r
    have r1 := (E (Or.inl (by dsimp only; omega)) 1 _ rfl).1
    have r : S.1 277 (s.1 254 33).toNat = 20 := r
    have r1 : S.1 277 ((s.1 254 33).toNat + 1) = 17 := r1
    refine AI_bl (l := [(0, cur :: bt), (0, cur :: bt)]) (bt' := cur :: bt) (cur' := cur) B hp hm B1 F hf A (by dsimp only; omega) rfl (by rw [e1]; exact h9) ?_ (fun j hj => ?_) (fun x hx => ?_) ?_ (fun k hk h => Or.inl ?_) (fun j hj h => ?_) (fun w1 w2 w3 w4 => ?_)
    · show exa a (s.1 254 33).toNat [(0, cur :: bt), (0, cur :: bt)] ((s.1 254 33).toNat + 1 + 1) = _
      rw [exa_2, e0, e1, h6, wt_c ep (Or.inr rfl)]
    · have hj : j < 2 := hj
      have : j = 0 ∨ j = 1 := by omega
      rcases this with rfl | rfl
      · show ATk V P S.1 f' _ (s.1 254 33).toNat
        exact ATk.lab r ⟨by rw [aN, aN'], by rw [exa_1, aN, aN']⟩
      · refine ATk.ask r1 ⟨by rw [exa_1], by rw [exa_1, exa_2], cur, bt, by rw [exa_1], ?_⟩
        rw [hf30 rfl]
        show [((20 : Int), P x.toNat, (0 : Int))] = _
        rw [ecur]
    · simp only [List.mem_cons, List.not_mem_nil, or_false] at hx; rcases hx with hx | hx <;> rw [hx] <;> exact ⟨rfl, by (try dsimp only); (try simp only [List.length_cons]); omega⟩
    · rw [ep, eb]
      exact ⟨⟨fun z => (by rcases z with z | z <;> cases z), fun z => (by cases z), fun _ => ⟨by show ((s.1 254 33).toNat : Int) < _; omega, by rw [show ((3, s.1 254 50, 0, s.1 254 33) : Int × Int × Int × Int).2.2.2.toNat = (s.1 254 33).toNat from rfl, aN, aN']⟩⟩, A.2.2.2.1.mono (by omega) (fun k hk => exa_lo (by omega))⟩
    · rw [ep, eb]; exact h
    · have hj : j < 2 := hj
      have : j = 0 ∨ j = 1 := by omega
      rcases this with rfl | rfl
      · exfalso; rw [Nat.add_zero] at h; omega
      · exfalso; omega
    · rw [e1] at w1 w2 w4 ⊢
      exact A.2.2.2.2.2.1 h9 w1 w2 h0 w4
  · -- 31
    obtain ⟨cc, -, q⟩ := pr_q_in hp'
    obtain ⟨⟨h9, h16⟩, h6, hh, h0⟩ := cc
    obtain ⟨pl, hpl⟩ := (pe_ev hp).2 3 rfl
    have aN' := A6 h9
    rw [onil h0, h6, wt_c hpl (Or.inr rfl)] at aN'
    simp only [objs, Nat.add_zero] at aN'
    have K4 := A.2.2.2.1
    rw [hpl] at K4
    obtain ⟨b, bs, t, bt0, hb, rfl⟩ := bka_cons K4
    rw [hb] at K4
    have ep : p1.2.1 = 4 :: pl := by have : p1.2.1 = 4 :: p.2.1.tail := (pe_ev hp).1; rw [this, hpl]; rfl
    have eb : s1.2.2.2.1 = (3, b.2.1, s.1 254 33, b.2.2.2) :: bs := by
      have : s1.2.2.2.1 = (3, (s.2.2.2.1.headD (0, 0, 0, 0)).2.1, s.1 254 33, (s.2.2.2.1.headD (0, 0, 0, 0)).2.2.2) :: s.2.2.2.1.tail := be_ev hm
      rw [this, hb]; rfl
    have e0 := onil1 (by rw [q]; exact h0)
    have il := ie_len h33 (Or.inl (by dsimp only; omega)) B hp hm B1
    have il : s1.1 254 33 = s.1 254 33 + ((1 : Nat) : Int) := il
    have r := (E (Or.inl (by dsimp only; omega)) 0 _ rfl).1
    rw [Nat.add_zero] at r
    have r : S.1 277 (s.1 254 33).toNat = 15 := r
    have fr := K4.1.2.2 (Or.inl rfl)
    refine AI_bl (l := [(0, t :: bt0)]) (bt' := t :: bt0) (cur' := cur) B hp hm B1 F hf A (by dsimp only; omega) rfl (by rw [q]; exact h9) ?_ (fun j hj => ?_) (fun x hx => ?_) ?_ (fun k hk h => Or.inl ?_) (fun j hj _ => Or.inl ?_) (fun w1 => ?_)
    · show exa a (s.1 254 33).toNat [(0, t :: bt0)] ((s.1 254 33).toNat + 1) = _
      rw [exa_1, e0, wt_0 (by rw [q]; rfl), q]; rfl
    · have hj : j < 1 := hj
      have : j = 0 := by omega
      subst this
      show ATk V P S.1 f' _ (s.1 254 33).toNat
      exact ATk.pop1 (Or.inr (Or.inl r)) ⟨by rw [aN, aN'], by rw [exa_1, aN, aN']⟩
    · rw [List.mem_singleton] at hx; rw [hx]; exact ⟨rfl, by (try dsimp only); (try simp only [List.length_cons]); omega⟩
    · rw [ep, eb]
      refine ⟨⟨fun _ => ⟨by show ((s.1 254 33).toNat : Int) < _; omega, exa_1⟩, fun z => (by cases z), fun _ => ⟨by show (b.2.2.2.toNat : Int) < _; omega, ?_⟩⟩, K4.2.mono (by omega) (fun k hk => exa_lo (by omega))⟩
      show exa a _ _ b.2.2.2.toNat = _
      rw [exa_lo (by omega)]; exact fr.2
    · rw [ep, eb]; rw [hpl, hb] at h; exact List.mem_cons_of_mem _ h
    · have hj : j < 1 := hj
      have : j = 0 := by omega
      subst this
      rw [ep, eb]; exact List.mem_cons_self
    · rw [q] at w1; cases w1
  · -- 32
    obtain ⟨cc, -, q⟩ := pr_q_in hp'
    obtain ⟨h9, h6, hh, h0, h16⟩ := cc
    obtain ⟨pl, hpl⟩ := (pe_ev hp).2 4 rfl
    have aN' := A6 h9
    rw [onil h0, h6, wt_0 h16] at aN'
    simp only [objs, Nat.add_zero] at aN'
    have K4 := A.2.2.2.1
    have cl := (close_ev B hp hm B1 H).2
    have cl1 := cl.1 (Or.inr rfl)
    have cl2 := cl.2 rfl
    have bw0 := B.2.2.1
    rw [hpl] at K4 bw0
    obtain ⟨b, bs, t, bt0, hb, rfl⟩ := bka_cons K4
    have hb0' := hb0 b (by rw [hb]; exact List.mem_cons_self)
    rw [hb] at K4 cl1 cl2 bw0
    have cl1 : S.1 278 b.2.2.1.toNat = s.1 254 33 + 1 := cl1
    have cl2 : S.1 278 (s.1 254 33).toNat = b.2.2.2 := cl2
    have b15 : S.1 277 b.2.2.1.toNat = 15 := by
      cases hst : c.2.2.2.2.2.2 with
      | nil => rw [hst] at bw0; exact bw0.elim
      | cons w ws => rw [hst] at bw0; exact (bw0.1.2.2.1 (Or.inr rfl)).2.2
    have hat := (A.2.1 b.2.2.1.toNat (K4.1.1 (Or.inr rfl)).1).2.2.2.2.2.2.2.1 (Or.inr (Or.inl b15))
    have eh : (a b.2.2.1.toNat).2 = t :: bt0 := by
      have := hat.2
      rw [(K4.1.1 (Or.inr rfl)).2] at this
      injection this with _ g; exact g.symm
    have fr := K4.1.2.2 (Or.inr rfl)
    have ep : p1.2.1 = pl := by have : p1.2.1 = p.2.1.tail := (pe_ev hp).1; rw [this, hpl]; rfl
    have eb : s1.2.2.2.1 = bs := by
      have : s1.2.2.2.1 = s.2.2.2.1.tail := be_ev hm
      rw [this, hb]; rfl
    have e0 := onil1 (by rw [q]; exact h0)
    have il := ie_len h33 (Or.inl (by dsimp only; omega)) B hp hm B1
    have il : s1.1 254 33 = s.1 254 33 + ((3 : Nat) : Int) := il
    have r := (E (Or.inl (by dsimp only; omega)) 0 _ rfl).1
    rw [Nat.add_zero] at r
    have r1 := (E (Or.inl (by dsimp only; omega)) 1 _ rfl).1
    have r2 := (E (Or.inl (by dsimp only; omega)) 2 _ rfl).1
    have r : S.1 277 (s.1 254 33).toNat = 16 := r
    have r1 : S.1 277 ((s.1 254 33).toNat + 1) = 20 := r1
    have r2 : S.1 277 ((s.1 254 33).toNat + 2) = 12 := r2
    refine AI_bl (l := [(0, t :: bt0), (0, t :: bt0), (0, bt0)]) (bt' := bt0) (cur' := cur) B hp hm B1 F hf A (by dsimp only; omega) rfl (by rw [q]; exact h9) ?_ (fun j hj => ?_) (fun x hx => ?_) ?_ (fun k hk h => ?_) (fun j hj h => ?_) (fun w1 => ?_)
    · show exa a (s.1 254 33).toNat [(0, t :: bt0), (0, t :: bt0), (0, bt0)] ((s.1 254 33).toNat + 2 + 1) = _
      rw [exa_3, e0, wt_0 (by rw [q]; exact h16), q]; show _ = (p.1 6 + 0, _); rw [h6]
    · have hj : j < 3 := hj
      have : j = 0 ∨ j = 1 ∨ j = 2 := by omega
      rcases this with rfl | rfl | rfl
      · show ATk V P S.1 f' _ (s.1 254 33).toNat
        exact ATk.jmp r (by rw [aN, aN'])
      · exact ATk.lab r1 ⟨by rw [exa_1], by rw [exa_1, exa_2]⟩
      · refine ATk.done r2 ⟨?_, ?_, ?_⟩
        · show (exa a (s.1 254 33).toNat [(0, t :: bt0), (0, t :: bt0), (0, bt0)] ((s.1 254 33).toNat + 1 + 1)).1 = 0
          rw [exa_2]
        · show (exa a (s.1 254 33).toNat [(0, t :: bt0), (0, t :: bt0), (0, bt0)] ((s.1 254 33).toNat + 1 + 1)).2 ≠ []
          rw [exa_2]; exact List.cons_ne_nil _ _
        · rw [exa_3]
          show _ = (0, (exa a (s.1 254 33).toNat [(0, t :: bt0), (0, t :: bt0), (0, bt0)] ((s.1 254 33).toNat + 1 + 1)).2.tail)
          rw [exa_2]; rfl
    · simp only [List.mem_cons, List.not_mem_nil, or_false] at hx; rcases hx with hx | hx | hx <;> rw [hx] <;> exact ⟨rfl, by (try dsimp only); (try simp only [List.length_cons]); omega⟩
    · rw [ep, eb]
      exact K4.2.mono (by omega) (fun k hk => exa_lo (by omega))
    · rw [hpl, hb] at h
      rcases List.mem_cons.1 h with h | h
      · right
        rw [h, cl1, show (s.1 254 33 + 1).toNat = (s.1 254 33).toNat + 1 by omega, exa_1, eh]
        exact ⟨by omega, by omega, rfl⟩
      · left; rw [ep, eb]; exact h
    · have hj : j < 3 := hj
      have : j = 0 ∨ j = 1 ∨ j = 2 := by omega
      rcases this with rfl | rfl | rfl
      · right
        rw [Nat.add_zero, cl2, aN, aN', exa_lo (by omega), fr.2]
        exact ⟨hb0', by omega, rfl⟩
      · exfalso; omega
      · exfalso; omega
    · rw [q] at w1; exact absurd w1 (by rw [h16]; decide)
  · -- 33
    obtain ⟨cc, -, q⟩ := pr_q_in hp'
    obtain ⟨⟨h9, h16⟩, h6, h0, hnh⟩ := cc
    have aN' := A6 h9
    rw [onil h0, h6, wt_on h16 hnh] at aN'
    simp only [objs, Nat.add_zero] at aN'
    have e6 : p1.1 6 = 0 := by rw [q]; rfl
    have e0 := onil1 (by rw [q]; exact h0)
    refine AI_one (cur' := cur) (by unfold pnx; dsimp only; omega) B hp hm B1 M1 Y1 F hf A (by dsimp only; omega) rfl (p1.1 6 + objs V S.1 s1.2.2.2.2, wt p1 bt cur) (by rw [q]; exact h9) rfl (by show p1.1 6 + objs V S.1 s1.2.2.2.2 ≤ 352; rw [e6, e0]; omega) (fun a' w1 w2 => ?_) (fun w => by rw [q] at w; cases w)
    have r := (E (Or.inl (by dsimp only; omega)) 0 _ rfl).1
    rw [Nat.add_zero] at r
    exact ATk.ret r (by rw [w1, aN'])
  · -- 34
    obtain ⟨cc, -, q⟩ := pr_q_in hp'
    obtain ⟨⟨h9, h16⟩, h6, h0, hnh⟩ := cc
    have aN' := A6 h9
    rw [onil h0, h6, wt_on h16 hnh] at aN'
    simp only [objs, Nat.add_zero] at aN'
    refine AI_two (by unfold pnx; dsimp only; omega) B hp hm B1 M1 Y1 F hf A (by dsimp only; omega) rfl (by rw [q]; exact h9) (by rw [q]; rfl) (onil1 (by rw [q]; exact h0)) (by rw [q]; rfl) (by rw [aN']) (E (Or.inl (by dsimp only; omega)) 1 _ rfl).1 (fun a' w1 w2 => ?_)
    have r := (E (Or.inl (by dsimp only; omega)) 0 _ rfl).1
    rw [Nat.add_zero] at r
    exact ATk.pop1 (Or.inr (Or.inr r)) ⟨by rw [w1, aN'], by rw [w2, w1, aN']⟩
  -- declarations
  iterate 12
    · obtain ⟨cc, -, q⟩ := pr_q_in hp'
      have h9 : p.1 9 ≠ 6 := by first | (have := cc.1; omega) | (have := cc.1.1; omega)
      have h9' : p1.1 9 ≠ 6 := by
        have pd := (pr_decl (by dsimp only; omega) hp).2.2.1
        intro w; have := pd w; cases this
      have pd := (pr_decl (by dsimp only; omega) hp).1
      have md := mi_decl (by dsimp only; omega) hp hm
      rcases hq_ev B hp hm B1 with ⟨w, -⟩ | ⟨w, -⟩ | ⟨-, w1, w2⟩
      · exfalso; rcases w with w | w <;> simp at w
      · cases w
      · refine ⟨a, bt, cur, ⟨fun w => absurd w h9', fun _ => by rw [w2]; exact A.1.2 h9⟩, ?_, ?_, ?_, ?_, fun w => absurd w h9', ?_⟩
        · intro k hk; rw [w2] at hk; exact (A.2.1 k hk).fr rfl rfl (hf k hk)
        · intro k hk; rw [w2] at hk; exact A.2.2.1 k hk
        · rw [w2, pd.1, md]; exact A.2.2.2.1
        · rw [w2, pd.1, md]; exact A.2.2.2.2.1
        · rw [w1]; exact A.2.2.2.2.2.2
  · -- 48
    obtain ⟨cc, -, q⟩ := pr_q_in hp'
    obtain ⟨h9, h6, hpl, h0, -⟩ := cc
    have pd := (pr_decl (by dsimp only; omega) hp).1
    have md := mi_decl (by dsimp only; omega) hp hm
    have K4 := A.2.2.2.1
    rw [hpl] at K4
    have hbt := bka_nil K4
    subst hbt
    rcases hq_ev B hp hm B1 with ⟨w, -⟩ | ⟨-, w1, w2, w3, w4⟩ | ⟨⟨w, -⟩, -⟩
    · exfalso; rcases w with w | w <;> simp at w
    · have aN' := A.1.2 (by omega)
      refine ⟨a, [], cur, ⟨fun _ => ?_, fun w => absurd (by rw [q]; rfl) w⟩, ?_, ?_, ?_, ?_, (fun _ w => by rw [q] at w; cases w), ?_⟩
      · rw [w2, aN', onil1 (by rw [q]; exact h0), wt_0 (by rw [q]; rfl), show p1.1 6 = p.1 6 by rw [q]; rfl, h6]
      · intro k hk; rw [w2] at hk; exact (A.2.1 k hk).fr rfl rfl (hf k hk)
      · intro k hk; rw [w2] at hk; exact A.2.2.1 k hk
      · rw [w2, pd.1, md]; exact A.2.2.2.1
      · rw [w2, pd.1, md]; exact A.2.2.2.2.1
      · intro u hu
        rw [w1] at hu
        by_cases cu : u < hq p
        · exact A.2.2.2.2.2.2 u cu
        · rw [show u = hq p by omega, w3, aN']
    · exact absurd rfl w
  · -- 49
    obtain ⟨cc, -, q⟩ := pr_q_in hp'
    obtain ⟨h9, h6, hpl, h0, h15, h16⟩ := cc
    have K4 := A.2.2.2.1
    rw [hpl] at K4
    have hbt := bka_nil K4
    subst hbt
    have aN' := A6 h9
    rw [onil h0, h6, wt_0 h16] at aN'
    simp only [objs, Nat.add_zero] at aN'
    have r := (E (Or.inr rfl) 0 _ rfl).1
    rw [Nat.add_zero] at r
    have r1 := (E (Or.inr rfl) 1 _ rfl).1
    have e9 : p1.1 9 = 3 := by rw [q]; rfl
    refine ⟨exa a (s.1 254 33).toNat [(1, []), (0, [])], [], cur, AI_pl (by unfold pnx; dsimp only; omega) B hp hm B1 M1 Y1 F hf A (Or.inr rfl) rfl ⟨fun w => by omega, fun _ => exa_2⟩ (fun j hj => ?_) (fun x hx => ?_) (fun w => by omega)⟩
    · have hj : j < 2 := hj
      have : j = 0 ∨ j = 1 := by omega
      rcases this with rfl | rfl
      · show ATk V P S.1 f' _ (s.1 254 33).toNat
        exact ATk.push (Or.inl r) (by rw [exa_1, aN, aN'])
      · exact ATk.ret r1 (by rw [exa_1])
    · simp only [List.mem_cons, List.not_mem_nil, or_false] at hx
      rcases hx with hx | hx <;> rw [hx] <;> exact ⟨by show _ ≤ 352; omega, Nat.zero_le _⟩
end
