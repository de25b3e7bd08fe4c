/-! LOAD, 5: all lines of a text, as the translator takes them -/
theorem tU_map {α β : Type} (g : α → β) {hd it : Nat → List α} {fi : Nat → Int} : ∀ (s k : Nat), (tU hd it fi s k).map g = tU (fun s => (hd s).map g) (fun k => (it k).map g) fi s k
  | 0, _ => rfl
  | s + 1, k => by
    have rg : ∀ a m, (rgn it a m).map g = rgn (fun k => (it k).map g) a m := by
      intro a m
      induction m with
      | zero => rfl
      | succ m ih => show (rgn it a m ++ it (a + m)).map g = _; rw [List.map_append, ih]; rfl
    rw [tU_sub, tU_sub, List.map_append, List.map_append, tU_map g s, rg]
theorem rgn_mem {α : Type} {it : Nat → List α} {v : α} : ∀ (m a : Nat), v ∈ rgn it a m → ∃ j, a ≤ j ∧ j < a + m ∧ v ∈ it j
  | 0, a, h => by cases h
  | m + 1, a, h => by
    rcases List.mem_append.1 h with z | z
    · obtain ⟨j, h1, h2, h3⟩ := rgn_mem m a z
      exact ⟨j, h1, by omega, h3⟩
    · exact ⟨a + m, by omega, by omega, z⟩
theorem tU_mem {α : Type} {hd it : Nat → List α} {fi : Nat → Int} {v : α} {N : Nat} : ∀ (s k : Nat), (∀ s', s' < s → (fi s').toNat ≤ N) → k ≤ N → v ∈ tU hd it fi s k → (∃ s', s' < s ∧ v ∈ hd s') ∨ ∃ j, j < N ∧ v ∈ it j
  | 0, _, _, _, h => by cases h
  | s + 1, k, hf, hk, h => by
    rw [tU_sub] at h
    rcases List.mem_append.1 h with z | z
    · rcases List.mem_append.1 z with z | z
      · rcases tU_mem s _ (fun s' h => hf s' (by omega)) (hf s (by omega)) z with ⟨s', h1, h2⟩ | h1
        · exact Or.inl ⟨s', by omega, h2⟩
        · exact Or.inr h1
      · exact Or.inl ⟨s, by omega, z⟩
    · obtain ⟨j, h1, h2, h3⟩ := rgn_mem _ _ z
      exact Or.inr ⟨j, by omega, h3⟩
theorem LGo_all {gv : Nat → Nat} : ∀ {vs : List vl} (pd : Nat), (∀ l ∈ vs, ∀ pd, lgo gv pd l) → LGo gv pd vs
  | [], _, _ => trivial
  | l :: vs, pd, h => ⟨h l (List.mem_cons_self ..) pd, LGo_all _ (fun x hx => h x (List.mem_cons_of_mem _ hx))⟩
/-- labels and subs of lines -/
def llb : List vl → List Nat
  | [] => []
  | l :: r => (if l.1 = 11 then [l.2.1] else []) ++ llb r
def lsb : List vl → List Nat
  | [] => []
  | l :: r => (if l.1 = 14 then [l.2.1] else []) ++ lsb r
theorem llb_app : ∀ a b : List vl, llb (a ++ b) = llb a ++ llb b
  | [], _ => rfl
  | l :: a, b => by show _ ++ llb (a ++ b) = _ ++ llb a ++ llb b; rw [llb_app a b, List.append_assoc]
theorem lsb_app : ∀ a b : List vl, lsb (a ++ b) = lsb a ++ lsb b
  | [], _ => rfl
  | l :: a, b => by show _ ++ lsb (a ++ b) = _ ++ lsb a ++ lsb b; rw [lsb_app a b, List.append_assoc]
theorem tgts_mem {x : Nat} : ∀ {l : List vl}, x ∈ tgts l → x ∈ llb l ∨ ∃ s, s ∈ lsb l ∧ x = 1500 + s
  | [], h => by cases h
  | l :: r, h => by
    have h : x ∈ tgt l ++ tgts r := h
    rcases List.mem_append.1 h with z | z
    · unfold tgt at z
      by_cases c1 : l.1 = 11
      · rw [if_pos c1] at z
        left
        show x ∈ (if l.1 = 11 then [l.2.1] else []) ++ llb r
        rw [if_pos c1]; exact List.mem_append_left _ z
      · rw [if_neg c1] at z
        by_cases c2 : l.1 = 14
        · rw [if_pos c2, List.mem_singleton] at z
          right
          refine ⟨l.2.1, ?_, z⟩
          show l.2.1 ∈ (if l.1 = 14 then [l.2.1] else []) ++ lsb r
          rw [if_pos c2]; exact List.mem_append_left _ (List.mem_singleton.2 rfl)
        · rw [if_neg c2] at z; cases z
    · rcases tgts_mem z with w | ⟨s, w1, w2⟩
      · exact Or.inl (List.mem_append_right _ w)
      · exact Or.inr ⟨s, List.mem_append_right _ w1, w2⟩
theorem tgts_nd : ∀ {l : List vl}, (llb l).Nodup → (lsb l).Nodup → (∀ x ∈ llb l, x < 1500) → (tgts l).Nodup
  | [], _, _, _ => List.nodup_nil
  | l :: r, h1, h2, h3 => by
    have h1 : ((if l.1 = 11 then [l.2.1] else []) ++ llb r).Nodup := h1
    have h2 : ((if l.1 = 14 then [l.2.1] else []) ++ lsb r).Nodup := h2
    have h3 : ∀ x ∈ (if l.1 = 11 then [l.2.1] else []) ++ llb r, x < 1500 := h3
    rw [List.nodup_append] at h1 h2
    have ih := tgts_nd h1.2.1 h2.2.1 (fun x hx => h3 x (List.mem_append_right _ hx))
    show (tgt l ++ tgts r).Nodup
    rw [List.nodup_append]
    refine ⟨?_, ih, fun x hx y hy e => ?_⟩
    · unfold tgt
      split
      · exact List.nodup_cons.2 ⟨(fun z => (by cases z)), List.nodup_nil⟩
      · split
        · exact List.nodup_cons.2 ⟨(fun z => (by cases z)), List.nodup_nil⟩
        · exact List.nodup_nil
    · subst e
      unfold tgt at hx
      by_cases c1 : l.1 = 11
      · rw [if_pos c1] at hx h1 h3
        have hx' := List.mem_singleton.1 hx
        have l15 := h3 x (List.mem_append_left _ hx)
        rcases tgts_mem hy with w | ⟨s, w1, w2⟩
        · exact h1.2.2 x hx x w rfl
        · omega
      · rw [if_neg c1] at hx
        by_cases c2 : l.1 = 14
        · rw [if_pos c2] at hx h2
          have hx' := List.mem_singleton.1 hx
          rcases tgts_mem hy with w | ⟨s, w1, w2⟩
          · have := h3 x (List.mem_append_right _ w); omega
          · have : s = l.2.1 := by omega
            rw [this] at w1
            exact h2.2.2 l.2.1 (List.mem_singleton.2 rfl) l.2.1 w1 rfl
        · rw [if_neg c2] at hx; cases hx
theorem llb_cv : ∀ {l : List (Int × Int × Int)}, (∀ v ∈ l, nn3 v) → llb (l.map cvl) = (lbs l).map Int.toNat
  | [], _ => rfl
  | v :: l, h => by
    have hv := h v (List.mem_cons_self ..)
    have ih := llb_cv (l := l) (fun w hw => h w (List.mem_cons_of_mem _ hw))
    have e : cvl v = (v.1.toNat, v.2.1.toNat, v.2.2.toNat) := cvl_n v.1 hv.2.1 hv.2.2
    show (if (cvl v).1 = 11 then [(cvl v).2.1] else []) ++ llb (l.map cvl) = _
    rw [ih, e]
    dsimp only
    by_cases c : v.1 = 11
    · rw [if_pos (by rw [c]; rfl)]
      have e2 : lbs (v :: l) = v.2.1 :: lbs l := by simp [lbs, c]
      rw [e2]; rfl
    · rw [if_neg (by have := hv.1; omega)]
      have e2 : lbs (v :: l) = lbs l := by simp [lbs, c]
      rw [e2]; rfl
section
variable {K P V sc ss t : Nat → Int} {cs : Nat → Nat} {gv : Nat → Nat} {n : Nat} {g0 c0 : am_H} {p : pr_S} {S : mi_S} {c' : ce_S} {f : Nat → List (Int × Int × Int)} {a : Nat → Nat × List Nat}
theorem lab11 (X : LDX K P V sc ss t cs gv n g0 c0 p S c' f a) {N : Nat} (hN : S.1 254 33 = (N : Int)) {j x : Nat} (hj : j < N) (hx : (11, x, 0) ∈ (f j).map cvl) : x < 1500 := by
  obtain ⟨v, hv, ev⟩ := List.mem_map.1 hx
  have nv := kd_nn X hN hj v hv
  rw [cvl_n v.1 nv.2.1 nv.2.2] at ev
  injection ev with e1 e2
  injection e2 with e2 e3
  obtain ⟨v1, v2, v3⟩ := v
  obtain ⟨n1, n2, n3⟩ := nv
  dsimp only at e1 e2 e3 n1 n2 n3
  have : v1 = 11 := by omega
  have : v3 = 0 := by omega
  subst v1; subst v3
  have := lab_rg X hN j hj v2 hv
  omega
theorem gv_le (X : LDX K P V sc ss t cs gv n g0 c0 p S c' f a) {u : Nat} (hu : u < p.1 3) : gv (49 + u) ≤ 13 := by
  obtain ⟨⟨-, ⟨-, -, -, SUs, -⟩, -⟩, -, -, -, -, -, -, hgv, -⟩ := X
  rw [hgv u hu]
  have := (SUs.1 u hu).1
  split <;> omega
/-- lines of an item -/
theorem it_lgo (X : LDX K P V sc ss t cs gv n g0 c0 p S c' f a) {k N : Nat} (hN : S.1 254 33 = (N : Int)) (hk : k < N) : ∀ l ∈ (f k).map cvl, l.1 ≠ 14 ∧ ∀ pd, lgo gv pd l := by
  obtain ⟨s, hs, -, D⟩ := kd0 X hN hk
  have l11 := fun {j x : Nat} (hj : j < N) (hx : (11, x, 0) ∈ (f j).map cvl) => lab11 X hN hj hx
  have one : ∀ (o a b : Nat), (o ≠ 14 ∧ o ≤ 20 ∧ (o = 0 → a ≤ 4) ∧ (o = 1 → 1 ≤ a ∧ a ≤ 5) ∧ a ≤ 32000 ∧ b ≤ 32767 ∧ (3 ≤ a → b ≤ 32000) ∧ (o = 15 → a < 130) ∧ (o = 11 ∨ o = 12 ∨ o = 13 → a < 1500) ∧ (o = 17 ∨ o = 18 → a ≤ 1) ∧ (o = 0 ∨ o = 1 → 4 ≤ a → b = 0) ∧ (o = 0 ∨ o = 1 → a = 3 → b < 16000)) → (o, a, b).1 ≠ 14 ∧ ∀ pd, lgo gv pd (o, a, b) := by
    intro o a b h
    refine ⟨h.1, fun pd => ?_⟩
    unfold lgo
    dsimp only
    exact ⟨⟨h.2.1, h.2.2.1, h.2.2.2.1, h.2.2.2.2.1⟩, ⟨h.2.2.2.2.2.1, h.2.2.2.2.2.2.1⟩, h.2.2.2.2.2.2.2.1, h.2.2.2.2.2.2.2.2.1, fun z => absurd z h.1, h.2.2.2.2.2.2.2.2.2.1, h.2.2.2.2.2.2.2.2.2.2.1, h.2.2.2.2.2.2.2.2.2.2.2⟩
  have chl : ∀ (cl : List Nat), (∀ c ∈ cl, c ≤ 255) → ∀ l ∈ chN cl, l.1 ≠ 14 ∧ ∀ pd, lgo gv pd l := by
    intro cl
    induction cl with
    | nil => intro _ l hl; cases hl
    | cons c cl ih =>
      intro h l hl
      have hc := h c (List.mem_cons_self ..)
      rcases List.mem_cons.1 hl with rfl | hl
      · exact one _ _ _ (by omega)
      · rcases List.mem_cons.1 hl with rfl | hl
        · exact one _ _ _ (by omega)
        · exact ih (fun x hx => h x (List.mem_cons_of_mem _ hx)) l hl
  have ldl : ∀ v, VK g0 s v → (∀ l ∈ ldN g0 s v, l.1 ≠ 14 ∧ ∀ pd, lgo gv pd l) ∧ ∀ l ∈ stN g0 s v, l.1 ≠ 14 ∧ ∀ pd, lgo gv pd l := by
    intro v ⟨v1, v2, v3, v4, v5, v6⟩
    have b5 : g0 267 s ≤ 12 ∧ g0 268 s ≤ 12 := by
      obtain ⟨⟨-, ⟨-, -, -, SUs, -⟩, -⟩, MVs, -⟩ := X
      have := SUs.1 s hs
      rw [MVs.1 267 (by omega), MVs.1 268 (by omega)]; omega
    unfold ldN stN
    constructor
    · intro l hl
      by_cases z0 : g0 272 v = 0
      · have := v3 z0
        rw [if_pos z0, List.mem_singleton] at hl; subst hl; exact one _ _ _ (by omega)
      · rw [if_neg z0] at hl
        by_cases z1 : g0 272 v = 1
        · have := v4 z1
          rw [if_pos z1] at hl
          simp only [List.mem_cons, List.not_mem_nil, or_false] at hl
          rcases hl with rfl | rfl <;> exact one _ _ _ (by omega)
        · rw [if_neg z1] at hl
          by_cases z2 : g0 272 v = 2
          · have := v5 z2
            rw [if_pos z2, List.mem_singleton] at hl; subst hl
            refine one _ _ _ ?_
            split <;> omega
          · have := v6 (by omega)
            rw [if_neg z2, List.mem_singleton] at hl; subst hl; exact one _ _ _ (by omega)
    · intro l hl
      by_cases z0 : g0 272 v = 0
      · have := v3 z0
        rw [if_pos z0, List.mem_singleton] at hl; subst hl; exact one _ _ _ (by omega)
      · rw [if_neg z0] at hl
        by_cases z1 : g0 272 v = 1
        · have := v4 z1
          rw [if_pos z1] at hl
          simp only [List.mem_cons, List.not_mem_nil, or_false] at hl
          rcases hl with rfl | rfl | rfl <;> exact one _ _ _ (by omega)
        · rw [if_neg z1] at hl
          by_cases z2 : g0 272 v = 2
          · have := v5 z2
            rw [if_pos z2, List.mem_singleton] at hl; subst hl
            refine one _ _ _ ?_
            split <;> omega
          · have := v6 (by omega)
            rw [if_neg z2, List.mem_singleton] at hl; subst hl; exact one _ _ _ (by omega)
  have gl := fun {u : Nat} (hu : u < p.1 3) => gv_le X hu
  have p3 : p.1 3 ≤ 60 := by
    obtain ⟨⟨-, -, -, Rv, -⟩, -⟩ := X
    exact Rv.2.1.2.2.2.2.1
  have key : ∀ vs : List vl, (f k).map cvl = vs → ∀ l ∈ vs, l.1 ≠ 14 ∧ ∀ pd, lgo gv pd l := by
    intro vs hvs l hl
    rw [hvs] at D
    rcases D with ⟨-, h2, h3, -⟩ | ⟨-, -, -, cl, pl, h1, h2, h3, h4, h5, h6⟩ | ⟨-, -, h1, -⟩ | ⟨-, -, -, v, h1, h2, h3⟩ | ⟨-, -, h1, -⟩ | ⟨-, -, h1, -, h2⟩ | ⟨-, -, h1, -⟩ | ⟨-, -, h1, -⟩ | ⟨-, -, c, h1, h2, h3, h4, h5, -⟩ | ⟨-, -, c, h1, h2, D⟩ | ⟨-, pp, tk, h1, h2, -⟩ | ⟨-, h1, -⟩ | ⟨-, -, -, v, h1, h2, h3⟩ | ⟨-, -, h1, -⟩ | ⟨-, -, x, y, tt, h1, h2, h3, h4, h5, h6, h7, h8, -⟩ | ⟨-, y, tt, h1, h2, h3, h4, h5, h6, h7, h8, -⟩ | ⟨-, pp, tk, tl, h1, h2, -⟩ | ⟨-, h1, -⟩ | ⟨-, -, h1, -⟩ | ⟨-, ⟨x, h1⟩, -⟩
    · rw [h3] at hl
      split at hl
      · simp only [List.mem_cons, List.not_mem_nil, or_false] at hl
        rcases hl with rfl | rfl <;> exact one _ _ _ (by omega)
      · rw [List.mem_singleton] at hl; subst hl; exact one _ _ _ (by omega)
    · rw [h1] at hl
      unfold strN at hl
      rcases List.mem_cons.1 hl with rfl | hl
      · exact one _ _ _ (by omega)
      · rcases List.mem_cons.1 hl with rfl | hl
        · exact one _ _ _ (by omega)
        · refine chl cl (fun c hc => ?_) l hl
          obtain ⟨j, hj⟩ := List.getElem?_of_mem hc
          exact (h6 j c hj).2
    · rw [h1, List.mem_singleton] at hl; subst hl; exact one _ _ _ (by omega)
    · rw [h3] at hl; exact (ldl v h2).1 l hl
    · rw [h1] at hl
      simp only [List.mem_cons, List.not_mem_nil, or_false] at hl
      rcases hl with rfl | rfl <;> exact one _ _ _ (by omega)
    · rw [h1] at hl
      unfold opN at hl
      repeat' (split at hl)
      all_goals (rw [List.mem_singleton] at hl; subst hl; exact one _ _ _ (by omega))
    · rw [h1, List.mem_singleton] at hl; subst hl; exact one _ _ _ (by omega)
    · rw [h1, List.mem_singleton] at hl; subst hl; exact one _ _ _ (by omega)
    · rw [h5] at hl
      unfold obN at hl
      by_cases z1 : g0 285 c = 1
      · rw [if_pos z1] at hl
        exact (ldl _ (h3 z1).2).1 l hl
      · rw [if_neg z1] at hl
        by_cases z2 : g0 285 c = 2
        · rw [if_pos z2, List.mem_singleton] at hl; subst hl; exact one _ _ _ (by omega)
        · rw [if_neg z2] at hl; cases hl
    · rcases D with ⟨ci, li, u, nn, -, d1, -, -, -, -, d2, -⟩ | ⟨u, -, -, d1, d2, -⟩
      · rw [d2, List.mem_singleton] at hl
        subst hl
        simp only [sysT, List.mem_cons, List.not_mem_nil, or_false, Prod.mk.injEq] at d1
        exact one _ _ _ (by omega)
      · rw [d2, List.mem_singleton] at hl
        subst hl
        have := gl d1
        exact one _ _ _ (by omega)
    · rw [h1, List.mem_singleton] at hl; subst hl; exact one _ _ _ (by omega)
    · rw [h1] at hl; cases hl
    · rw [h3] at hl; exact (ldl v h2).2 l hl
    · rw [h1] at hl
      simp only [List.mem_cons, List.not_mem_nil, or_false] at hl
      rcases hl with rfl | rfl <;> exact one _ _ _ (by omega)
    · have lx := l11 (x := x) hk (by rw [hvs, h1]; exact List.mem_cons_of_mem _ (List.mem_cons_of_mem _ List.mem_cons_self))
      have h8 : (f tt).map cvl = [(11, y, 0)] := h8
      have ly := l11 (j := tt) (x := y) (by omega) (by rw [h8]; exact List.mem_singleton.2 rfl)
      rw [h1] at hl
      simp only [List.mem_cons, List.not_mem_nil, or_false] at hl
      rcases hl with rfl | rfl | rfl <;> exact one _ _ _ (by omega)
    · have h8 : (f tt).map cvl = [(11, y, 0)] := h8
      have ly := l11 (j := tt) (x := y) (by omega) (by rw [h8]; exact List.mem_singleton.2 rfl)
      rw [h1, List.mem_singleton] at hl; subst hl; exact one _ _ _ (by omega)
    · rw [h1, List.mem_singleton] at hl; subst hl; exact one _ _ _ (by omega)
    · rw [h1, List.mem_singleton] at hl; subst hl; exact one _ _ _ (by omega)
    · rw [h1, List.mem_singleton] at hl; subst hl; exact one _ _ _ (by omega)
    · have lx := l11 (x := x) hk (by rw [hvs, h1]; exact List.mem_singleton.2 rfl)
      rw [h1, List.mem_singleton] at hl; subst hl; exact one _ _ _ (by omega)
  exact key _ rfl
end
