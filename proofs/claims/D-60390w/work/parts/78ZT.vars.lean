/-! PURE LAYER, 99: both sides look variables up alike -/
/-- the least number below n with a property; -1 -/
noncomputable def lst (A : Nat → Prop) (n : Nat) : Int := p_find (fun v => @ite _ (A v) (Classical.propDecidable _) 1 0) 1 n 0
theorem lst_cases (A : Nat → Prop) (n : Nat) : (lst A n = -1 ∧ ∀ v, v < n → ¬ A v) ∨ (∃ v : Nat, lst A n = v ∧ v < n ∧ A v ∧ ∀ u, u < v → ¬ A u) := by
  have key : ∀ v, (@ite Int (A v) (Classical.propDecidable _) 1 0 = 1) ↔ A v := by
    intro v
    by_cases h : A v
    · simp [h]
    · simp [h]
  rcases p_find_cases (fun v => @ite Int (A v) (Classical.propDecidable _) 1 0) 1 n 0 with ⟨h1, h2⟩ | ⟨j, h1, h2, h3, h4, h5⟩
  · exact Or.inl ⟨h1, fun v hv z => h2 v (by omega) (by omega) ((key v).2 z)⟩
  · exact Or.inr ⟨j, h1, by omega, (key j).1 h4, fun u hu z => h5 u (by omega) hu ((key u).2 z)⟩
theorem lst_some {A : Nat → Prop} {n v : Nat} (h1 : v < n) (h2 : A v) (h3 : ∀ u, u < v → ¬ A u) : lst A n = v := by
  rcases lst_cases A n with ⟨a, b⟩ | ⟨u, a, b, c, d⟩
  · exact absurd h2 (b v h1)
  · rw [a]
    by_cases e : u < v
    · exact absurd c (h3 u e)
    · by_cases e2 : v < u
      · exact absurd h2 (d v e2)
      · omega
theorem lst_none {A : Nat → Prop} {n : Nat} (h : ∀ v, v < n → ¬ A v) : lst A n = -1 := by
  rcases lst_cases A n with ⟨a, b⟩ | ⟨u, a, b, c, d⟩
  · exact a
  · exact absurd c (h u b)
/-- one more, from the top -/
theorem lst_succ (A : Nat → Prop) (n : Nat) (o : Int) : (if lst A (n + 1) = -1 then o else lst A (n + 1)) = (if lst A n = -1 then (@ite _ (A n) (Classical.propDecidable _) (n : Int) o) else lst A n) := by
  rcases lst_cases A n with ⟨a, b⟩ | ⟨u, a, b, c, d⟩
  · rw [a, if_pos rfl]
    by_cases e : A n
    · rw [lst_some (A := A) (n := n + 1) (v := n) (by omega) e b, if_neg (by omega), if_pos e]
    · rw [lst_none (A := A) (n := n + 1) (fun v hv => by
        by_cases ev : v = n
        · rw [ev]; exact e
        · exact b v (by omega)), if_pos rfl, if_neg e]
  · rw [a, lst_some (A := A) (n := n + 1) (v := u) (by omega) c d, if_neg (by omega), if_neg (by omega)]
section
variable {V : Nat → Int} {h : am_H} {t : Nat}
def vA (V : Nat → Int) (h : am_H) (sub : Int) (t v : Nat) : Prop := V (h 273 v).toNat = V t ∧ h 271 v = sub
def vB (V : Nat → Int) (h : am_H) (sub : Int) (k : Int) (t v : Nat) : Prop := V (h 273 v).toNat = V t ∧ h 271 v = -1 ∧ h 270 v = h 263 sub.toNat ∧ h 272 v = k
theorem m_varf_eq (sub : Int) : ∀ (n : Nat) (o f x : Int), m_varf V h sub t n o f x =
    (if (if lst (vA V h sub t) n = -1 then o else lst (vA V h sub t) n) = -1 then (if (if lst (vB V h sub 1 t) n = -1 then f else lst (vB V h sub 1 t) n) = -1 then (if lst (vB V h sub 0 t) n = -1 then x else lst (vB V h sub 0 t) n) else (if lst (vB V h sub 1 t) n = -1 then f else lst (vB V h sub 1 t) n)) else (if lst (vA V h sub t) n = -1 then o else lst (vA V h sub t) n))
  | 0, o, f, x => by
    have e : ∀ A, lst A 0 = -1 := fun A => rfl
    rw [e, e, e, if_pos rfl, if_pos rfl, if_pos rfl]
    rfl
  | n + 1, o, f, x => by
    rw [lst_succ, lst_succ, lst_succ]
    unfold m_varf
    by_cases c : V (h 273 n).toNat = V t
    · rw [if_pos c, m_varf_eq sub n]
      have e1 : (if h 271 n = sub then (n : Int) else o) = @ite Int (vA V h sub t n) (Classical.propDecidable _) n o := by
        by_cases a : h 271 n = sub
        · rw [if_pos a, if_pos (show vA V h sub t n from ⟨c, a⟩)]
        · rw [if_neg a, if_neg (fun z : vA V h sub t n => a z.2)]
      have e2 : ∀ (k : Int) (f : Int), (if h 271 n = -1 ∧ h 270 n = h 263 sub.toNat ∧ h 272 n = k then (n : Int) else f) = @ite Int (vB V h sub k t n) (Classical.propDecidable _) n f := by
        intro k f
        by_cases a : h 271 n = -1 ∧ h 270 n = h 263 sub.toNat ∧ h 272 n = k
        · rw [if_pos a, if_pos (show vB V h sub k t n from ⟨c, a⟩)]
        · rw [if_neg a, if_neg (fun z : vB V h sub k t n => a z.2)]
      rw [e1, e2, e2]
    · rw [if_neg c, m_varf_eq sub n, if_neg (fun z : vA V h sub t n => c z.1), if_neg (fun z : vB V h sub 1 t n => c z.1), if_neg (fun z : vB V h sub 0 t n => c z.1)]
/-- a sub's variables stand from vs0 on, its class's from vc0 on -/
theorem m_var_tab {sub : Int} {n vc0 nc vs0 ns : Nat} (hn : h 254 25 = (n : Int)) (hs : ∀ v, v < n → (h 271 v = sub ↔ vs0 ≤ v ∧ v < vs0 + ns)) (hc : ∀ v, v < n → (h 271 v = -1 ∧ h 270 v = h 263 sub.toNat ↔ vc0 ≤ v ∧ v < vc0 + nc)) (hk : ∀ v, vc0 ≤ v → v < vc0 + nc → h 272 v = 0 ∨ h 272 v = 1) (hu : ∀ u v, vc0 ≤ u → u < vc0 + nc → vc0 ≤ v → v < vc0 + nc → V (h 273 u).toNat = V (h 273 v).toNat → u = v) (e1 : vs0 + ns ≤ n) (e2 : vc0 + nc ≤ n) {f1 f2 : Nat → Int} (g1 : ∀ j, j < ns → f1 j = V (h 273 (vs0 + j)).toNat) (g2 : ∀ j, j < nc → f2 j = V (h 273 (vc0 + j)).toNat) :
    m_var V h sub t = if p_find f1 (V t) ns 0 = -1 then (if p_find f2 (V t) nc 0 = -1 then -1 else (vc0 : Int) + p_find f2 (V t) nc 0) else (vs0 : Int) + p_find f1 (V t) ns 0 := by
  unfold m_var
  rw [hn, Int.toNat_natCast, m_varf_eq]
  have a1 : lst (vA V h sub t) n = if p_find f1 (V t) ns 0 = -1 then -1 else (vs0 : Int) + p_find f1 (V t) ns 0 := by
    rcases p_find_cases f1 (V t) ns 0 with ⟨p1, p2⟩ | ⟨j, p1, p2, p3, p4, p5⟩
    · rw [p1, if_pos rfl]
      refine lst_none (fun v hv z => ?_)
      obtain ⟨b1, b2⟩ := (hs v hv).1 z.2
      have := g1 (v - vs0) (by omega)
      rw [show vs0 + (v - vs0) = v by omega] at this
      exact p2 (v - vs0) (by omega) (by omega) (by rw [this]; exact z.1)
    · rw [p1, if_neg (by omega)]
      have := lst_some (A := vA V h sub t) (n := n) (v := vs0 + j) (by omega) ⟨by rw [← g1 j (by omega)]; exact p4, (hs (vs0 + j) (by omega)).2 ⟨by omega, by omega⟩⟩ (fun u hu z => ?_)
      · rw [this]; omega
      · obtain ⟨b1, b2⟩ := (hs u (by omega)).1 z.2
        have := g1 (u - vs0) (by omega)
        rw [show vs0 + (u - vs0) = u by omega] at this
        exact p5 (u - vs0) (by omega) (by omega) (by rw [this]; exact z.1)
  have a2 : ∀ k, lst (vB V h sub k t) n = if p_find f2 (V t) nc 0 ≠ -1 ∧ h 272 (vc0 + (p_find f2 (V t) nc 0).toNat) = k then (vc0 : Int) + p_find f2 (V t) nc 0 else -1 := by
    intro k
    rcases p_find_cases f2 (V t) nc 0 with ⟨p1, p2⟩ | ⟨j, p1, p2, p3, p4, p5⟩
    · rw [p1, if_neg (by simp)]
      refine lst_none (fun v hv z => ?_)
      obtain ⟨b1, b2⟩ := (hc v hv).1 ⟨z.2.1, z.2.2.1⟩
      have := g2 (v - vc0) (by omega)
      rw [show vc0 + (v - vc0) = v by omega] at this
      exact p2 (v - vc0) (by omega) (by omega) (by rw [this]; exact z.1)
    · rw [p1, Int.toNat_natCast]
      have hj := g2 j (by omega)
      have one : ∀ u, u < n → vB V h sub k t u → u = vc0 + j := by
        intro u hu' z
        obtain ⟨b1, b2⟩ := (hc u hu').1 ⟨z.2.1, z.2.2.1⟩
        exact hu u (vc0 + j) b1 b2 (by omega) (by omega) (by rw [z.1, ← hj]; exact p4.symm)
      by_cases ck : h 272 (vc0 + j) = k
      · rw [if_pos ⟨by omega, ck⟩]
        obtain ⟨b1, b2⟩ := (hc (vc0 + j) (by omega)).2 ⟨by omega, by omega⟩
        rw [lst_some (A := vB V h sub k t) (n := n) (v := vc0 + j) (by omega) ⟨by rw [← hj]; exact p4, b1, b2, ck⟩ (fun u hu' z => by have := one u (by omega) z; omega)]
        omega
      · rw [if_neg (fun z => ck z.2)]
        refine lst_none (fun v hv z => ?_)
        have e := one v hv z
        rw [e] at z
        exact ck z.2.2.2
  rw [a1, a2 1, a2 0]
  rcases p_find_cases f1 (V t) ns 0 with ⟨p1, p2⟩ | ⟨j, p1, p2, p3, p4, p5⟩
  · rw [p1]
    rcases p_find_cases f2 (V t) nc 0 with ⟨q1, q2⟩ | ⟨j, q1, q2, q3, q4, q5⟩
    · rw [q1]; simp
    · rw [q1, Int.toNat_natCast]
      have := hk (vc0 + j) (by omega) (by omega)
      repeat' split
      all_goals omega
  · rw [p1]
    repeat' split
    all_goals omega
/-- a name that stands twice -/
theorem m_tws_iff (s : Nat) : ∀ (m : Nat) (b : Bool), m_tws V h s m b = true ↔ b = true ∨ ∃ k, k < m ∧ h 263 k = h 263 s ∧ V (h 265 k).toNat = V (h 265 s).toNat
  | 0, b => by unfold m_tws; constructor; exact Or.inl; intro z; rcases z with z | ⟨k, hk, -⟩; exact z; omega
  | m + 1, b => by
    unfold m_tws
    rw [m_tws_iff s m, Bool.or_eq_true, decide_eq_true_iff]
    constructor
    · rintro ((z | z) | ⟨k, k1, k2⟩)
      · exact Or.inl z
      · exact Or.inr ⟨m, by omega, z⟩
      · exact Or.inr ⟨k, by omega, k2⟩
    · rintro (z | ⟨k, k1, k2⟩)
      · exact Or.inl (Or.inl z)
      · by_cases e : k = m
        · subst e; exact Or.inl (Or.inr k2)
        · exact Or.inr ⟨k, by omega, k2⟩
theorem m_twv_iff (v : Nat) : ∀ (m k : Nat) (b : Bool), m_twv V h v m k b = true ↔ b = true ∨ ∃ j, k ≤ j ∧ j < k + m ∧ h 271 j = h 271 v ∧ h 270 j = h 270 v ∧ V (h 273 j).toNat = V (h 273 v).toNat
  | 0, k, b => by unfold m_twv; constructor; exact Or.inl; intro z; rcases z with z | ⟨j, h1, h2, -⟩; exact z; omega
  | m + 1, k, b => by
    unfold m_twv
    rw [m_twv_iff v m (k + 1), Bool.or_eq_true, decide_eq_true_iff]
    constructor
    · rintro ((z | z) | ⟨j, j1, j2, j3⟩)
      · exact Or.inl z
      · exact Or.inr ⟨k, Nat.le_refl _, by omega, z⟩
      · exact Or.inr ⟨j, by omega, by omega, j3⟩
    · rintro (z | ⟨j, j1, j2, j3⟩)
      · exact Or.inl (Or.inl z)
      · by_cases e : j = k
        · subst e; exact Or.inl (Or.inr j3)
        · exact Or.inr ⟨j, by omega, by omega, j3⟩
end
