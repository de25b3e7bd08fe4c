/-! PURE LAYER, 103: the component's second reading beside the model's tables -/
/-- a type, as the component has it -/
def tyc (K V sc : Nat → Int) (cc : Nat → Nat) (b20 : Nat) (h : am_H) (u : Int) : Int := if K u.toNat = 1 then -1 else cm b20 cc (m_cof V sc h u.toNat)
/-- a variable's kind, number and place, as the component has them -/
def kdv (h : am_H) (v : Nat) : Int := if h 272 v = 0 then 3 else if h 272 v = 1 then 4 else if h 272 v = 2 then 1 else 2
def nov (h : am_H) (v : Nat) : Int := if h 272 v = 2 ∧ h 264 (h 271 v).toNat = 3 then h 275 v + 1 else h 275 v
def plv (b15 : Nat) (h : am_H) (v : Nat) : Int := if h 272 v = 0 then (b15 : Int) + h 276 v else nov h v
def vrow (K V sc : Nat → Int) (cc : Nat → Nat) (b20 b15 : Nat) (h c : am_H) (a j v : Nat) : Prop := c a j = V (h 273 v).toNat ∧ c (a + 1) j = kdv h v ∧ c (a + 2) j = plv b15 h v ∧ c (a + 3) j = tyc K V sc cc b20 h (h 274 v) ∧ c (a + 4) j = nov h v
/-- tables of variables -/
def r2c (K V sc : Nat → Int) (cc : Nat → Nat) (b20 b15 : Nat) (h : am_H) (p : pr_S) (n : Int) (c : am_H) : Prop :=
  if p.1 12 = 1 then ∃ vc0 nc : Nat, c 223 5 = (nc : Int) ∧ ((vc0 + nc : Nat) : Int) ≤ n ∧ nc ≤ p.1 1 + p.1 2 ∧ (p.1 9 = 2 → ((vc0 + nc : Nat) : Int) = n) ∧ (∀ v : Nat, (v : Int) < n → (h 271 v = -1 ∧ h 270 v = (p.1 0 : Int) - 1 ↔ vc0 ≤ v ∧ v < vc0 + nc)) ∧ (∀ j, j < nc → vrow K V sc cc b20 b15 h c 224 j (vc0 + j)) ∧ (∀ j, j < nc → h 272 (vc0 + j) = 0 ∨ h 272 (vc0 + j) = 1)
  else ∀ v : Nat, (v : Int) < n → ¬ (h 271 v = -1 ∧ h 270 v = (p.1 0 : Int) - 1)
def r2s (K V sc : Nat → Int) (cc : Nat → Nat) (b20 b15 : Nat) (h : am_H) (p : pr_S) (n : Int) (c : am_H) : Prop :=
  if p.1 13 = 1 then ∃ vs0 ns : Nat, c 229 5 = (ns : Int) ∧ ((vs0 + ns : Nat) : Int) = n ∧ ns ≤ p.1 4 + p.1 5 ∧ (∀ v : Nat, (v : Int) < n → (h 271 v = (p.1 3 : Int) - 1 ↔ vs0 ≤ v ∧ v < vs0 + ns)) ∧ (∀ j, j < ns → vrow K V sc cc b20 b15 h c 230 j (vs0 + j)) ∧ (∀ j, j < ns → h 272 (vs0 + j) = 2 ∨ h 272 (vs0 + j) = 3) ∧ (∀ j, j < ns → h 270 (vs0 + j) = (p.1 0 : Int) - 1)
  else ∀ v : Nat, (v : Int) < n → h 271 v ≠ (p.1 3 : Int) - 1
/-- counters -/
def r2k (b20 b21 b15 : Nat) (h : am_H) (p : pr_S) (s : mi_S) (c : ce_S) : Prop :=
  (c.1 212 17 = (b20 : Int) + (p.1 0 : Int) + (if p.1 9 = 1 then 1 else 0) ∧ (p.1 9 = 1 → c.1 212 13 = (b20 : Int) + (p.1 0 : Int)) ∧ (2 ≤ p.1 9 → 1 ≤ p.1 0 ∧ c.1 212 13 = (b20 : Int) + (p.1 0 : Int) - 1)) ∧
  ((p.1 9 < 4 → c.1 212 16 = (b21 : Int) + (p.1 3 : Int)) ∧ (4 ≤ p.1 9 → 1 ≤ p.1 3 ∧ c.1 212 16 = (b21 : Int) + (p.1 3 : Int) - 1)) ∧
  (c.1 212 15 = (b15 : Int) + (p.1 1 : Int) ∧ (p.1 17 = 1 → c.1 212 14 = s.2.2.1) ∧ (4 ≤ p.1 9 → h 264 (p.1 3 - 1) = s.2.2.1 ∧ h 263 (p.1 3 - 1) = (p.1 0 : Int) - 1)) ∧
  ((p.1 9 = 2 → p.1 12 = 1 → c.2.2.1 = (p.1 2 : Int) ∧ c.2.2.2.1 = s.1 254 60) ∧ (p.1 9 = 2 → p.1 12 = 0 → s.1 254 60 = 0) ∧ (p.1 9 = 4 → p.1 13 = 1 → c.2.2.2.2.1 = (p.1 4 : Int)) ∧ (p.1 9 = 4 → p.1 5 = 0) ∧ (p.1 9 = 5 → c.2.2.2.2.2.1 = (p.1 5 : Int)))
/-- room -/
def r2r (bv bl : Nat) (p : pr_S) (c : ce_S) : Prop :=
  (0 ≤ c.1 8 3 ∧ c.1 8 3 ≤ (bv : Int) + p.2.2.2 4 + 2 * p.1 8) ∧ (0 ≤ c.1 235 3 ∧ c.1 235 3 ≤ (p.2.2.2 5 : Int) + 2 * p.1 8) ∧ (0 ≤ c.1 8 4 ∧ c.1 8 4 ≤ (bl : Int) + p.2.2.2 4) ∧ (0 ≤ c.1 235 4 ∧ (c.1 235 4 ≤ 2 * (p.2.2.2 3 : Int) ∨ p.1 9 < 6 ∧ c.1 235 4 ≤ 100000)) ∧ (c.2.2.2.2.2.2.length = p.2.1.length ∧ p.1 8 ≤ 300 ∧ p.2.2.2 4 ≤ 2100 ∧ p.2.2.2 5 ≤ 2100 ∧ p.2.2.2 3 ≤ 2100)
/-- the class that a call means, its names at tokens i and j -/
def kcE (K V sc : Nat → Int) (h : am_H) (sub : Int) (i j : Nat) : Int := if i = j then 8 + h 263 sub.toNat else if m_var V h sub i = -1 then m_cof V sc h i else if K (h 274 (m_var V h sub i).toNat).toNat = 2 then m_cof V sc h (h 274 (m_var V h sub i).toNat).toNat else -1
/-- calls that are open are known -/
def r2o (K V sc ss : Nat → Int) (h : am_H) (p : pr_S) : Prop := (p.1 9 ≠ 6 → p.2.2.1 = []) ∧ ∀ q ∈ p.2.2.1, kcE K V sc h ((p.1 3 : Int) - 1) q.1.toNat q.2.1.toNat ≠ -1 ∧ m_sof V ss h (kcE K V sc h ((p.1 3 : Int) - 1) q.1.toNat q.2.1.toNat) q.2.1.toNat ≠ -1
def r2 (K P V sc ss : Nat → Int) (cc : Nat → Nat) (b20 b21 b15 bv bl : Nat) (h c0 : am_H) (p : pr_S) (s : mi_S) (c : ce_S) : Prop :=
  ((∀ a, (a = 3 ∨ a = 5 ∨ a = 6 ∨ (213 ≤ a ∧ a ≤ 222)) → c.1 a = c0 a) ∧ (∀ k, 19 ≤ k → c.1 212 k = c0 212 k)) ∧
  r2k b20 b21 b15 h p s c ∧
  ((∀ v : Nat, (v : Int) < s.1 254 25 → h 270 v < (p.1 0 : Int) ∧ h 271 v < (p.1 3 : Int) ∧ (K (h 274 v).toNat = 1 ∨ K (h 274 v).toNat = 2)) ∧ (2 ≤ p.1 9 → r2c K V sc cc b20 b15 h p (s.1 254 25) c.1) ∧ (4 ≤ p.1 9 → r2s K V sc cc b20 b15 h p (s.1 254 25) c.1)) ∧
  ((p.1 11 = 1 → c.2.1 = tyc K V sc cc b20 h s.2.1 ∧ (K s.2.1.toNat = 1 ∨ K s.2.1.toNat = 2)) ∧ nt_ty K P V sc h s.2.1 = [] ∧ (p.1 15 ≠ 0 → vnt P V h ((p.1 3 : Int) - 1) (p.1 15 - 1) = []) ∧ noN K P V sc ss h s.1) ∧
  r2r bv bl p c ∧ r2o K V sc ss h p
section
variable {K P V sc ss : Nat → Int} {cc : Nat → Nat} {b20 b21 b15 bv bl : Nat} {h c0 : am_H} {p p' : pr_S} {s s' : mi_S} {c c' : ce_S}
/-- what an event within a body keeps -/
theorem r2.body (R : r2 K P V sc ss cc b20 b21 b15 bv bl h c0 p s c) (h6 : p.1 9 = 6) (hp : ∀ n, pz n → p'.1 n = p.1 n) (h25 : s'.1 254 25 = s.1 254 25) (hty : s'.2.1 = s.2.1) (hso : s'.2.2.1 = s.2.2.1) (hc : ∀ a, a = 3 ∨ a = 5 ∨ a = 6 ∨ (212 ≤ a ∧ a ≤ 234) → c'.1 a = c.1 a) (hq : q5 c' = q5 c) (h15 : p'.1 15 ≠ 0 → vnt P V h ((p.1 3 : Int) - 1) (p'.1 15 - 1) = []) (hN : noN K P V sc ss h s'.1) (hr : r2r bv bl p' c') (ho : r2o K V sc ss h p') : r2 K P V sc ss cc b20 b21 b15 bv bl h c0 p' s' c' := by
  obtain ⟨⟨f1, f2⟩, k, ⟨v1, v2, v3⟩, ⟨t1, t2, t3, t4⟩, -⟩ := R
  have q := hq
  unfold q5 at q
  injection q with q1 q
  injection q with q2 q
  injection q with q3 q
  injection q with q4 q5'
  refine ⟨⟨fun a ha => (hc a (by omega)).trans (f1 a ha), fun i hi => by rw [hc 212 (by omega)]; exact f2 i hi⟩, ?_, ⟨?_, ?_, ?_⟩, ⟨?_, ?_, ?_, hN⟩, hr, ho⟩
  · unfold r2k at k ⊢
    rw [hp 0 (by decide), hp 1 (by decide), hp 2 (by decide), hp 3 (by decide), hp 4 (by decide), hp 5 (by decide), hp 9 (by decide), hp 12 (by decide), hp 13 (by decide), hp 17 (by decide), hc 212 (by omega), hso, q2, q3, q4, q5']
    obtain ⟨k1, k2, k3, k4, k5, k6, k7, k8⟩ := k
    exact ⟨k1, k2, k3, fun z => by omega, fun z => by omega, k6, k7, k8⟩
  · intro v hv; rw [hp 0 (by decide), hp 3 (by decide)]; exact v1 v (by rw [← h25]; exact hv)
  · intro z
    have := v2 (by omega)
    unfold r2c vrow at this ⊢
    rw [hp 0 (by decide), hp 1 (by decide), hp 2 (by decide), hp 9 (by decide), hp 12 (by decide), h25, hc 223 (by omega), hc 224 (by omega), hc 225 (by omega), hc 226 (by omega), hc 227 (by omega), hc 228 (by omega)]
    exact this
  · intro z
    have := v3 (by omega)
    unfold r2s vrow at this ⊢
    rw [hp 0 (by decide), hp 3 (by decide), hp 4 (by decide), hp 5 (by decide), hp 13 (by decide), h25, hc 229 (by omega), hc 230 (by omega), hc 231 (by omega), hc 232 (by omega), hc 233 (by omega), hc 234 (by omega)]
    exact this
  · rw [hp 11 (by decide), hty, q1]; exact t1
  · rw [hty]; exact t2
  · rw [hp 3 (by decide)]; exact h15
/-- within a body both sides mean the same variables -/
theorem r2.var (R : r2 K P V sc ss cc b20 b21 b15 bv bl h c0 p s c) (h6 : p.1 9 = 6) (Q : pq p) {S : mi_S} (hS : S.1 = h) (L : lt_e p s S) (M : mx s.1 h) (H0 : rt K h) (t : Nat) :
    (∀ x : Nat, V t = V x → (ce_var c.1 (V t) ↔ m_var V h ((p.1 3 : Int) - 1) x ≠ -1)) ∧ (m_var V h ((p.1 3 : Int) - 1) t ≠ -1 → 0 ≤ m_var V h ((p.1 3 : Int) - 1) t ∧ m_var V h ((p.1 3 : Int) - 1) t < s.1 254 25 ∧ ce_kd c.1 (V t) = kdv h (m_var V h ((p.1 3 : Int) - 1) t).toNat ∧ ce_pl c.1 (V t) = plv b15 h (m_var V h ((p.1 3 : Int) - 1) t).toNat ∧ ce_ty c.1 (V t) = tyc K V sc cc b20 h (h 274 (m_var V h ((p.1 3 : Int) - 1) t).toNat) ∧ ce_no c.1 (V t) = nov h (m_var V h ((p.1 3 : Int) - 1) t).toNat ∧ (h 271 (m_var V h ((p.1 3 : Int) - 1) t).toNat = -1 ∧ (h 272 (m_var V h ((p.1 3 : Int) - 1) t).toNat = 0 ∨ h 272 (m_var V h ((p.1 3 : Int) - 1) t).toNat = 1) ∨ h 271 (m_var V h ((p.1 3 : Int) - 1) t).toNat = (p.1 3 : Int) - 1 ∧ (h 272 (m_var V h ((p.1 3 : Int) - 1) t).toNat = 2 ∨ h 272 (m_var V h ((p.1 3 : Int) - 1) t).toNat = 3))) := by
  obtain ⟨⟨f1, f2⟩, ⟨⟨-, -, k1⟩, ⟨-, k2⟩, ⟨-, -, k3⟩, -⟩, ⟨v1, v2, v3⟩, ⟨-, -, -, N⟩, -⟩ := R
  have v2 := v2 (by omega)
  have v3 := v3 (by omega)
  have k1 := k1 (by omega)
  have k2 := k2 (by omega)
  have k3 := k3 (by omega)
  unfold r2c at v2
  unfold r2s at v3
  rw [if_pos (Q.2.2.1 (by omega))] at v2
  rw [if_pos (Q.2.2.2.1 (by omega))] at v3
  obtain ⟨vc0, nc, a1, a2, a3, -, a5, a6, a7⟩ := v2
  obtain ⟨vs0, ns, b1, b2, b3, b5, b6, b7, b8⟩ := v3
  have M25 := M.1 25 (by unfold mx_k; omega)
  have P25 : 0 ≤ s.1 254 25 := by omega
  obtain ⟨n, hn⟩ : ∃ n : Nat, h 254 25 = (n : Int) := ⟨(h 254 25).toNat, by omega⟩
  have l3 := L.2.2.1
  rw [hS] at l3
  have sub1 : ((p.1 3 : Int) - 1).toNat = p.1 3 - 1 := by omega
  have e := m_var_tab (V := V) (h := h) (t := t) (sub := (p.1 3 : Int) - 1) (n := n) (vc0 := vc0) (nc := nc) (vs0 := vs0) (ns := ns) hn (fun v hv => ?_) (fun v hv => ?_) (fun v w1 w2 => ?_) (fun u v w1 w2 w3 w4 w5 => ?_) (by omega) (by omega) (f1 := c.1 230) (f2 := c.1 224) (fun j hj => (b6 j hj).1) (fun j hj => (a6 j hj).1)
  · have hvs : ce_vs c.1 (V t) = p_find (c.1 230) (V t) ns 0 := by unfold ce_vs; rw [b1, Int.toNat_natCast]
    have hvc : ce_vc c.1 (V t) = p_find (c.1 224) (V t) nc 0 := by unfold ce_vc; rw [a1, Int.toNat_natCast]
    have r1 := p_find_rg (c.1 230) (V t) ns 0
    have r2' := p_find_rg (c.1 224) (V t) nc 0
    constructor
    · intro x hx
      have ex : m_var V h ((p.1 3 : Int) - 1) x = m_var V h ((p.1 3 : Int) - 1) t := by
        have key : ∀ (m : Nat) (o f y : Int), m_varf V h ((p.1 3 : Int) - 1) x m o f y = m_varf V h ((p.1 3 : Int) - 1) t m o f y := by
          intro m
          induction m with
          | zero => intro o f y; rfl
          | succ m ih => intro o f y; unfold m_varf; rw [hx]; simp only [ih]
        exact key _ _ _ _
      rw [ex, e]
      unfold ce_var
      rw [hvs, hvc]
      by_cases q1 : p_find (c.1 230) (V t) ns 0 = -1
      · by_cases q2 : p_find (c.1 224) (V t) nc 0 = -1
        · rw [q1, q2]; simp
        · rw [if_pos q1, if_neg q2]; constructor
          · intro _; omega
          · intro _; exact Or.inr q2
      · rw [if_neg q1]; constructor
        · intro _; omega
        · intro _; exact Or.inl q1
    · intro hne
      unfold ce_kd ce_pl ce_ty ce_no
      rw [hvs, hvc]
      by_cases q1 : p_find (c.1 230) (V t) ns 0 = -1
      · by_cases q2 : p_find (c.1 224) (V t) nc 0 = -1
        · rw [e, if_pos q1, if_pos q2] at hne; exact absurd rfl hne
        · rw [e, if_pos q1, if_neg q2]
          obtain ⟨j, hj, hj2⟩ : ∃ j : Nat, p_find (c.1 224) (V t) nc 0 = (j : Int) ∧ j < nc := ⟨(p_find (c.1 224) (V t) nc 0).toNat, by omega, by omega⟩
          rw [hj, q1, show ((vc0 : Int) + (j : Int)).toNat = vc0 + j by omega, Int.toNat_natCast]
          obtain ⟨-, w2, w3, w4, w5⟩ := a6 j hj2
          refine ⟨by omega, by omega, ?_, ?_, ?_, ?_, Or.inl ⟨((a5 (vc0 + j) (by omega)).2 ⟨by omega, by omega⟩).1, a7 j hj2⟩⟩
          · rw [if_neg (by simp)]; exact w2
          · rw [if_neg (by simp)]; exact w3
          · rw [if_neg (by simp)]; exact w4
          · rw [if_neg (by simp)]; exact w5
      · rw [e, if_neg q1]
        obtain ⟨j, hj, hj2⟩ : ∃ j : Nat, p_find (c.1 230) (V t) ns 0 = (j : Int) ∧ j < ns := ⟨(p_find (c.1 230) (V t) ns 0).toNat, by omega, by omega⟩
        rw [hj, show ((vs0 : Int) + (j : Int)).toNat = vs0 + j by omega, Int.toNat_natCast]
        obtain ⟨-, w2, w3, w4, w5⟩ := b6 j hj2
        refine ⟨by omega, by omega, ?_, ?_, ?_, ?_, Or.inr ⟨(b5 (vs0 + j) (by omega)).2 ⟨by omega, by omega⟩, b7 j hj2⟩⟩
        · rw [if_pos (by omega)]; exact w2
        · rw [if_pos (by omega)]; exact w3
        · rw [if_pos (by omega)]; exact w4
        · rw [if_pos (by omega)]; exact w5
  · by_cases cv : (v : Int) < s.1 254 25
    · exact b5 v cv
    · have := (l3 v (by omega) (by omega)).2.2
      constructor
      · intro z; exfalso; omega
      · intro z; exfalso; omega
  · rw [sub1, k3.2]
    by_cases cv : (v : Int) < s.1 254 25
    · exact a5 v cv
    · have := (l3 v (by omega) (by omega)).2.2
      constructor
      · intro z; exfalso; omega
      · intro z; exfalso; omega
  · have := a7 (v - vc0) (by omega)
    rw [show vc0 + (v - vc0) = v by omega] at this
    exact this
  · -- names of a class's variables differ
    have key : ∀ u v : Nat, vc0 ≤ u → u < v → v < vc0 + nc → V (h 273 u).toNat = V (h 273 v).toNat → False := by
      intro u v z1 z2 z3 z4
      have nv := N.2.2.1 v (by omega)
      unfold nt_v at nv
      have tw : m_twv V h v v 0 false = true := by
        rw [m_twv_iff]
        refine Or.inr ⟨u, by omega, by omega, ?_, ?_, z4⟩
        · rw [((a5 u (by omega)).2 ⟨by omega, by omega⟩).1, ((a5 v (by omega)).2 ⟨by omega, by omega⟩).1]
        · rw [((a5 u (by omega)).2 ⟨by omega, by omega⟩).2, ((a5 v (by omega)).2 ⟨by omega, by omega⟩).2]
      rw [if_pos tw] at nv
      cases nv
    by_cases uv : u < v
    · exact (key u v w1 uv w4 w5).elim
    · by_cases vu : v < u
      · exact (key v u w3 vu w2 w5.symm).elim
      · omega
end
