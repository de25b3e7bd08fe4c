/-! PURE LAYER, 107: events within bodies, second reading -/
/-- lines and commands behind what stood there -/
def XP (vs ls : List (Int × Int × Int)) (g g' : am_H) : Prop :=
  (g' 8 3 = g 8 3 + vs.length ∧ g' 235 3 = g 235 3 + ls.length) ∧
  (∀ k : Nat, (k : Int) < g 8 3 → g' 9 k = g 9 k ∧ g' 10 k = g 10 k ∧ g' 11 k = g 11 k) ∧
  (∀ k : Nat, (k : Int) < g 235 3 → g' 236 k = g 236 k ∧ g' 237 k = g 237 k ∧ g' 238 k = g 238 k) ∧
  (∀ j v, vs[j]? = some v → g' 9 ((g 8 3).toNat + j) = v.1 ∧ g' 10 ((g 8 3).toNat + j) = am_s16 v.2.1 ∧ g' 11 ((g 8 3).toNat + j) = am_s16 v.2.2) ∧
  (∀ j v, ls[j]? = some v → g' 236 ((g 235 3).toNat + j) = v.1 ∧ g' 237 ((g 235 3).toNat + j) = am_s16 v.2.1 ∧ g' 238 ((g 235 3).toNat + j) = am_s16 v.2.2)
theorem AP.xp {vs ls : List (Int × Int × Int)} {g g' : am_H} (A : AP vs ls g g') : XP vs ls g g' := A.2.2
def CO (o : List (Int × Int × Int) × List (Int × Int × Int) × List (Int × Int × Int × Int) × Int × Int) (c c' : ce_S) : Prop := XP o.1 o.2.1 c.1 c'.1 ∧ c'.2.2.2.2.2.2 = o.2.2.1 ∧ c'.1 8 4 = o.2.2.2.1 ∧ c'.1 235 4 = o.2.2.2.2
/-- a sub of the system, by the numbers of its names -/
def sysS (c0 : am_H) (a b : Nat) : Int := ce_sub c0 (ce_cls c0 (c0 212 a)) (c0 212 b)
def hd4 (st : List (Int × Int × Int × Int)) : Int × Int × Int × Int := st.headD (0, 0, 0, 0)
/-- what the second reading puts behind at an event: lines, commands, labels of open statements, counts of labels -/
def oE (K P V sc ss : Nat → Int) (cs : Nat → Nat) (b21 b15 : Nat) (h c0 : am_H) (e : gx_V) (p : pr_S) (l t : Int) (st : List (Int × Int × Int × Int)) : List (Int × Int × Int) × List (Int × Int × Int) × List (Int × Int × Int × Int) × Int × Int :=
  let sub := (p.1 3 : Int) - 1
  let i := e.2.1.toNat
  let j := e.2.2.1.toNat
  let v := m_var V h sub i
  match e.1 with
  | 1 => ([(0, 0, e.2.1)], [(0, 0, e.2.1)], st, l, t)
  | 2 => ([(0, 0, 0), (7, 0, 0)], [(0, 0, 0), (7, 0, 0)], st, l, t)
  | 3 => ([(0, 0, 0)], [(0, 0, 0)], st, l, t)
  | 4 => ([(0, 4, 0)], [(0, 6, 0)], st, l, t)
  | 5 => ((0, 0, V i) :: (15, sysS c0 30 31, 1) :: chE c0 (sysS c0 30 32) (P i + 1).toNat false (V i).toNat 0, (0, 0, V i) :: (15, c0 222 (sysS c0 30 31).toNat, 1) :: chE c0 (sysS c0 30 32) (P i + 1).toNat true (V i).toNat 0, st, l, t)
  | 6 => (ldk (kdv h v.toNat) (plv b15 h v.toNat), [(0, ce_lseg (kdv h v.toNat), nov h v.toNat)], st, l, t)
  | 7 => ([(2, 0, 0), (17, 1, 0)], [(2, 0, 0), (1, 6, 1), (0, 5, 0)], st, l, t)
  | 8 => (opE c0 e.2.1 false, opE c0 e.2.1 true, st, l, t)
  | 9 => ([(4, 0, 0)], [(4, 0, 0)], st, l, t)
  | 10 => ([(7, 0, 0)], [(7, 0, 0)], st, l, t)
  | 11 => if i = j then ([(0, 4, 0)], [(0, 6, 0)], st, l, t) else if v = -1 then ([], [], st, l, t) else (ldk (kdv h v.toNat) (plv b15 h v.toNat), [(0, ce_lseg (kdv h v.toNat), nov h v.toNat)], st, l, t)
  | 12 => ([(15, sm b21 cs (kcE K V sc h sub i j) (m_sof V ss h (kcE K V sc h sub i j) j), if i = j ∨ v ≠ -1 then e.2.2.2 + 1 else e.2.2.2)], [(15, c0 222 (sm b21 cs (kcE K V sc h sub i j) (m_sof V ss h (kcE K V sc h sub i j) j)).toNat, if i = j ∨ v ≠ -1 then e.2.2.2 + 1 else e.2.2.2)], st, l, t)
  | 20 => ([(20, P i, 0)], [], st, l, t)
  | 22 => (stk (kdv h v.toNat) (plv b15 h v.toNat), [(1, ce_lseg (kdv h v.toNat), nov h v.toNat)], st, l, t)
  | 23 => ([(1, 5, 0), (18, 1, 0)], [(1, 7, 0), (1, 6, 1), (0, 7, 0), (1, 5, 0)], st, l, t)
  | 24 => ([], [], (t, 0, 0, 0) :: st, l, t + 2)
  | 25 => ([(13, l, 0), (12, l + 1, 0), (11, l, 0)], [(0, 0, 0), (8, 0, 0), (13, (hd4 st).1, 0)], ((hd4 st).1, l + 1, 0, 0) :: st.tail, l + 2, t)
  | 26 => ([(12, l, 0), (11, (hd4 st).2.1, 0)], [(12, (hd4 st).1 + 1, 0), (11, (hd4 st).1, 0)], ((hd4 st).1, (hd4 st).2.1, l, 0) :: st.tail, l + 1, t)
  | 27 => ([(11, (hd4 st).2.1, 0)], [(11, (hd4 st).1, 0)], st.tail, l, t)
  | 28 => ([(11, (hd4 st).2.2.1, 0)], [(11, (hd4 st).1 + 1, 0)], st.tail, l, t)
  | 30 => ([(11, l, 0), (20, P i, 0)], [(11, t, 0)], (t, l, l + 1, 0) :: st, l + 2, t + 2)
  | 31 => ([(13, l, 0), (12, (hd4 st).2.2.1, 0), (11, l, 0)], [(0, 0, 0), (8, 0, 0), (13, (hd4 st).1 + 1, 0)], st, l + 1, t)
  | 32 => ([(12, (hd4 st).2.1, 0), (11, (hd4 st).2.2.1, 0)], [(12, (hd4 st).1, 0), (11, (hd4 st).1 + 1, 0)], st.tail, l, t)
  | 33 => ([(16, 0, 0)], [(16, 0, 0)], st, l, t)
  | 34 => ([(1, 5, 0)], [(1, 7, 0)], st, l, t)
  | 48 => ((14, (b21 : Int) + sub, (p.1 5 : Int)) :: (if h 264 sub.toNat = 3 then [(0, 1, 0), (1, 4, 0)] else if h 264 sub.toNat = 1 then [(0, 0, if h 262 (p.1 0 - 1) ≤ 1 then 1 else h 262 (p.1 0 - 1)), (15, sysS c0 28 29, 1), (1, 4, 0)] else []),
      (14, c0 222 ((b21 : Int) + sub).toNat, (p.1 5 : Int)) :: (if h 264 sub.toNat = 3 then [(0, 1, 0), (1, 6, 0)] else if h 264 sub.toNat = 1 then [(0, 0, if h 262 (p.1 0 - 1) ≤ 1 then 1 else h 262 (p.1 0 - 1)), (15, c0 222 (sysS c0 28 29).toNat, 1), (1, 6, 0)] else []), st, l, 0)
  | 49 => ([(0, 0, 0), (16, 0, 0)], [(0, 0, 0), (16, 0, 0)], st, l, t)
  | _ => ([], [], st, l, t)
/-- subs of the system that the compiler calls -/
def SKn (c0 : am_H) : Prop := sysS c0 28 29 ≠ -1 ∧ sysS c0 30 31 ≠ -1 ∧ sysS c0 30 32 ≠ -1 ∧ sysS c0 33 34 ≠ -1 ∧ sysS c0 33 35 ≠ -1
/-- weights -/
theorem pr_wt {w : Nat → Nat → Nat} {K V : Nat → Int} {e : gx_V} {p p' : pr_S} (h : pr w K V e p = .inr p') : ∀ k, p'.2.2.2 k = p.2.2.2 k + w k e.1 := by
  obtain ⟨n, x, y, z⟩ := e
  unfold pr at h
  split at h
  all_goals first
    | (cases h; done)
    | (rename_i hn; have hn : n = _ := hn; subst hn)
  all_goals first
    | (obtain ⟨-, -, hp⟩ := pr_q_in h; intro k; rw [hp]; done)
    | (cases hq : p.2.2.1 with
      | nil => rw [hq] at h; cases h
      | cons q l => rw [hq] at h; obtain ⟨-, -, hp⟩ := pr_q_in h; intro k; rw [hp])
theorem pw2_0 : ∀ n, n < 35 → pw 2 n = 0 := by decide
section
variable {K K' P V sc ss n6 : Nat → Int} {cc cs : Nat → Nat} {b20 b21 b15 bv bl n0 n3 : Nat} {h c0 : am_H} {p p' : pr_S} {s s' S : mi_S} {c : ce_S} {e : gx_V}
/-- outcomes of the second reading at an event: it goes on, or it ends with the least note -/
def c2o (K K' P V sc ss : Nat → Int) (cc cs : Nat → Nat) (b20 b21 b15 bv bl : Nat) (h c0 : am_H) (e : gx_V) (p p' : pr_S) (s s' : mi_S) (c : ce_S) : Prop :=
  (∃ c', ce true false K V P e c = .inr c' ∧ r2 K' P V sc ss cc b20 b21 b15 bv bl h c0 p' s' c' ∧ CO (oE K' P V sc ss cs b21 b15 h c0 e p (c.1 8 4) (c.1 235 4) c.2.2.2.2.2.2) c c') ∨
  (∃ x, ce true false K V P e c = .inl x ∧ isN K' P V sc ss h s.1 x ∧ ∀ q, isN K' P V sc ss h s.1 q → nle x q)
theorem nle_refl (x : Int × Int) : nle x x := Or.inr ⟨rfl, Int.le_refl _⟩
/-- a fault that is the least note -/
theorem c2_fault {l : List (Int × Int)} (B : BN K' P V sc ss h s.1 s'.1 l) (M : mx s'.1 h) (hS : S.1 = h) (L' : lt_e p' s' S) (tp : tkP K' P) (H0 : rt K' h) {x : Int × Int} (hx : x ∈ l ∨ isN K' P V sc ss h s'.1 x) (hl : ∀ q ∈ l, nle x q) {t : Nat} (hxt : x.2 = P t) (ht : t < p'.1 10) (hty : ∀ q ∈ nt_ty K' P V sc h s'.2.1, nle x q) (hlet : p'.1 15 ≠ 0 → ∀ q ∈ vnt P V h ((p'.1 3 : Int) - 1) (p'.1 15 - 1), nle x q) : isN K' P V sc ss h s.1 x ∧ ∀ q, isN K' P V sc ss h s.1 q → nle x q := by
  refine ⟨(B.is M.1 x).2 hx, fun q hq => ?_⟩
  rcases (B.is M.1 q).1 hq with hq | hq
  · exact hl q hq
  · rcases later_or hS L' tp H0 hq ht with z | ⟨z1, z2⟩ | z
    · exact hty q z
    · exact hlet z1 q z2
    · exact Or.inl (by rw [hxt]; exact z)
theorem vnt_one {sub : Int} {t : Nat} {q r : Int × Int} (hq : q ∈ vnt P V h sub t) (hr : r ∈ vnt P V h sub t) : q = r := by
  unfold vnt nt_cv at hq hr
  by_cases c1 : m_var V h sub t = -1
  · rw [if_pos c1, if_neg (fun z => z.1 c1)] at hq hr
    rw [List.append_nil, List.mem_singleton] at hq hr
    rw [hq, hr]
  · rw [if_neg c1, List.nil_append] at hq hr
    split at hq
    · rename_i c2
      rw [if_pos c2] at hr
      rw [List.mem_singleton] at hq hr
      rw [hq, hr]
    · cases hq
/-- the variable of a name: found, and no field within a function; else one note -/
theorem vnt_cases {sub : Int} {t : Nat} : (m_var V h sub t = -1 ∧ vnt P V h sub t = [(4, P t)]) ∨ (m_var V h sub t ≠ -1 ∧ (h 271 (m_var V h sub t).toNat = -1 ∧ h 272 (m_var V h sub t).toNat = 1 ∧ h 264 sub.toNat = 2) ∧ vnt P V h sub t = [(6, P t)]) ∨ (m_var V h sub t ≠ -1 ∧ ¬ (h 271 (m_var V h sub t).toNat = -1 ∧ h 272 (m_var V h sub t).toNat = 1 ∧ h 264 sub.toNat = 2) ∧ vnt P V h sub t = []) := by
  unfold vnt nt_cv
  by_cases c1 : m_var V h sub t = -1
  · left; rw [if_pos c1, if_neg (fun z => z.1 c1)]; exact ⟨c1, rfl⟩
  · right
    by_cases c2 : h 271 (m_var V h sub t).toNat = -1 ∧ h 272 (m_var V h sub t).toNat = 1 ∧ h 264 sub.toNat = 2
    · left; rw [if_neg c1, if_pos ⟨c1, c2⟩]; exact ⟨c1, c2, rfl⟩
    · right; rw [if_neg c1, if_neg (fun z => c2 z.2)]; exact ⟨c1, c2, rfl⟩
theorem kdv_4 {v : Nat} : kdv h v = 4 ↔ h 272 v = 1 := by
  unfold kdv
  by_cases c0 : h 272 v = 0
  · rw [if_pos c0, c0]; decide
  · rw [if_neg c0]
    by_cases c1 : h 272 v = 1
    · rw [if_pos c1, c1]; decide
    · rw [if_neg c1]
      by_cases c2 : h 272 v = 2
      · rw [if_pos c2, c2]; decide
      · rw [if_neg c2]; constructor
        · intro z; cases z
        · intro z; exact absurd z c1
theorem ce_labq_t {g : am_H} (hl : g 8 4 < 100000) : ce_labq true g = .inr (g 8 4, am_up g 8 4 (g 8 4 + 1)) := by
  unfold ce_labq ce_q
  rw [if_pos rfl, if_pos hl]
theorem EM.unless {g : am_H} {l : Int} (hc : cap g 0 3) : EM [] [(0, 0, 0), (8, 0, 0), (13, l, 0)] g (ce_unless true false l g) := by
  unfold ce_unless
  exact EM.l (n := 0) (m := 2) hc (fun g1 A1 hc1 => EM.l (n := 0) (m := 1) hc1 (fun g2 A2 hc2 => EM.l1 hc2))
end
