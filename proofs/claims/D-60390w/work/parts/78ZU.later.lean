/-! PURE LAYER, 100: notes of entries that come later stand behind -/
/-- notes of a variable's use -/
def vnt (P V : Nat → Int) (h : am_H) (sub : Int) (t : Nat) : List (Int × Int) := (if m_var V h sub t = -1 then [(4, P t)] else []) ++ nt_cv P h sub (m_var V h sub t) t
/-- a note of an entry that is not among the first ones of the tables -/
def isN (K P V sc ss : Nat → Int) (h g : am_H) (q : Int × Int) : Prop :=
  (∃ k : Nat, g 254 14 ≤ k ∧ k < h 254 14 ∧ q ∈ nt_c P V sc h k) ∨ (∃ k : Nat, g 254 17 ≤ k ∧ k < h 254 17 ∧ q ∈ nt_s K P V sc h k) ∨ (∃ k : Nat, g 254 25 ≤ k ∧ k < h 254 25 ∧ q ∈ nt_v K P V sc h k) ∨ (∃ k : Nat, g 254 33 ≤ k ∧ k < h 254 33 ∧ q ∈ nt_i P V h k) ∨ (∃ k : Nat, g 254 39 ≤ k ∧ k < h 254 39 ∧ q ∈ nt_k K P V sc ss h k)
/-- no note -/
def noN (K P V sc ss : Nat → Int) (h g : am_H) : Prop :=
  (∀ k : Nat, (k : Int) < g 254 14 → nt_c P V sc h k = []) ∧ (∀ k : Nat, (k : Int) < g 254 17 → nt_s K P V sc h k = []) ∧ (∀ k : Nat, (k : Int) < g 254 25 → nt_v K P V sc h k = []) ∧ (∀ k : Nat, (k : Int) < g 254 33 → nt_i P V h k = []) ∧ (∀ k : Nat, (k : Int) < g 254 39 → nt_k K P V sc ss h k = [])
section
variable {K P V sc ss : Nat → Int} {h : am_H}
theorem nt_cs_mem {q : Int × Int} : ∀ (m c : Nat), q ∈ nt_cs P V sc h m c ↔ ∃ k, c ≤ k ∧ k < c + m ∧ q ∈ nt_c P V sc h k
  | 0, c => ⟨fun z => (by cases z), fun ⟨k, h1, h2, _⟩ => (by omega)⟩
  | m + 1, c => by
    unfold nt_cs
    rw [List.mem_append, nt_cs_mem m (c + 1)]
    constructor
    · rintro (z | ⟨k, h1, h2, h3⟩)
      · exact ⟨c, Nat.le_refl _, by omega, z⟩
      · exact ⟨k, by omega, by omega, h3⟩
    · rintro ⟨k, h1, h2, h3⟩
      by_cases e : k = c
      · subst e; exact Or.inl h3
      · exact Or.inr ⟨k, by omega, by omega, h3⟩
theorem nt_ss_mem {q : Int × Int} : ∀ (m c : Nat), q ∈ nt_ss K P V sc h m c ↔ ∃ k, c ≤ k ∧ k < c + m ∧ q ∈ nt_s K P V sc h k
  | 0, c => ⟨fun z => (by cases z), fun ⟨k, h1, h2, _⟩ => (by omega)⟩
  | m + 1, c => by
    unfold nt_ss
    rw [List.mem_append, nt_ss_mem m (c + 1)]
    constructor
    · rintro (z | ⟨k, h1, h2, h3⟩)
      · exact ⟨c, Nat.le_refl _, by omega, z⟩
      · exact ⟨k, by omega, by omega, h3⟩
    · rintro ⟨k, h1, h2, h3⟩
      by_cases e : k = c
      · subst e; exact Or.inl h3
      · exact Or.inr ⟨k, by omega, by omega, h3⟩
theorem nt_vs_mem {q : Int × Int} : ∀ (m c : Nat), q ∈ nt_vs K P V sc h m c ↔ ∃ k, c ≤ k ∧ k < c + m ∧ q ∈ nt_v K P V sc h k
  | 0, c => ⟨fun z => (by cases z), fun ⟨k, h1, h2, _⟩ => (by omega)⟩
  | m + 1, c => by
    unfold nt_vs
    rw [List.mem_append, nt_vs_mem m (c + 1)]
    constructor
    · rintro (z | ⟨k, h1, h2, h3⟩)
      · exact ⟨c, Nat.le_refl _, by omega, z⟩
      · exact ⟨k, by omega, by omega, h3⟩
    · rintro ⟨k, h1, h2, h3⟩
      by_cases e : k = c
      · subst e; exact Or.inl h3
      · exact Or.inr ⟨k, by omega, by omega, h3⟩
theorem nt_is_mem {q : Int × Int} : ∀ (m c : Nat), q ∈ nt_is P V h m c ↔ ∃ k, c ≤ k ∧ k < c + m ∧ q ∈ nt_i P V h k
  | 0, c => ⟨fun z => (by cases z), fun ⟨k, h1, h2, _⟩ => (by omega)⟩
  | m + 1, c => by
    unfold nt_is
    rw [List.mem_append, nt_is_mem m (c + 1)]
    constructor
    · rintro (z | ⟨k, h1, h2, h3⟩)
      · exact ⟨c, Nat.le_refl _, by omega, z⟩
      · exact ⟨k, by omega, by omega, h3⟩
    · rintro ⟨k, h1, h2, h3⟩
      by_cases e : k = c
      · subst e; exact Or.inl h3
      · exact Or.inr ⟨k, by omega, by omega, h3⟩
theorem nt_ks_mem {q : Int × Int} : ∀ (m c : Nat), q ∈ nt_ks K P V sc ss h m c ↔ ∃ k, c ≤ k ∧ k < c + m ∧ q ∈ nt_k K P V sc ss h k
  | 0, c => ⟨fun z => (by cases z), fun ⟨k, h1, h2, _⟩ => (by omega)⟩
  | m + 1, c => by
    unfold nt_ks
    rw [List.mem_append, nt_ks_mem m (c + 1)]
    constructor
    · rintro (z | ⟨k, h1, h2, h3⟩)
      · exact ⟨c, Nat.le_refl _, by omega, z⟩
      · exact ⟨k, by omega, by omega, h3⟩
    · rintro ⟨k, h1, h2, h3⟩
      by_cases e : k = c
      · subst e; exact Or.inl h3
      · exact Or.inr ⟨k, by omega, by omega, h3⟩
/-- all notes: those of entries below and above -/
theorem ml_n_mem {g : am_H} (N : noN K P V sc ss h g) (hc : ∀ c, mx_k c → 0 ≤ h 254 c) (q : Int × Int) : q ∈ ml_n K P V sc ss h ↔ isN K P V sc ss h g q := by
  obtain ⟨n1, n2, n3, n4, n5⟩ := N
  have c1 := hc 14 (by unfold mx_k; omega)
  have c2 := hc 17 (by unfold mx_k; omega)
  have c3 := hc 25 (by unfold mx_k; omega)
  have c4 := hc 33 (by unfold mx_k; omega)
  have c5 := hc 39 (by unfold mx_k; omega)
  unfold ml_n isN
  rw [List.mem_append, List.mem_append, List.mem_append, List.mem_append, nt_cs_mem, nt_ss_mem, nt_vs_mem, nt_is_mem, nt_ks_mem]
  constructor
  · rintro ((⟨k, h1, h2, h3⟩ | ⟨k, h1, h2, h3⟩ | ⟨k, h1, h2, h3⟩) | ⟨k, h1, h2, h3⟩ | ⟨k, h1, h2, h3⟩)
    · by_cases e : (k : Int) < g 254 14
      · rw [n1 k e] at h3; cases h3
      · exact Or.inl ⟨k, by omega, by omega, h3⟩
    · by_cases e : (k : Int) < g 254 17
      · rw [n2 k e] at h3; cases h3
      · exact Or.inr (Or.inl ⟨k, by omega, by omega, h3⟩)
    · by_cases e : (k : Int) < g 254 25
      · rw [n3 k e] at h3; cases h3
      · exact Or.inr (Or.inr (Or.inl ⟨k, by omega, by omega, h3⟩))
    · by_cases e : (k : Int) < g 254 33
      · rw [n4 k e] at h3; cases h3
      · exact Or.inr (Or.inr (Or.inr (Or.inl ⟨k, by omega, by omega, h3⟩)))
    · by_cases e : (k : Int) < g 254 39
      · rw [n5 k e] at h3; cases h3
      · exact Or.inr (Or.inr (Or.inr (Or.inr ⟨k, by omega, by omega, h3⟩)))
  · rintro (⟨k, h1, h2, h3⟩ | ⟨k, h1, h2, h3⟩ | ⟨k, h1, h2, h3⟩ | ⟨k, h1, h2, h3⟩ | ⟨k, h1, h2, h3⟩)
    · exact Or.inl (Or.inl ⟨k, by omega, by omega, h3⟩)
    · exact Or.inl (Or.inr (Or.inl ⟨k, by omega, by omega, h3⟩))
    · exact Or.inl (Or.inr (Or.inr ⟨k, by omega, by omega, h3⟩))
    · exact Or.inr (Or.inl ⟨k, by omega, by omega, h3⟩)
    · exact Or.inr (Or.inr ⟨k, by omega, by omega, h3⟩)
/-- places of notes -/
theorem nt_ty_at {x : Int} {q : Int × Int} (z : q ∈ nt_ty K P V sc h x) : x ≠ -1 ∧ K x.toNat = 2 ∧ q = (4, P x.toNat) := by
  unfold nt_ty at z
  split at z
  · rename_i c; exact ⟨c.1, c.2.1, List.mem_singleton.1 z⟩
  · cases z
theorem vnt_at {sub : Int} {t : Nat} {q : Int × Int} (z : q ∈ vnt P V h sub t) : q.2 = P t ∧ (q.1 = 4 ∨ q.1 = 6) := by
  unfold vnt nt_cv at z
  rcases List.mem_append.1 z with z | z
  · split at z
    · rw [List.mem_singleton.1 z]; exact ⟨rfl, Or.inl rfl⟩
    · cases z
  · split at z
    · rw [List.mem_singleton.1 z]; exact ⟨rfl, Or.inr rfl⟩
    · cases z
theorem nt_c_at {k : Nat} {q : Int × Int} (z : q ∈ nt_c P V sc h k) : q = (3, P (h 261 k).toNat) := by
  unfold nt_c at z
  split at z
  · exact List.mem_singleton.1 z
  · cases z
theorem nt_s_at {k : Nat} {q : Int × Int} (z : q ∈ nt_s K P V sc h k) : q = (3, P (h 265 k).toNat) ∨ q ∈ nt_ty K P V sc h (h 266 k) := by
  unfold nt_s at z
  rcases List.mem_append.1 z with z | z
  · split at z
    · exact Or.inl (List.mem_singleton.1 z)
    · cases z
  · exact Or.inr z
theorem nt_v_at {k : Nat} {q : Int × Int} (z : q ∈ nt_v K P V sc h k) : q = (3, P (h 273 k).toNat) ∨ q ∈ nt_ty K P V sc h (h 274 k) := by
  unfold nt_v at z
  rcases List.mem_append.1 z with z | z
  · split at z
    · exact Or.inl (List.mem_singleton.1 z)
    · cases z
  · exact Or.inr z
theorem nt_i_at {k : Nat} {q : Int × Int} (z : q ∈ nt_i P V h k) : (h 277 k = 3 ∧ q = (6, P (h 280 k).toNat)) ∨ ((h 277 k = 4 ∨ h 277 k = 13) ∧ q ∈ vnt P V h (h 281 k) (h 280 k).toNat) := by
  unfold nt_i at z
  split at z
  · rename_i c
    split at z
    · exact Or.inl ⟨c, List.mem_singleton.1 z⟩
    · cases z
  · split at z
    · rename_i c; exact Or.inr ⟨c, z⟩
    · cases z
theorem nt_k_at {k : Nat} {q : Int × Int} (hk : 0 ≤ h 263 (h 289 k).toNat) (z : q ∈ nt_k K P V sc ss h k) : q.2 = P (h 283 k).toNat ∨ (h 282 k ≠ -1 ∧ q.2 = P (h 282 k).toNat) := by
  unfold nt_k at z
  rcases List.mem_append.1 z with z | z
  · split at z
    · cases z
    · rename_i c
      unfold nt_cv at z
      split at z
      · rw [List.mem_singleton.1 z]; exact Or.inr ⟨c, rfl⟩
      · cases z
  · split at z
    · rename_i c
      rw [List.mem_singleton.1 z]
      by_cases c2 : h 282 k = -1
      · by_cases c3 : m_var V h (h 289 k) (h 282 k).toNat = -1
        · exfalso
          unfold m_kc at c
          rw [if_pos c2] at c
          omega
        · left; show P (if _ then _ else _) = _; rw [if_neg c3]
      · by_cases c3 : m_var V h (h 289 k) (h 282 k).toNat = -1
        · right; exact ⟨c2, by show P (if _ then _ else _) = _; rw [if_pos c3]⟩
        · left; show P (if _ then _ else _) = _; rw [if_neg c3]
    · unfold nt_k2 at z
      left
      split at z
      · rw [List.mem_singleton.1 z]
      · rcases List.mem_append.1 z with z | z
        · repeat' split at z
          all_goals first
            | (cases z; done)
            | (rw [List.mem_singleton.1 z])
        · split at z
          · rw [List.mem_singleton.1 z]
          · cases z
/-- places of tokens grow -/
def tkP (K' P : Nat → Int) : Prop := ∀ i j, i < j → j < 1000 → K' j ≠ 0 → P i < P j
theorem later_gt {K' : Nat → Int} {p1 : pr_S} {s1 : mi_S} {S : mi_S} (hS : S.1 = h) (L : lt_e p1 s1 S) (T : tkP K' P) (R : rt K' h) (hty : nt_ty K P V sc h s1.2.1 = []) (hlet : p1.1 15 ≠ 0 → vnt P V h ((p1.1 3 : Int) - 1) (p1.1 15 - 1) = []) (hmo : mx s1.1 h) {q : Int × Int} (N : isN K P V sc ss h s1.1 q) {x0 : Nat} (hx : x0 < p1.1 10) : P x0 < q.2 := by
  obtain ⟨l1, l2, l3, l4, l5⟩ := L
  rw [hS] at l1 l2 l3 l4 l5
  obtain ⟨⟨r1, r2⟩, ⟨r3, r4⟩, ⟨r5, r6⟩, ⟨r7, r8⟩, r9, r10⟩ := R
  -- a token from p1's on
  have tok : ∀ t : Nat, (p1.1 10 : Int) ≤ t → t < 1000 → K' t ≠ 0 → P x0 < P t := fun t h1 h2 h3 => T x0 t (by omega) h2 h3
  have ty : ∀ x : Int, (x = s1.2.1 ∨ x = -1 ∨ (p1.1 10 : Int) ≤ x) → (x = -1 ∨ ∃ u : Nat, x = u ∧ u < 1000 ∧ K' u ≠ 0) → q ∈ nt_ty K P V sc h x → P x0 < q.2 := by
    intro x hx1 hx2 z
    obtain ⟨z1, z2, z3⟩ := nt_ty_at z
    rcases hx1 with e | e | e
    · rw [e, hty] at z; cases z
    · exact absurd e z1
    · rcases hx2 with e2 | ⟨u, u1, u2, u3⟩
      · exact absurd e2 z1
      · rw [z3]; show P x0 < P x.toNat; rw [u1, Int.toNat_natCast]; exact tok u (by omega) u2 u3
  rcases N with ⟨k, k1, k2, k3⟩ | ⟨k, k1, k2, k3⟩ | ⟨k, k1, k2, k3⟩ | ⟨k, k1, k2, k3⟩ | ⟨k, k1, k2, k3⟩
  · obtain ⟨t, t1, t2, t3⟩ := r2 k k2
    rw [nt_c_at k3]
    show P x0 < P (h 261 k).toNat
    have := l1 k k1 k2
    rw [t1, Int.toNat_natCast]; exact tok t (by omega) t2 (by omega)
  · obtain ⟨⟨t, t1, t2, t3⟩, -, t5⟩ := r4 k k2
    have := l2 k k1 k2
    rcases nt_s_at k3 with e | e
    · rw [e]; show P x0 < P (h 265 k).toNat
      rw [t1, Int.toNat_natCast]; exact tok t (by omega) t2 (by omega)
    · exact ty _ this.2.1 t5 e
  · obtain ⟨⟨t, t1, t2, t3⟩, u, u1, u2, u3⟩ := r6 k k2
    have := l3 k k1 k2
    rcases nt_v_at k3 with e | e
    · rw [e]; show P x0 < P (h 273 k).toNat
      rw [t1, Int.toNat_natCast]; exact tok t (by omega) t2 (by omega)
    · exact ty _ this.2.1 (Or.inr ⟨u, u1, u2, u3⟩) e
  · obtain ⟨-, t5⟩ := r8 k k2
    obtain ⟨m1, m2, m3⟩ := l4 k k1 k2
    rcases nt_i_at k3 with ⟨e1, e2⟩ | ⟨e1, e2⟩
    · obtain ⟨t, t1, t2, t3, -⟩ := t5 (Or.inl e1)
      have := m1 (Or.inl e1)
      rw [e2]; show P x0 < P (h 280 k).toNat
      rw [t1, Int.toNat_natCast]; exact tok t (by omega) t2 t3
    · obtain ⟨t, t1, t2, t3, -⟩ := t5 (by omega)
      have e3 := (vnt_at e2).1
      have fin : (p1.1 10 : Int) ≤ h 280 k → P x0 < q.2 := fun z => by
        rw [e3, t1, Int.toNat_natCast]; exact tok t (by omega) t2 t3
      rcases e1 with e1 | e1
      · exact fin (m1 (Or.inr e1))
      · rcases m2 e1 with ⟨w1, w2, w3⟩ | w1
        · exfalso
          rw [w3, show (h 280 k).toNat = p1.1 15 - 1 by omega, hlet w2] at e2
          cases e2
        · exact fin w1
  · obtain ⟨⟨s, s1', s2⟩, ⟨t, t1, t2, t3⟩, t5⟩ := r10 k k2
    obtain ⟨m1, m2, m3⟩ := l5 k k1 k2
    have h263 : 0 ≤ h 263 (h 289 k).toNat := by
      rw [s1', Int.toNat_natCast]; exact (r4 s s2).2.1.1
    rcases nt_k_at h263 k3 with e | ⟨e1, e2⟩
    · rw [e, t1, Int.toNat_natCast]; exact tok t (by omega) t2 (by omega)
    · rcases t5 with e | ⟨u, u1, u2, u3⟩
      · exact absurd e e1
      · rw [e2, u1, Int.toNat_natCast]; exact tok u (by omega) u2 (by omega)
end
