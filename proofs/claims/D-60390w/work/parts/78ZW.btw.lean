/-! PURE LAYER, 102: notes of entries that an event adds -/
/-- a note of an entry between two counts -/
def bN (K P V sc ss : Nat → Int) (h g g' : am_H) (q : Int × Int) : Prop :=
  (∃ k : Nat, g 254 14 ≤ k ∧ k < g' 254 14 ∧ q ∈ nt_c P V sc h k) ∨ (∃ k : Nat, g 254 17 ≤ k ∧ k < g' 254 17 ∧ q ∈ nt_s K P V sc h k) ∨ (∃ k : Nat, g 254 25 ≤ k ∧ k < g' 254 25 ∧ q ∈ nt_v K P V sc h k) ∨ (∃ k : Nat, g 254 33 ≤ k ∧ k < g' 254 33 ∧ q ∈ nt_i P V h k) ∨ (∃ k : Nat, g 254 39 ≤ k ∧ k < g' 254 39 ∧ q ∈ nt_k K P V sc ss h k)
/-- the notes of new entries are these -/
def BN (K P V sc ss : Nat → Int) (h g g' : am_H) (l : List (Int × Int)) : Prop := (∀ c, mx_k c → g 254 c ≤ g' 254 c) ∧ ∀ q, bN K P V sc ss h g g' q ↔ q ∈ l
section
variable {K P V sc ss : Nat → Int} {h g g' x y : am_H} {l : List (Int × Int)}
theorem BN.refl (g : am_H) : BN K P V sc ss h g g [] := ⟨fun _ _ => Int.le_refl _, fun q => ⟨fun z => by
  rcases z with ⟨k, h1, h2, -⟩ | ⟨k, h1, h2, -⟩ | ⟨k, h1, h2, -⟩ | ⟨k, h1, h2, -⟩ | ⟨k, h1, h2, -⟩ <;> omega, fun z => by cases z⟩⟩
theorem BN.fr (B : BN K P V sc ss h g x l) (hc : ∀ c, mx_k c → y 254 c = x 254 c) : BN K P V sc ss h g y l := by
  refine ⟨fun c k => by rw [hc c k]; exact B.1 c k, fun q => ?_⟩
  rw [← B.2 q]
  unfold bN
  rw [hc 14 (by unfold mx_k; omega), hc 17 (by unfold mx_k; omega), hc 25 (by unfold mx_k; omega), hc 33 (by unfold mx_k; omega), hc 39 (by unfold mx_k; omega)]
theorem BN.up (B : BN K P V sc ss h g x l) {a k : Nat} {v : Int} (ha : a ≠ 254) : BN K P V sc ss h g (am_up x a k v) l := B.fr (fun c _ => p_up_n _ _ _ _ _ _ (Or.inl (Ne.symm ha)))
theorem BN.upf (B : BN K P V sc ss h g x l) {k : Nat} {v : Int} (hk : ¬ mx_k k) : BN K P V sc ss h g (am_up x 254 k v) l := B.fr (fun c hc => p_up_n _ _ _ _ _ _ (Or.inr (fun z => hk (z ▸ hc))))
theorem BN.blk (B : BN K P V sc ss h g x l) (k : Nat) (a b c e : Int) : BN K P V sc ss h g (mi_blk k a b c e x) l := ((((B.up (by decide)).up (by decide)).up (by decide)).up (by decide)).upf (by unfold mx_k; omega)
/-- one more entry of a kind -/
theorem BN.item (B : BN K P V sc ss h g x l) (h33 : 0 ≤ x 254 33) (h1 : y 254 33 = x 254 33 + 1) (hc : ∀ c, mx_k c → c ≠ 33 → y 254 c = x 254 c) : BN K P V sc ss h g y (l ++ nt_i P V h (x 254 33).toNat) := by
  have b33 := B.1 33 (by unfold mx_k; omega)
  refine ⟨fun c k => ?_, fun q => ?_⟩
  · by_cases e : c = 33
    · rw [e]; omega
    · rw [hc c k e]; exact B.1 c k
  · rw [List.mem_append, ← B.2 q]
    unfold bN
    rw [hc 14 (by unfold mx_k; omega) (by decide), hc 17 (by unfold mx_k; omega) (by decide), hc 25 (by unfold mx_k; omega) (by decide), hc 39 (by unfold mx_k; omega) (by decide)]
    constructor
    · rintro (z | z | z | ⟨k, k1, k2, k3⟩ | z)
      · exact Or.inl (Or.inl z)
      · exact Or.inl (Or.inr (Or.inl z))
      · exact Or.inl (Or.inr (Or.inr (Or.inl z)))
      · by_cases e : (k : Int) < x 254 33
        · exact Or.inl (Or.inr (Or.inr (Or.inr (Or.inl ⟨k, k1, e, k3⟩))))
        · right; rw [show (x 254 33).toNat = k by omega]; exact k3
      · exact Or.inl (Or.inr (Or.inr (Or.inr (Or.inr z))))
    · rintro ((z | z | z | ⟨k, k1, k2, k3⟩ | z) | z)
      · exact Or.inl z
      · exact Or.inr (Or.inl z)
      · exact Or.inr (Or.inr (Or.inl z))
      · exact Or.inr (Or.inr (Or.inr (Or.inl ⟨k, k1, by omega, k3⟩)))
      · exact Or.inr (Or.inr (Or.inr (Or.inr z)))
      · exact Or.inr (Or.inr (Or.inr (Or.inl ⟨(x 254 33).toNat, by omega, by omega, z⟩)))
theorem BN.kall (B : BN K P V sc ss h g x l) (h39 : 0 ≤ x 254 39) (h1 : y 254 39 = x 254 39 + 1) (hc : ∀ c, mx_k c → c ≠ 39 → y 254 c = x 254 c) : BN K P V sc ss h g y (l ++ nt_k K P V sc ss h (x 254 39).toNat) := by
  have b39 := B.1 39 (by unfold mx_k; omega)
  refine ⟨fun c k => ?_, fun q => ?_⟩
  · by_cases e : c = 39
    · rw [e]; omega
    · rw [hc c k e]; exact B.1 c k
  · rw [List.mem_append, ← B.2 q]
    unfold bN
    rw [hc 14 (by unfold mx_k; omega) (by decide), hc 17 (by unfold mx_k; omega) (by decide), hc 25 (by unfold mx_k; omega) (by decide), hc 33 (by unfold mx_k; omega) (by decide)]
    constructor
    · rintro (z | z | z | z | ⟨k, k1, k2, k3⟩)
      · exact Or.inl (Or.inl z)
      · exact Or.inl (Or.inr (Or.inl z))
      · exact Or.inl (Or.inr (Or.inr (Or.inl z)))
      · exact Or.inl (Or.inr (Or.inr (Or.inr (Or.inl z))))
      · by_cases e : (k : Int) < x 254 39
        · exact Or.inl (Or.inr (Or.inr (Or.inr (Or.inr ⟨k, k1, e, k3⟩))))
        · right; rw [show (x 254 39).toNat = k by omega]; exact k3
    · rintro ((z | z | z | z | ⟨k, k1, k2, k3⟩) | z)
      · exact Or.inl z
      · exact Or.inr (Or.inl z)
      · exact Or.inr (Or.inr (Or.inl z))
      · exact Or.inr (Or.inr (Or.inr (Or.inl z)))
      · exact Or.inr (Or.inr (Or.inr (Or.inr ⟨k, k1, by omega, k3⟩)))
      · exact Or.inr (Or.inr (Or.inr (Or.inr ⟨(x 254 39).toNat, by omega, by omega, z⟩)))
theorem BN.vari (B : BN K P V sc ss h g x l) (h25 : 0 ≤ x 254 25) (h1 : y 254 25 = x 254 25 + 1) (hc : ∀ c, mx_k c → c ≠ 25 → y 254 c = x 254 c) : BN K P V sc ss h g y (l ++ nt_v K P V sc h (x 254 25).toNat) := by
  have b25 := B.1 25 (by unfold mx_k; omega)
  refine ⟨fun c k => ?_, fun q => ?_⟩
  · by_cases e : c = 25
    · rw [e]; omega
    · rw [hc c k e]; exact B.1 c k
  · rw [List.mem_append, ← B.2 q]
    unfold bN
    rw [hc 14 (by unfold mx_k; omega) (by decide), hc 17 (by unfold mx_k; omega) (by decide), hc 39 (by unfold mx_k; omega) (by decide), hc 33 (by unfold mx_k; omega) (by decide)]
    constructor
    · rintro (z | z | ⟨k, k1, k2, k3⟩ | z | z)
      · exact Or.inl (Or.inl z)
      · exact Or.inl (Or.inr (Or.inl z))
      · by_cases e : (k : Int) < x 254 25
        · exact Or.inl (Or.inr (Or.inr (Or.inl ⟨k, k1, e, k3⟩)))
        · right; rw [show (x 254 25).toNat = k by omega]; exact k3
      · exact Or.inl (Or.inr (Or.inr (Or.inr (Or.inl z))))
      · exact Or.inl (Or.inr (Or.inr (Or.inr (Or.inr z))))
    · rintro ((z | z | ⟨k, k1, k2, k3⟩ | z | z) | z)
      · exact Or.inl z
      · exact Or.inr (Or.inl z)
      · exact Or.inr (Or.inr (Or.inl ⟨k, k1, by omega, k3⟩))
      · exact Or.inr (Or.inr (Or.inr (Or.inl z)))
      · exact Or.inr (Or.inr (Or.inr (Or.inr z)))
      · exact Or.inr (Or.inr (Or.inl ⟨(x 254 25).toNat, by omega, by omega, z⟩))
theorem BN.subr (B : BN K P V sc ss h g x l) (h17 : 0 ≤ x 254 17) (h1 : y 254 17 = x 254 17 + 1) (hc : ∀ c, mx_k c → c ≠ 17 → y 254 c = x 254 c) : BN K P V sc ss h g y (l ++ nt_s K P V sc h (x 254 17).toNat) := by
  have b17 := B.1 17 (by unfold mx_k; omega)
  refine ⟨fun c k => ?_, fun q => ?_⟩
  · by_cases e : c = 17
    · rw [e]; omega
    · rw [hc c k e]; exact B.1 c k
  · rw [List.mem_append, ← B.2 q]
    unfold bN
    rw [hc 14 (by unfold mx_k; omega) (by decide), hc 25 (by unfold mx_k; omega) (by decide), hc 39 (by unfold mx_k; omega) (by decide), hc 33 (by unfold mx_k; omega) (by decide)]
    constructor
    · rintro (z | ⟨k, k1, k2, k3⟩ | z | z | z)
      · exact Or.inl (Or.inl z)
      · by_cases e : (k : Int) < x 254 17
        · exact Or.inl (Or.inr (Or.inl ⟨k, k1, e, k3⟩))
        · right; rw [show (x 254 17).toNat = k by omega]; exact k3
      · exact Or.inl (Or.inr (Or.inr (Or.inl z)))
      · exact Or.inl (Or.inr (Or.inr (Or.inr (Or.inl z))))
      · exact Or.inl (Or.inr (Or.inr (Or.inr (Or.inr z))))
    · rintro ((z | ⟨k, k1, k2, k3⟩ | z | z | z) | z)
      · exact Or.inl z
      · exact Or.inr (Or.inl ⟨k, k1, by omega, k3⟩)
      · exact Or.inr (Or.inr (Or.inl z))
      · exact Or.inr (Or.inr (Or.inr (Or.inl z)))
      · exact Or.inr (Or.inr (Or.inr (Or.inr z)))
      · exact Or.inr (Or.inl ⟨(x 254 17).toNat, by omega, by omega, z⟩)
theorem BN.clas (B : BN K P V sc ss h g x l) (h14 : 0 ≤ x 254 14) (h1 : y 254 14 = x 254 14 + 1) (hc : ∀ c, mx_k c → c ≠ 14 → y 254 c = x 254 c) : BN K P V sc ss h g y (l ++ nt_c P V sc h (x 254 14).toNat) := by
  have b14 := B.1 14 (by unfold mx_k; omega)
  refine ⟨fun c k => ?_, fun q => ?_⟩
  · by_cases e : c = 14
    · rw [e]; omega
    · rw [hc c k e]; exact B.1 c k
  · rw [List.mem_append, ← B.2 q]
    unfold bN
    rw [hc 17 (by unfold mx_k; omega) (by decide), hc 25 (by unfold mx_k; omega) (by decide), hc 39 (by unfold mx_k; omega) (by decide), hc 33 (by unfold mx_k; omega) (by decide)]
    constructor
    · rintro (⟨k, k1, k2, k3⟩ | z | z | z | z)
      · by_cases e : (k : Int) < x 254 14
        · exact Or.inl (Or.inl ⟨k, k1, e, k3⟩)
        · right; rw [show (x 254 14).toNat = k by omega]; exact k3
      · exact Or.inl (Or.inr (Or.inl z))
      · exact Or.inl (Or.inr (Or.inr (Or.inl z)))
      · exact Or.inl (Or.inr (Or.inr (Or.inr (Or.inl z))))
      · exact Or.inl (Or.inr (Or.inr (Or.inr (Or.inr z))))
    · rintro ((⟨k, k1, k2, k3⟩ | z | z | z | z) | z)
      · exact Or.inl ⟨k, k1, by omega, k3⟩
      · exact Or.inr (Or.inl z)
      · exact Or.inr (Or.inr (Or.inl z))
      · exact Or.inr (Or.inr (Or.inr (Or.inl z)))
      · exact Or.inr (Or.inr (Or.inr (Or.inr z)))
      · exact Or.inl ⟨(x 254 14).toNat, by omega, by omega, z⟩
theorem BN.put (B : BN K P V sc ss h g x l) (h33 : 0 ≤ x 254 33) (k a b t : Int) : BN K P V sc ss h g (mi_put k a b t x) (l ++ nt_i P V h (x 254 33).toNat) := B.item h33 (mi_put_33 k a b t x) (fun c _ hc => mi_put_f k a b t x c hc)
/-- an item that asks for no name has no note -/
theorem nt_i_0 {k : Nat} (h3 : h 277 k ≠ 3) (h4 : h 277 k ≠ 4) (h13 : h 277 k ≠ 13) : nt_i P V h k = [] := by
  unfold nt_i
  rw [if_neg h3, if_neg (by omega)]
theorem mi_put_277 (k a b t : Int) (g : am_H) : mi_put k a b t g 277 (g 254 33).toNat = k ∧ mi_put k a b t g 280 (g 254 33).toNat = t ∧ mi_put k a b t g 281 (g 254 33).toNat = g 254 17 - 1 ∧ mi_put k a b t g 278 (g 254 33).toNat = a ∧ mi_put k a b t g 279 (g 254 33).toNat = b := by
  unfold mi_put
  refine ⟨?_, ?_, ?_, ?_, ?_⟩
  · rw [p_up_c _ _ _ _ _ (by decide), p_up_c _ _ _ _ _ (by decide), p_up_c _ _ _ _ _ (by decide), p_up_c _ _ _ _ _ (by decide), p_up_c _ _ _ _ _ (by decide)]; exact p_up_s _ _ _ _
  · rw [p_up_c _ _ _ _ _ (by decide), p_up_c _ _ _ _ _ (by decide)]; exact p_up_s _ _ _ _
  · rw [p_up_c _ _ _ _ _ (by decide)]; exact p_up_s _ _ _ _
  · rw [p_up_c _ _ _ _ _ (by decide), p_up_c _ _ _ _ _ (by decide), p_up_c _ _ _ _ _ (by decide), p_up_c _ _ _ _ _ (by decide)]; exact p_up_s _ _ _ _
  · rw [p_up_c _ _ _ _ _ (by decide), p_up_c _ _ _ _ _ (by decide), p_up_c _ _ _ _ _ (by decide)]; exact p_up_s _ _ _ _
/-- the same, where the tables of the end hold the item -/
theorem BN.put0 (B : BN K P V sc ss h g x l) (h33 : 0 ≤ x 254 33) (k a b t : Int) (hk : k ≠ 3 ∧ k ≠ 4 ∧ k ≠ 13) (m : mx (mi_put k a b t x) h) : BN K P V sc ss h g (mi_put k a b t x) l := by
  have e : h 277 (x 254 33).toNat = k := by
    rw [m.2 277 33 rfl _ (by rw [mi_put_33]; omega)]
    exact (mi_put_277 k a b t x).1
  have := B.put h33 k a b t
  rwa [nt_i_0 (by rw [e]; exact hk.1) (by rw [e]; exact hk.2.1) (by rw [e]; exact hk.2.2), List.append_nil] at this
/-- notes from here on: those of new entries, and later ones -/
theorem BN.is (B : BN K P V sc ss h g g' l) (hm : ∀ c, mx_k c → g' 254 c ≤ h 254 c) (q : Int × Int) : isN K P V sc ss h g q ↔ q ∈ l ∨ isN K P V sc ss h g' q := by
  rw [← B.2 q]
  have m1 := hm 14 (by unfold mx_k; omega)
  have m2 := hm 17 (by unfold mx_k; omega)
  have m3 := hm 25 (by unfold mx_k; omega)
  have m4 := hm 33 (by unfold mx_k; omega)
  have m5 := hm 39 (by unfold mx_k; omega)
  have b1 := B.1 14 (by unfold mx_k; omega)
  have b2 := B.1 17 (by unfold mx_k; omega)
  have b3 := B.1 25 (by unfold mx_k; omega)
  have b4 := B.1 33 (by unfold mx_k; omega)
  have b5 := B.1 39 (by unfold mx_k; omega)
  unfold isN bN
  constructor
  · rintro (⟨k, k1, k2, k3⟩ | ⟨k, k1, k2, k3⟩ | ⟨k, k1, k2, k3⟩ | ⟨k, k1, k2, k3⟩ | ⟨k, k1, k2, k3⟩)
    · by_cases c : (k : Int) < g' 254 14
      · exact Or.inl (Or.inl ⟨k, k1, c, k3⟩)
      · exact Or.inr (Or.inl ⟨k, by omega, k2, k3⟩)
    · by_cases c : (k : Int) < g' 254 17
      · exact Or.inl (Or.inr (Or.inl ⟨k, k1, c, k3⟩))
      · exact Or.inr (Or.inr (Or.inl ⟨k, by omega, k2, k3⟩))
    · by_cases c : (k : Int) < g' 254 25
      · exact Or.inl (Or.inr (Or.inr (Or.inl ⟨k, k1, c, k3⟩)))
      · exact Or.inr (Or.inr (Or.inr (Or.inl ⟨k, by omega, k2, k3⟩)))
    · by_cases c : (k : Int) < g' 254 33
      · exact Or.inl (Or.inr (Or.inr (Or.inr (Or.inl ⟨k, k1, c, k3⟩))))
      · exact Or.inr (Or.inr (Or.inr (Or.inr (Or.inl ⟨k, by omega, k2, k3⟩))))
    · by_cases c : (k : Int) < g' 254 39
      · exact Or.inl (Or.inr (Or.inr (Or.inr (Or.inr ⟨k, k1, c, k3⟩))))
      · exact Or.inr (Or.inr (Or.inr (Or.inr (Or.inr ⟨k, by omega, k2, k3⟩))))
  · rintro ((⟨k, k1, k2, k3⟩ | ⟨k, k1, k2, k3⟩ | ⟨k, k1, k2, k3⟩ | ⟨k, k1, k2, k3⟩ | ⟨k, k1, k2, k3⟩) | (⟨k, k1, k2, k3⟩ | ⟨k, k1, k2, k3⟩ | ⟨k, k1, k2, k3⟩ | ⟨k, k1, k2, k3⟩ | ⟨k, k1, k2, k3⟩))
    · exact Or.inl ⟨k, k1, by omega, k3⟩
    · exact Or.inr (Or.inl ⟨k, k1, by omega, k3⟩)
    · exact Or.inr (Or.inr (Or.inl ⟨k, k1, by omega, k3⟩))
    · exact Or.inr (Or.inr (Or.inr (Or.inl ⟨k, k1, by omega, k3⟩)))
    · exact Or.inr (Or.inr (Or.inr (Or.inr ⟨k, k1, by omega, k3⟩)))
    · exact Or.inl ⟨k, by omega, k2, k3⟩
    · exact Or.inr (Or.inl ⟨k, by omega, k2, k3⟩)
    · exact Or.inr (Or.inr (Or.inl ⟨k, by omega, k2, k3⟩))
    · exact Or.inr (Or.inr (Or.inr (Or.inl ⟨k, by omega, k2, k3⟩)))
    · exact Or.inr (Or.inr (Or.inr (Or.inr ⟨k, by omega, k2, k3⟩)))
/-- no new note -/
theorem BN.no (B : BN K P V sc ss h g g' []) (N : noN K P V sc ss h g) : noN K P V sc ss h g' := by
  have z : ∀ q, ¬ bN K P V sc ss h g g' q := fun q hq => by cases (B.2 q).1 hq
  have nil : ∀ l : List (Int × Int), (∀ q, q ∉ l) → l = [] := fun l hl => List.eq_nil_iff_forall_not_mem.2 hl
  obtain ⟨n1, n2, n3, n4, n5⟩ := N
  refine ⟨fun k hk => ?_, fun k hk => ?_, fun k hk => ?_, fun k hk => ?_, fun k hk => ?_⟩
  · by_cases c : (k : Int) < g 254 14
    · exact n1 k c
    · exact nil _ (fun q hq => z q (Or.inl ⟨k, by omega, hk, hq⟩))
  · by_cases c : (k : Int) < g 254 17
    · exact n2 k c
    · exact nil _ (fun q hq => z q (Or.inr (Or.inl ⟨k, by omega, hk, hq⟩)))
  · by_cases c : (k : Int) < g 254 25
    · exact n3 k c
    · exact nil _ (fun q hq => z q (Or.inr (Or.inr (Or.inl ⟨k, by omega, hk, hq⟩))))
  · by_cases c : (k : Int) < g 254 33
    · exact n4 k c
    · exact nil _ (fun q hq => z q (Or.inr (Or.inr (Or.inr (Or.inl ⟨k, by omega, hk, hq⟩)))))
  · by_cases c : (k : Int) < g 254 39
    · exact n5 k c
    · exact nil _ (fun q hq => z q (Or.inr (Or.inr (Or.inr (Or.inr ⟨k, by omega, hk, hq⟩)))))
/-- notes of later entries: of the type at hand, of the let that waits, or behind -/
theorem later_or {K' : Nat → Int} {p1 : pr_S} {s1 : mi_S} {S : mi_S} (hS : S.1 = h) (L : lt_e p1 s1 S) (T : tkP K' P) (R : rt K' h) {q : Int × Int} (N : isN K P V sc ss h s1.1 q) {x0 : Nat} (hx : x0 < p1.1 10) : q ∈ nt_ty K P V sc h s1.2.1 ∨ (p1.1 15 ≠ 0 ∧ q ∈ vnt P V h ((p1.1 3 : Int) - 1) (p1.1 15 - 1)) ∨ P x0 < q.2 := by
  by_cases c1 : q ∈ nt_ty K P V sc h s1.2.1
  · exact Or.inl c1
  · by_cases c2 : p1.1 15 ≠ 0 ∧ q ∈ vnt P V h ((p1.1 3 : Int) - 1) (p1.1 15 - 1)
    · exact Or.inr (Or.inl c2)
    · refine Or.inr (Or.inr ?_)
      obtain ⟨l1, l2, l3, l4, l5⟩ := L
      rw [hS] at l1 l2 l3 l4 l5
      obtain ⟨⟨r1, r2⟩, ⟨r3, r4⟩, ⟨r5, r6⟩, ⟨r7, r8⟩, r9, r10⟩ := R
      have tok : ∀ t : Nat, (p1.1 10 : Int) ≤ t → t < 1000 → K' t ≠ 0 → P x0 < P t := fun t h1 h2 h3 => T x0 t (by omega) h2 h3
      have ty : ∀ x : Int, (x = s1.2.1 ∨ x = -1 ∨ (p1.1 10 : Int) ≤ x) → (x = -1 ∨ ∃ u : Nat, x = u ∧ u < 1000 ∧ K' u ≠ 0) → q ∈ nt_ty K P V sc h x → P x0 < q.2 := by
        intro x hx1 hx2 z
        obtain ⟨z1, z2, z3⟩ := nt_ty_at z
        rcases hx1 with e | e | e
        · rw [e] at z; exact absurd z c1
        · exact absurd e z1
        · rcases hx2 with e2 | ⟨u, u1, u2, u3⟩
          · exact absurd e2 z1
          · rw [z3]; show P x0 < P x.toNat; rw [u1, Int.toNat_natCast]; exact tok u (by omega) u2 u3
      rcases N with ⟨k, k1, k2, k3⟩ | ⟨k, k1, k2, k3⟩ | ⟨k, k1, k2, k3⟩ | ⟨k, k1, k2, k3⟩ | ⟨k, k1, k2, k3⟩
      · obtain ⟨t, t1, t2, t3⟩ := r2 k k2
        rw [nt_c_at k3]
        show P x0 < P (h 261 k).toNat
        have := l1 k k1 k2
        rw [t1, Int.toNat_natCast]; exact tok t (by omega) t2 (by omega)
      · obtain ⟨⟨t, t1, t2, t3⟩, -, t5⟩ := r4 k k2
        have := l2 k k1 k2
        rcases nt_s_at k3 with e | e
        · rw [e]; show P x0 < P (h 265 k).toNat
          rw [t1, Int.toNat_natCast]; exact tok t (by omega) t2 (by omega)
        · exact ty _ this.2.1 t5 e
      · obtain ⟨⟨t, t1, t2, t3⟩, u, u1, u2, u3⟩ := r6 k k2
        have := l3 k k1 k2
        rcases nt_v_at k3 with e | e
        · rw [e]; show P x0 < P (h 273 k).toNat
          rw [t1, Int.toNat_natCast]; exact tok t (by omega) t2 (by omega)
        · exact ty _ this.2.1 (Or.inr ⟨u, u1, u2, u3⟩) e
      · obtain ⟨-, t5⟩ := r8 k k2
        obtain ⟨m1, m2, m3⟩ := l4 k k1 k2
        rcases nt_i_at k3 with ⟨e1, e2⟩ | ⟨e1, e2⟩
        · obtain ⟨t, t1, t2, t3, -⟩ := t5 (Or.inl e1)
          have := m1 (Or.inl e1)
          rw [e2]; show P x0 < P (h 280 k).toNat
          rw [t1, Int.toNat_natCast]; exact tok t (by omega) t2 t3
        · obtain ⟨t, t1, t2, t3, -⟩ := t5 (by omega)
          have e3 := (vnt_at e2).1
          have fin : (p1.1 10 : Int) ≤ h 280 k → P x0 < q.2 := fun z => by
            rw [e3, t1, Int.toNat_natCast]; exact tok t (by omega) t2 t3
          rcases e1 with e1 | e1
          · exact fin (m1 (Or.inr e1))
          · rcases m2 e1 with ⟨w1, w2, w3⟩ | w1
            · exfalso
              rw [w3, show (h 280 k).toNat = p1.1 15 - 1 by omega] at e2
              exact c2 ⟨w2, e2⟩
            · exact fin w1
      · obtain ⟨⟨s, s1', s2⟩, ⟨t, t1, t2, t3⟩, t5⟩ := r10 k k2
        obtain ⟨m1, m2, m3⟩ := l5 k k1 k2
        have h263 : 0 ≤ h 263 (h 289 k).toNat := by
          rw [s1', Int.toNat_natCast]; exact (r4 s s2).2.1.1
        rcases nt_k_at h263 k3 with e | ⟨e1, e2⟩
        · rw [e, t1, Int.toNat_natCast]; exact tok t (by omega) t2 (by omega)
        · rcases t5 with e | ⟨u, u1, u2, u3⟩
          · exact absurd e e1
          · rw [e2, u1, Int.toNat_natCast]; exact tok u (by omega) u2 (by omega)
end
