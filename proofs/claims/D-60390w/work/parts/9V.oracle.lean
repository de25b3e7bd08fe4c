/-! CONSTRUCTORS, 14: names that are there already change nothing; rows of a heap that is a list of changes -/
section
variable {d L : Nat} {h : am_H} {N : List (List Int)}
theorem pna_old {a na : Nat} {ra : List am_R} (ha : (zS L)[a]? = some (2, na, ra)) (R : pna_R h N) (b : Nat) (w : List Int) (hb : b + w.length ≤ na) (hna : na ≤ 100000) (hw : ∀ q x, w[q]? = some x → h a (b + q) = x) (hm : N.length < 1400) (hu : pn_used N ≤ 18000) (hN : w ∈ N) :
    am_D (d + 2) 9 1 [am_r (am_a 4), am_r (am_a a), am_i b, am_i w.length] (zS L, h) = pI L ((N.idxOf w : Nat) : Int) h := by
  have R0 := R
  obtain ⟨r1, r2, r3⟩ := R
  have hwe : ∀ v : List Int, v.length = w.length → ((∀ q, q < v.length → v[q]? = some (h a (b + q))) ↔ v = w) := by
    intro v hv
    constructor
    · intro z
      apply List.ext_getElem?
      intro q
      by_cases hq : q < w.length
      · obtain ⟨x, hx⟩ : ∃ x, w[q]? = some x := ⟨w[q], List.getElem?_eq_some_iff.mpr ⟨hq, rfl⟩⟩
        rw [z q (by omega), hx, hw q x hx]
      · rw [List.getElem?_eq_none (by omega), List.getElem?_eq_none (by omega)]
    · rintro rfl q hq
      obtain ⟨x, hx⟩ : ∃ x, v[q]? = some x := ⟨v[q], List.getElem?_eq_some_iff.mpr ⟨hq, rfl⟩⟩
      rw [hx, hw q x hx]
  rw [D_9_1_4]
  have key : ∀ (m k : Nat), k + m = N.length → (∀ i v, i < k → N[i]? = some v → v ≠ w) → am_E (am_D (d + 1)) m_9_1 (.inl 1) [some (am_r (am_a 4)), some (am_r (am_a a)), some (am_i b), some (am_i w.length), some (am_i k)] [] (zS L, h) = pI L ((N.idxOf w : Nat) : Int) h := by
    intro m
    induction m with
    | zero =>
      intro k e hn
      exfalso
      obtain ⟨i, hi⟩ := List.mem_iff_getElem?.mp hN
      exact hn i w (by have := (List.getElem?_eq_some_iff.mp hi).1; omega) hi rfl
    | succ m ih =>
      intro k e hn
      obtain ⟨v, hv⟩ : ∃ v, N[k]? = some v := ⟨N[k]'(by omega), List.getElem?_eq_some_iff.mpr ⟨by omega, rfl⟩⟩
      obtain ⟨s1, s2, s3⟩ := r3 k v hv
      have nx : v ≠ w → am_E (am_D (d + 1)) m_9_1 (.inl 1) [some (am_r (am_a 4)), some (am_r (am_a a)), some (am_i b), some (am_i w.length), some (am_i (am_w (k + 1)))] [] (zS L, h) = pI L ((N.idxOf w : Nat) : Int) h := by
        intro hne
        rw [p_w (by omega) (by omega)]
        refine ih (k + 1) (by omega) fun i u hi hu => ?_
        by_cases hik : i = k
        · subst hik; rw [hv] at hu; cases hu; exact hne
        · exact hn i u (by omega) hu
      rw [q_9_1_1_4, if_pos (by omega), p_idx (by omega) (by omega), Int.toNat_natCast, s2]
      by_cases c : v.length = w.length
      · have z0 := pna_isAt d L h ha ⟨r1, r2, r3⟩ (by omega) (by omega) hv (b := b) (by omega) hna v.length 0 1 (by omega) (by rw [pB_t]; intro q hq; omega)
        rw [Int.natCast_zero] at z0
        rw [if_pos (by omega), D_9_2_4, z0, p_xI]
        by_cases c2 : v = w
        · rw [pB_t ((hwe v c).mpr c2), if_neg (by decide)]
          subst c2
          rw [pn_idx hv hn]
        · rw [pB_f (fun z => c2 ((hwe v c).mp z)), if_pos rfl]
          exact nx c2
      · rw [if_neg (by omega)]
        exact nx fun z => c (by rw [z])
  exact key N.length 0 (by omega) (fun i v hi => by omega)
/-- the changes that a spelling makes, the last one first -/
def spo (j : Nat) : Nat → List koO
  | 0 => []
  | k + 1 => (1, 3, k, am_sc j k) :: spo j k
def spn (j : Nat) : List koO := (1, 3, am_sl j, 32) :: spo j (am_sl j)
theorem spo_h (j : Nat) (h : am_H) : ∀ (k : Nat), (∀ c x, c ≠ 3 → koH (spo j k) h c x = h c x) ∧ ∀ x, koH (spo j k) h 3 x = if x < k then am_sc j x else h 3 x
  | 0 => ⟨fun _ _ _ => rfl, fun x => by rw [if_neg (Nat.not_lt_zero _)]; rfl⟩
  | k + 1 => by
    obtain ⟨a, b⟩ := spo_h j h k
    refine ⟨fun c x hc => ?_, fun x => ?_⟩
    · show am_up (koH (spo j k) h) 3 k (am_sc j k) c x = _
      rw [p_up_n _ _ _ _ _ _ (Or.inl hc)]; exact a c x hc
    · show am_up (koH (spo j k) h) 3 k (am_sc j k) 3 x = _
      by_cases e : x = k
      · rw [e, p_up_s, if_pos (by omega)]
      · rw [p_up_n _ _ _ _ _ _ (Or.inr e), b]
        by_cases z : x < k
        · rw [if_pos z, if_pos (by omega)]
        · rw [if_neg z, if_neg (by omega)]
/-- name(), of a name that is there -/
theorem sp_old {j : Nat} (hj : j < 168) (hl : am_sl j < 100) (R : pna_R h N) (hm : N.length < 1400) (hu : pn_used N ≤ 17000) (hN : am_str.getD j [] ∈ N) : am_D (d + 3) 0 4 [am_r (am_a 1), am_r (am_k j)] (zS L, h) = pI L ((N.idxOf (am_str.getD j []) : Nat) : Int) (koH (spn j) h) := by
  obtain ⟨h1, r1, a1, a2, a3, f1⟩ := sp_spell (d := d + 1) (L := L) (h := h) (j := j) (a := 0) hj (by omega)
  have eh : h1 = koH (spn j) h := by
    obtain ⟨b1, b2⟩ := spo_h j h (am_sl j)
    funext c x
    show _ = am_up (koH (spo j (am_sl j)) h) 3 (am_sl j) 32 c x
    by_cases hc : c = 3
    · subst hc
      rw [Nat.zero_add] at a2
      by_cases e : x = am_sl j
      · rw [e, p_up_s, a2]
      · rw [p_up_n _ _ _ _ _ _ (Or.inr e), b2]
        by_cases z : x < am_sl j
        · rw [if_pos z]
          have := a1 x z
          rwa [Nat.zero_add] at this
        · rw [if_neg z, a3 x (by omega)]
    · rw [p_up_n _ _ _ _ _ _ (Or.inl hc), b1 c x hc, f1 c x (by simp; omega) rfl]
  have R1 : pna_R h1 N := by
    unfold pna_R
    rw [f1 4 3 rfl rfl, f1 4 4 rfl rfl, f1.cell 5 rfl rfl, f1.cell 6 rfl rfl, f1.cell 7 rfl rfl]
    exact R
  have sl : am_sl j = (am_str.getD j []).length := rfl
  have r2 := pna_old (d := d) (L := L) (h := h1) (a := 3) (na := 16000) (ra := []) (N := N) rfl R1 0 (am_str.getD j []) (by omega) (by decide) (fun q x hq => by
    have ql := (List.getElem?_eq_some_iff.1 hq).1
    rw [Nat.zero_add]
    have := a1 q (by omega)
    rw [Nat.zero_add] at this
    rw [this]
    unfold am_sc; rw [List.getD_eq_getElem?_getD, hq]; rfl) hm (by omega) hN
  have bl : Nat.blt j am_ns = true := by rw [Nat.blt_eq]; exact hj
  have r1' : am_D (d + 2) 0 3 [am_r (am_a 1), am_r (am_k j), am_i 0] (zS L, h) = pI L ((0 + am_sl j + 1 : Nat) : Int) h1 := r1
  have r2' : am_D (d + 2) 9 1 [am_r (am_a 4), am_r (am_a 3), am_i 0, am_i ((am_sl j : Nat) : Int)] (zS L, h1) = pI L ((N.idxOf (am_str.getD j []) : Nat) : Int) h1 := r2
  rw [D_0_4, r1', p_xI]
  show cond (Nat.blt j am_ns) (am_xI (zS L) (am_D (d + 2) 9 1 [am_r (am_a 4), am_r (am_a 3), am_i 0, am_i ((am_sl j : Nat))] (zS L, h1)) (am_up1 (zS L)) fun v5 h4 => some (.inl (some (am_i v5)), (zS L, h4))) none = _
  rw [bl, cond_true, r2', p_xI, eh]
end
/-- a row of a heap that is a list of changes -/
def koF : List koO → Nat → Option (List (Nat × Int))
  | [], _ => none
  | (0, a, _, _) :: r, c => if c = a then some [] else koF r c
  | (1, a, k, v) :: r, c => if c = a then (match koF r c with
    | some l => some ((k, v) :: l)
    | none => none) else koF r c
  | (_ + 2, a, d, _) :: r, c => if a ≤ c ∧ c ≤ a + d then some [] else koF r c
def alk : List (Nat × Int) → Nat → Int
  | [], _ => 0
  | (j, v) :: l, k => if k = j then v else alk l k
theorem koF_ok {h : am_H} : ∀ {w : List koO} {c : Nat} {l : List (Nat × Int)}, koF w c = some l → ∀ k, koH w h c k = alk l k
  | [], _, _, e, _ => by cases e
  | (0, a, _, _) :: r, c, l, e, k => by
    unfold koF at e
    show am_zr (koH r h) a c k = _
    unfold am_zr
    by_cases z : c = a
    · rw [if_pos z] at e ⊢; injection e with e; rw [← e]; rfl
    · rw [if_neg z] at e ⊢; exact koF_ok e k
  | (1, a, j, v) :: r, c, l, e, k => by
    unfold koF at e
    show am_up (koH r h) a j v c k = _
    by_cases z : c = a
    · rw [if_pos z] at e
      split at e
      · rename_i l' hl
        injection e with e
        subst e z
        show _ = if k = j then v else alk l' k
        by_cases q : k = j
        · rw [if_pos q, q, p_up_s]
        · rw [if_neg q, p_up_n _ _ _ _ _ _ (Or.inr q)]; exact koF_ok hl k
      · cases e
    · rw [if_neg z] at e
      rw [p_up_n _ _ _ _ _ _ (Or.inl z)]; exact koF_ok e k
  | (_ + 2, a, d, _) :: r, c, l, e, k => by
    unfold koF at e
    show (if a ≤ c ∧ c ≤ a + d then (fun _ => (0 : Int)) else koH r h c) k = _
    by_cases z : a ≤ c ∧ c ≤ a + d
    · rw [if_pos z] at e ⊢; injection e with e; rw [← e]; rfl
    · rw [if_neg z] at e ⊢; exact koF_ok e k
/-- cells that no change touches -/
def koN (w : List koO) (c : Nat) : Bool := w.all fun o => match o with
  | (0, a, _, _) => !(Nat.beq a c)
  | (1, a, _, _) => !(Nat.beq a c)
  | (_ + 2, a, d, _) => Nat.blt c a || Nat.blt (a + d) c
theorem koN_ok {h : am_H} : ∀ {w : List koO} {c : Nat}, koN w c = true → koH w h c = h c
  | [], _, _ => rfl
  | (0, a, x, y) :: r, c, e => by
    have e : (!(Nat.beq a c) && koN r c) = true := e
    rw [Bool.and_eq_true, Bool.not_eq_true'] at e
    have ne : c ≠ a := fun z => by rw [z, Nat.beq_refl] at e; cases e.1
    show am_zr (koH r h) a c = _
    unfold am_zr
    rw [if_neg ne]; exact koN_ok e.2
  | (1, a, k, v) :: r, c, e => by
    have e : (!(Nat.beq a c) && koN r c) = true := e
    rw [Bool.and_eq_true, Bool.not_eq_true'] at e
    have ne : c ≠ a := fun z => by rw [z, Nat.beq_refl] at e; cases e.1
    show am_up (koH r h) a k v c = _
    rw [p_up_c _ _ _ _ _ ne]; exact koN_ok e.2
  | (n + 2, a, d, x) :: r, c, e => by
    have e : ((Nat.blt c a || Nat.blt (a + d) c) && koN r c) = true := e
    rw [Bool.and_eq_true, Bool.or_eq_true, Nat.blt_eq, Nat.blt_eq] at e
    show (if a ≤ c ∧ c ≤ a + d then (fun _ => (0 : Int)) else koH r h c) = _
    rw [if_neg (by omega)]; exact koN_ok e.2
