/-! PURE LAYER, 137: values on the stack and statements that are open, at every item -/
def ob (V : Nat → Int) (S : am_H) (k : Nat) : Nat := if 0 < m_ko V S k then 1 else 0
def objs (V : Nat → Int) (S : am_H) : List Int → Nat
  | [] => 0
  | c :: l => ob V S c.toNat + objs V S l
theorem ob_le (V : Nat → Int) (S : am_H) (k : Nat) : ob V S k ≤ 1 := by unfold ob; split <;> omega
theorem objs_le (V : Nat → Int) (S : am_H) : ∀ l, objs V S l ≤ l.length
  | [] => Nat.le_refl _
  | c :: l => by
    have := ob_le V S c.toNat
    have := objs_le V S l
    show ob V S c.toNat + objs V S l ≤ l.length + 1
    omega
/-- statements that are open: their words' tokens -/
def wt (p : pr_S) (bt : List Nat) (cur : Nat) : List Nat := if p.1 16 = 1 ∧ nh p.2.1 then cur :: bt else bt
def ATk (V : Nat → Int) (P : Nat → Int) (S : am_H) (f : Nat → List (Int × Int × Int)) (a : Nat → Nat × List Nat) (k : Nat) : Prop :=
  (S 277 k = 0 ∨ S 277 k = 1 ∨ S 277 k = 3 ∨ S 277 k = 4 → a (k + 1) = ((a k).1 + 1, (a k).2)) ∧
  (S 277 k = 5 ∨ S 277 k = 6 → 2 ≤ (a k).1 ∧ a (k + 1) = ((a k).1 - 1, (a k).2)) ∧
  (S 277 k = 7 ∨ S 277 k = 8 → 1 ≤ (a k).1 ∧ a (k + 1) = a k) ∧
  (S 277 k = 9 → a (k + 1) = ((a k).1 + ob V S (S 278 k).toNat, (a k).2)) ∧
  (S 277 k = 10 → (S 284 (S 278 k).toNat).toNat + ob V S (S 278 k).toNat ≤ (a k).1 ∧ a (k + 1) = ((a k).1 - ((S 284 (S 278 k).toNat).toNat + ob V S (S 278 k).toNat) + 1, (a k).2)) ∧
  (S 277 k = 11 → (a k).1 = 0 ∧ a (k + 1) = (0, (S 280 k).toNat :: (a k).2)) ∧
  (S 277 k = 12 → (a k).1 = 0 ∧ (a k).2 ≠ [] ∧ a (k + 1) = (0, (a k).2.tail)) ∧
  (S 277 k = 13 ∨ S 277 k = 15 ∨ S 277 k = 19 → (a k).1 = 1 ∧ a (k + 1) = (0, (a k).2)) ∧
  (S 277 k = 14 → (a k).1 = 2 ∧ a (k + 1) = (0, (a k).2)) ∧
  (S 277 k = 16 → (a k).1 = 0) ∧
  (S 277 k = 17 → (a k).1 = 0 ∧ a (k + 1) = a k ∧ ∃ t r, (a k).2 = t :: r ∧ f k = [(20, P t, 0)]) ∧
  (S 277 k = 18 → (a k).1 = 1) ∧
  (S 277 k = 20 → (a k).1 = 0 ∧ a (k + 1) = a k)
theorem ATk.fr {V P : Nat → Int} {S : am_H} {f f' : Nat → List (Int × Int × Int)} {a a' : Nat → Nat × List Nat} {k : Nat} (A : ATk V P S f a k) (h0 : a' k = a k) (h1 : a' (k + 1) = a (k + 1)) (hf : f' k = f k) : ATk V P S f' a' k := by
  unfold ATk at *
  rw [h0, h1, hf]; exact A
/-- blocks that are open -/
def bka (a : Nat → Nat × List Nat) (n : Int) : List Nat → List (Int × Int × Int × Int) → List Nat → Prop
  | [], [], [] => True
  | z :: pl, b :: bs, t :: bt => ((z = 1 ∨ z = 4 → (b.2.2.1.toNat : Int) < n ∧ a (b.2.2.1.toNat + 1) = (0, t :: bt)) ∧ (z = 2 → (b.2.2.1.toNat : Int) < n ∧ a b.2.2.1.toNat = (0, t :: bt)) ∧ (z = 3 ∨ z = 4 → (b.2.2.2.toNat : Int) < n ∧ a b.2.2.2.toNat = (0, t :: bt))) ∧ bka a n pl bs bt
  | _, _, _ => False
theorem bka.mono {a a' : Nat → Nat × List Nat} {n n' : Int} (hn : n ≤ n') (ha : ∀ k : Nat, (k : Int) ≤ n → a' k = a k) : ∀ {pl : List Nat} {bs : List (Int × Int × Int × Int)} {bt : List Nat}, bka a n pl bs bt → bka a' n' pl bs bt
  | [], [], [], _ => trivial
  | z :: pl, b :: bs, t :: bt, ⟨⟨h1, h2, h3⟩, h5⟩ => by
    refine ⟨⟨fun z => ?_, fun z => ?_, fun z => ?_⟩, bka.mono hn ha h5⟩
    · obtain ⟨x1, x2⟩ := h1 z
      exact ⟨by omega, by rw [ha _ (by omega)]; exact x2⟩
    · obtain ⟨x1, x2⟩ := h2 z
      exact ⟨by omega, by rw [ha _ (by omega)]; exact x2⟩
    · obtain ⟨x1, x2⟩ := h3 z
      exact ⟨by omega, by rw [ha _ (by omega)]; exact x2⟩
  | [], [], _ :: _, z => z.elim
  | [], _ :: _, [], z => z.elim
  | [], _ :: _, _ :: _, z => z.elim
  | _ :: _, [], [], z => z.elim
  | _ :: _, [], _ :: _, z => z.elim
  | _ :: _, _ :: _, [], z => z.elim
def exa (a : Nat → Nat × List Nat) (N : Nat) (l : List (Nat × List Nat)) : Nat → Nat × List Nat := fun k => if k ≤ N then a k else (l[k - N - 1]?).getD (0, [])
theorem exa_lo {a : Nat → Nat × List Nat} {N k : Nat} {l : List (Nat × List Nat)} (h : k ≤ N) : exa a N l k = a k := by unfold exa; rw [if_pos h]
theorem exa_hi {a : Nat → Nat × List Nat} {N j : Nat} {l : List (Nat × List Nat)} {x : Nat × List Nat} (h : l[j]? = some x) : exa a N l (N + j + 1) = x := by unfold exa; rw [if_neg (by omega), show N + j + 1 - N - 1 = j by omega, h]; rfl
def AI (V P : Nat → Int) (S : am_H) (p : pr_S) (s : mi_S) (f : Nat → List (Int × Int × Int)) (a : Nat → Nat × List Nat) (bt : List Nat) (cur : Nat) : Prop :=
  ((p.1 9 = 6 → a (s.1 254 33).toNat = (p.1 6 + objs V S s.2.2.2.2, wt p bt cur)) ∧ (p.1 9 ≠ 6 → a (s.1 254 33).toNat = (0, []))) ∧
  (∀ k : Nat, (k : Int) < s.1 254 33 → ATk V P S f a k) ∧ (∀ k : Nat, (k : Int) ≤ s.1 254 33 → (a k).1 ≤ 352 ∧ (a k).2.length ≤ 26) ∧
  bka a (s.1 254 33) p.2.1 s.2.2.2.1 bt ∧
  (∀ k : Nat, (k : Int) < s.1 254 33 → S 277 k = 15 ∨ S 277 k = 16 → k ∈ hol p.2.1 s.2.2.2.1 ∨ 0 ≤ S 278 k ∧ S 278 k < s.1 254 33 ∧ a (S 278 k).toNat = (0, (a k).2)) ∧
  (p.1 9 = 6 → p.1 16 = 1 → p.1 6 = 0 → p.2.2.1 = [] → p.1 15 = 0 → p.1 10 = cur + 1) ∧
  (∀ q, q < hq p → a (S 269 q).toNat = (0, []))
section
variable {K P V sc ss : Nat → Int} {cs : Nat → Nat} {b21 b15 : Nat} {c0 : am_H} {pE : pr_S} {S : mi_S} {e : gx_V} {es : List gx_V} {p p1 : pr_S} {s s1 : mi_S} {c c1 : ce_S}
def oce (e : gx_V) (s : mi_S) : List Int := match e.1 with
  | 11 => s.1 254 39 :: s.2.2.2.2
  | 12 => s.2.2.2.2.tail
  | _ => s.2.2.2.2
theorem oce_n (h1 : e.1 ≠ 11) (h2 : e.1 ≠ 12) : oce e s = s.2.2.2.2 := by
  unfold oce; split <;> first | rfl | (exfalso; omega)
theorem oce_ev (hm : mi V e s = .inr s1) : s1.2.2.2.2 = oce e s := by
  obtain ⟨g, ty, so, bs, oc⟩ := s
  obtain ⟨n, a, b, d⟩ := e
  have key : gx_P (mi V (n, a, b, d) (g, ty, so, bs, oc)) (fun s1 => s1.2.2.2.2 = oce (n, a, b, d) (g, ty, so, bs, oc)) := by
    have hh : ∀ r, gx_P (mi_h (g, ty, so, bs, oc) r) (fun s1 => s1.2.2.2.2 = oc) := fun r => gx_P_b fun a e => gx_P_i rfl
    unfold mi
    dsimp only
    split
    all_goals first
      | (exact hh _)
      | (exact gx_P_i rfl)
      | (exact gx_P_q fun _ => gx_P_i rfl)
      | (exact gx_P_q fun _ => gx_P_b fun _ _ => gx_P_i rfl)
      | (exact gx_P_q fun _ => gx_P_b fun _ _ => gx_P_b fun _ _ => gx_P_i rfl)
      | skip
    · cases oc with
      | nil => exact fun a e => by cases e
      | cons x l => exact gx_P_b fun _ _ => gx_P_i rfl
    · cases bs with
      | nil => exact fun a e => by cases e
      | cons x l => exact gx_P_q fun _ => gx_P_b fun _ _ => gx_P_i rfl
    · cases bs with
      | nil => exact fun a e => by cases e
      | cons x l => exact gx_P_b fun _ _ => gx_P_b fun _ _ => gx_P_i rfl
    · cases bs with
      | nil => exact fun a e => by cases e
      | cons x l => exact gx_P_b fun _ _ => gx_P_b fun _ _ => gx_P_i rfl
    · cases bs with
      | nil => exact fun a e => by cases e
      | cons x l => exact gx_P_b fun _ _ => gx_P_b fun _ _ => gx_P_i rfl
    · cases bs with
      | nil => exact fun a e => by cases e
      | cons x l => exact gx_P_q fun _ => gx_P_b fun _ _ => gx_P_i rfl
    · cases bs with
      | nil => exact fun a e => by cases e
      | cons x l => exact gx_P_b fun _ _ => gx_P_b fun _ _ => gx_P_b fun _ _ => gx_P_i rfl
    · refine gx_P_q fun _ => ?_
      by_cases hb : b = 1
      · rw [if_pos hb]; exact gx_P_i rfl
      · rw [if_neg hb]; exact gx_P_i rfl
    · exact fun a e => by cases e
  exact key s1 hm
/-- counts of the e of open calls are small -/
theorem rq_cnt (HK : ∀ k : Nat, (k : Int) < S.1 254 39 → pr_cs K V (S.1 283 k).toNat (S.1 284 k)) (HC : ∀ k : Nat, (k : Int) < S.1 254 39 → S.1 284 k ≤ 12) {sub : Int} : ∀ {oc : List Int} {qs : List (Int × Int × Nat)}, rqS S.1 sub oc qs → ∀ q ∈ qs, ∀ z, pr_c K V q.2.1.toNat z → z ≤ 12
  | [], [], _, q, h, _, _ => by cases h
  | [], _ :: _, R, _, _, _, _ => R.elim
  | _ :: _, [], R, _, _, _, _ => R.elim
  | c :: oc, q0 :: qs, R, q, h, z, hz => by
    rcases List.mem_cons.1 h with rfl | h
    · obtain ⟨⟨r0, r1, r2, r3, r4⟩, -⟩ := R
      have a := HK c.toNat (by omega) K (fun _ _ _ => rfl)
      have b := HC c.toNat (by omega)
      rw [r3] at a
      unfold pr_c at a hz
      rw [hz] at a
      cases a
      exact b
    · exact rq_cnt HK HC R.2 q h z hz
end
