/-! PURE LAYER, 77: declarations, subs, classes keep to the protocol -/
section
variable {w : Nat → Nat → Nat} {K V P : Nat → Int} {σ : Type} {C : gx_V → σ → gx_R σ} {π : σ → pr_S} {nx : Nat → gx_R Nat} {sx : Nat → Int × Int} {Z : Nat}
/-- between statements and outside them -/
def pD (Z ph i st : Nat) (p : pr_S) : Prop := p.1 9 = ph ∧ p.1 10 ≤ i ∧ p.1 8 = st ∧ i ≤ Z ∧ (∀ k, p.2.2.2 k ≤ 2 * i + 60) ∧ p.1 6 = 0 ∧ p.2.1 = [] ∧ p.2.2.1 = []
/-- what changes: the counts in l at most -/
def pQ (l : List Nat) (p p' : pr_S) (i j : Nat) : Prop := (∀ n, n ∉ l → p'.1 n = p.1 n) ∧ p'.1 10 ≤ j ∧ p'.2.1 = p.2.1 ∧ p'.2.2.1 = p.2.2.1 ∧ ∀ k, p'.2.2.2 k + 2 * i ≤ p.2.2.2 k + 2 * j
theorem pQ.trans {l : List Nat} {p p' p2 : pr_S} {i j m : Nat} (E : pQ l p p' i j) (F : pQ l p' p2 j m) : pQ l p p2 i m := ⟨fun n h => (F.1 n h).trans (E.1 n h), F.2.1, F.2.2.1.trans E.2.2.1, F.2.2.2.1.trans E.2.2.2.1, fun k => by have := E.2.2.2.2 k; have := F.2.2.2.2 k; omega⟩
theorem pQ.mono {l l' : List Nat} {p p' : pr_S} {i j : Nat} (E : pQ l p p' i j) (h : ∀ n, n ∉ l' → n ∉ l) : pQ l' p p' i j := ⟨fun n hn => E.1 n (h n hn), E.2⟩
theorem pQ.drop {l l' : List Nat} {p p' : pr_S} {i j : Nat} (E : pQ l p p' i j) (h : ∀ n, n ∉ l' → n ∉ l ∨ p'.1 n = p.1 n) : pQ l' p p' i j := ⟨fun n hn => (h n hn).elim (E.1 n) id, E.2⟩
theorem pQ.on {l : List Nat} {p p' : pr_S} {i j m : Nat} (E : pQ l p p' i j) (h : j ≤ m) : pQ l p p' i m := ⟨E.1, by have := E.2.1; omega, E.2.2.1, E.2.2.2.1, fun k => by have := E.2.2.2.2 k; omega⟩
theorem pQ_0 {l : List Nat} {p : pr_S} {ph i st : Nat} (X : pD Z ph i st p) : pQ l p p i i := ⟨fun _ _ => rfl, X.2.1, rfl, rfl, fun k => by omega⟩
theorem pQ.d {l : List Nat} {p p' : pr_S} {ph i j st : Nat} (X : pD Z ph i st p) (E : pQ l p p' i j) (hj : j ≤ Z) (h6 : 6 ∉ l) (h8 : 8 ∉ l) (h9 : 9 ∉ l) : pD Z ph j st p' := ⟨by rw [E.1 9 h9]; exact X.1, E.2.1, by rw [E.1 8 h8]; exact X.2.2.1, hj, fun k => by have := E.2.2.2.2 k; have := X.2.2.2.2.1 k; omega, by rw [E.1 6 h6]; exact X.2.2.2.2.2.1, by rw [E.2.2.1]; exact X.2.2.2.2.2.2.1, by rw [E.2.2.2.1]; exact X.2.2.2.2.2.2.2⟩
theorem pD_b {p : pr_S} {ph i st n : Nat} (H : pr_H w K V C π nx sx Z) (X : pD Z ph i st p) (hn : ∀ k, w k n ≤ 5) : ∀ k, p.2.2.2 k + w k n ≤ 2100 := fun k => by
  have := X.2.2.2.2.1 k
  have := X.2.2.2.1
  have := H.2.2.2.2.1
  have := hn k
  omega
/-- a type -/
theorem xx_type_N (H : pr_H w K V C π nx sx Z) {ph i st : Nat} {s : σ} (X : pD Z ph i st (π s)) (hp : ph = 2 ∨ ph = 3 ∨ ph = 4 ∨ ph = 5) (h14 : (π s).1 14 = 0) : nb (xx_type nx sx K V C i s) (fun a => a.1 = i + 1 ∧ i < Z ∧ pQ [10, 11, 14] (π s) (π a.2) i (i + 1) ∧ (∀ k, (π a.2).2.2.2 k = (π s).2.2.2 k + w k 41) ∧ (π a.2).1 11 = 1) := by
  have hw := H.1
  have hZ := H.2.2.2.2.1
  refine nb_if (H.2.2.2.1 i) (fun c => ?_)
  have hk : K i = 1 ∨ K i = 2 := by
    rcases c with z | z | z | z
    · exact Or.inl z.1
    · exact Or.inl z.1
    · exact Or.inl z.1
    · exact Or.inr z
  have hi := H.2.2.2.2.2.1 i X.2.2.2.1 (by omega)
  have ev : pr w K V (41, (i : Int), 0, 0) (π s) = .inr (pu (pu (pu (π s).1 11 1) 10 ((i : Int).toNat + 1)) 14 1, (π s).2.1, (π s).2.2.1, fun k => (π s).2.2.2 k + w k 41) := by
    refine pr_ok ⟨by rw [X.1]; exact hp, ?_, h14⟩ (pD_b H X (fun k => by have := (hw k).2.2.2.1; omega))
    rcases hk with z | z
    · exact Or.inl (pr_tk X.2.1 (by omega) z)
    · exact Or.inr (pr_tk X.2.1 (by omega) z)
  refine nb_C H ev (fun s1 e1 => nb_n H ?_)
  obtain ⟨q1, q2, q3, q4⟩ := pr_parts e1
  rw [Int.toNat_natCast] at q1
  refine ⟨rfl, hi, ⟨fun n hn => by simp at hn; rw [q1, pu_n _ _ _ _ hn.2.2, pu_n _ _ _ _ hn.1, pu_n _ _ _ _ hn.2.1], by rw [q1]; show i + 1 ≤ i + 1; omega, q2, q3, fun k => ?_⟩, q4, by rw [q1]; rfl⟩
  rw [q4 k]
  have := (hw k).2.2.2.1
  omega
theorem xp_decl_N (H : pr_H w K V C π nx sx Z) (fd : Bool) (x : Nat) (hx : x = if fd = true then 2 else 1) : ∀ (f i n st : Nat) (s : σ), pD Z 2 i st (π s) → (π s).1 11 = 1 ∧ (π s).1 12 = 1 → (π s).1 x = n → Z - i + 1 ≤ f → nb (xp_decl nx sx K V P C fd f i n s) (fun a => i < a.1 ∧ a.1 ≤ Z ∧ pQ [10, x, 14] (π s) (π a.2.2) i a.1 ∧ (π a.2.2).1 x = a.2.1 ∧ (π a.2.2).1 14 = 0)
  | 0, _, _, _, _, _, _, _, h => by omega
  | f + 1, i, n, st, s, X, h11, hn, hf => by
    have hw := H.1
    have hZ := H.2.2.2.2.1
    unfold xp_decl
    refine nb_if (H.2.2.2.1 i) (fun k2 => nb_if (show (2 : Int) < 8 by decide) (fun h12 => ?_))
    have hi := H.2.2.2.2.2.1 i X.2.2.2.1 (by rw [k2]; decide)
    have ev : pr w K V (42, (i : Int), if fd = true then 1 else 0, 0) (π s) = .inr (pu (pu (pu (π s).1 x (n + 1)) 10 (i + 1)) 14 0, (π s).2.1, (π s).2.2.1, fun k => (π s).2.2.2 k + w k 42) := by
      cases fd with
      | true =>
        have hx : x = 2 := hx
        subst hx
        have e : pr w K V (42, (i : Int), 1, 0) (π s) = .inr (pu (pu (pu (π s).1 2 ((π s).1 2 + 1)) 10 ((i : Int).toNat + 1)) 14 0, (π s).2.1, (π s).2.2.1, fun k => (π s).2.2.2 k + w k 42) := pr_ok ⟨X.1, pr_tk X.2.1 (by omega) k2, Or.inl ⟨rfl, by omega⟩, h11⟩ (pD_b H X (fun k => by have := (hw k).2.2.2.1; omega))
        rw [hn, Int.toNat_natCast] at e
        exact e
      | false =>
        have hx : x = 1 := hx
        subst hx
        have e : pr w K V (42, (i : Int), 0, 0) (π s) = .inr (pu (pu (pu (π s).1 1 ((π s).1 1 + 1)) 10 ((i : Int).toNat + 1)) 14 0, (π s).2.1, (π s).2.2.1, fun k => (π s).2.2.2 k + w k 42) := pr_ok ⟨X.1, pr_tk X.2.1 (by omega) k2, Or.inr ⟨rfl, by omega⟩, h11⟩ (pD_b H X (fun k => by have := (hw k).2.2.2.1; omega))
        rw [hn, Int.toNat_natCast] at e
        exact e
    have hx2 : x ≠ 10 ∧ x ≠ 9 ∧ x ≠ 8 ∧ x ≠ 6 ∧ x ≠ 11 ∧ x ≠ 12 ∧ x ≠ 14 := by rw [hx]; cases fd <;> decide
    refine nb_C H ev (fun s1 e1 => nb_n H ?_)
    obtain ⟨q1, q2, q3, q4⟩ := pr_parts e1
    have E : pQ [10, x, 14] (π s) (π s1) i (i + 1) := ⟨fun m hm => by simp at hm; rw [q1, pu_n _ _ _ _ hm.2.2, pu_n _ _ _ _ hm.1, pu_n _ _ _ _ hm.2.1], by rw [q1]; show i + 1 ≤ i + 1; omega, q2, q3, fun k => by rw [q4 k]; have := (hw k).2.2.2.1; omega⟩
    have ex : (π s1).1 x = n + 1 := by rw [q1, pu_n _ _ _ _ hx2.2.2.2.2.2.2, pu_n _ _ _ _ hx2.1, pu_s]
    have e14 : (π s1).1 14 = 0 := by rw [q1]; rfl
    split
    · rename_i s44
      have hi2 := H.2.2.2.2.2.1 (i + 1) (by omega) (by rw [s44.1]; decide)
      have E2 := E.on (show i + 1 ≤ i + 1 + 1 by omega)
      refine nb_n H (nb_imp (xp_decl_N H fd x hx f (i + 1 + 1) (n + 1) st s1 (E2.d X (by omega) (by simp; omega) (by simp; omega) (by simp; omega)) (by rw [E.1 11 (by simp; omega), E.1 12 (by simp; omega)]; exact h11) ex (by omega)) (fun a ha => ?_))
      exact ⟨by have := ha.1; omega, ha.2.1, E2.trans ha.2.2.1, ha.2.2.2⟩
    · exact nb_sg H (by omega) (fun hi2 => ⟨by show i < i + 1 + 1; omega, by show i + 1 + 1 ≤ Z; omega, E.on (by show i + 1 ≤ i + 1 + 1; omega), ex, e14⟩)
theorem xp_varn_N (H : pr_H w K V C π nx sx Z) : ∀ (f i n st : Nat) (s : σ), pD Z 5 i st (π s) → (π s).1 11 = 1 ∧ (π s).1 13 = 1 → (π s).1 5 = n → Z - i + 1 ≤ f → nb (xp_varn nx sx K V P C f i n s) (fun a => i < a.1 ∧ a.1 ≤ Z ∧ pQ [10, 5, 14] (π s) (π a.2.2) i a.1 ∧ (π a.2.2).1 5 = a.2.1 ∧ (π a.2.2).1 14 = 0)
  | 0, _, _, _, _, _, _, _, h => by omega
  | f + 1, i, n, st, s, X, h11, hn, hf => by
    have hw := H.1
    have hZ := H.2.2.2.2.1
    unfold xp_varn
    refine nb_if (H.2.2.2.1 i) (fun k2 => nb_if (show (2 : Int) < 8 by decide) (fun h12 => ?_))
    have hi := H.2.2.2.2.2.1 i X.2.2.2.1 (by rw [k2]; decide)
    have ev : pr w K V (50, (i : Int), 0, 0) (π s) = .inr (pu (pu (pu (π s).1 5 ((π s).1 5 + 1)) 10 ((i : Int).toNat + 1)) 14 0, (π s).2.1, (π s).2.2.1, fun k => (π s).2.2.2 k + w k 50) := pr_ok ⟨X.1, by omega, pr_tk X.2.1 (by omega) k2, h11⟩ (pD_b H X (fun k => by have := (hw k).2.2.2.1; omega))
    rw [hn, Int.toNat_natCast] at ev
    refine nb_C H ev (fun s1 e1 => nb_n H ?_)
    obtain ⟨q1, q2, q3, q4⟩ := pr_parts e1
    have E : pQ [10, 5, 14] (π s) (π s1) i (i + 1) := ⟨fun m hm => by simp at hm; rw [q1, pu_n _ _ _ _ hm.2.2, pu_n _ _ _ _ hm.1, pu_n _ _ _ _ hm.2.1], by rw [q1]; show i + 1 ≤ i + 1; omega, q2, q3, fun k => by rw [q4 k]; have := (hw k).2.2.2.1; omega⟩
    have ex : (π s1).1 5 = n + 1 := by rw [q1]; rfl
    have e14 : (π s1).1 14 = 0 := by rw [q1]; rfl
    split
    · rename_i s44
      have hi2 := H.2.2.2.2.2.1 (i + 1) (by omega) (by rw [s44.1]; decide)
      have E2 := E.on (show i + 1 ≤ i + 1 + 1 by omega)
      refine nb_n H (nb_imp (xp_varn_N H f (i + 1 + 1) (n + 1) st s1 (E2.d X (by omega) (by simp) (by simp) (by simp)) (by rw [E.1 11 (by simp), E.1 13 (by simp)]; exact h11) ex (by omega)) (fun a ha => ?_))
      exact ⟨by have := ha.1; omega, ha.2.1, E2.trans ha.2.2.1, ha.2.2.2⟩
    · exact nb_sg H (by omega) (fun hi2 => ⟨by show i < i + 1 + 1; omega, by show i + 1 + 1 ≤ Z; omega, E.on (by show i + 1 ≤ i + 1 + 1; omega), ex, e14⟩)
theorem xp_vars_N (H : pr_H w K V C π nx sx Z) {g : Nat} (hg : Z + 1 ≤ g) : ∀ (f i vn fn st : Nat) (s : σ), pD Z 2 i st (π s) → (π s).1 12 = 1 ∧ (π s).1 14 = 0 → (π s).1 1 = vn → (π s).1 2 = fn → Z - i + 1 ≤ f → nb (xp_vars nx sx K V P C g f i vn fn s) (fun a => i ≤ a.1 ∧ a.1 ≤ Z ∧ pQ [10, 11, 1, 2] (π s) (π a.2.2.2) i a.1 ∧ (π a.2.2.2).1 1 = a.2.1 ∧ (π a.2.2.2).1 2 = a.2.2.1)
  | 0, _, _, _, _, _, _, _, _, _, h => by omega
  | f + 1, i, vn, fn, st, s, X, h12, hv, hfn, hf => by
    have hZ := H.2.2.2.2.1
    -- behind the word: a type, names
    have go : ∀ (fd : Bool) (x n : Nat) {F : Nat × Nat × σ → gx_R (Nat × Nat × Nat × σ)} {Q : Nat × Nat × Nat × σ → Prop}, x = (if fd = true then 2 else 1) → (π s).1 x = n → i < Z → (∀ (r : Nat × Nat × σ), i < r.1 → r.1 ≤ Z → pQ [10, 11, x] (π s) (π r.2.2) i r.1 → (π r.2.2).1 x = r.2.1 → nb (F r) Q) → nb (gx_b (nx i) fun j => gx_b (xx_type nx sx K V C j s) fun r => gx_b (xp_decl nx sx K V P C fd g r.1 n r.2) F) Q := by
      intro fd x n F Q hx hn hi hk
      refine nb_n H ?_
      have E1 : pQ [10, 11, x] (π s) (π s) i (i + 1) := (pQ_0 X).on (by omega)
      have hx2 : x ≠ 10 ∧ x ≠ 9 ∧ x ≠ 8 ∧ x ≠ 6 ∧ x ≠ 11 ∧ x ≠ 12 ∧ x ≠ 14 := by rw [hx]; cases fd <;> decide
      have Y1 := E1.d X (by omega) (by simp; omega) (by simp; omega) (by simp; omega)
      refine nb_b (xx_type_N H Y1 (by omega) h12.2) (fun r h => ?_)
      obtain ⟨r1, r2, A, -, a11⟩ := h
      have A2 : pQ [10, 11, x, 14] (π s) (π r.2) i (i + 1 + 1) := (E1.mono (fun m hm => by simp at hm ⊢; exact ⟨hm.1, hm.2.1, hm.2.2.1⟩)).trans (A.mono (fun m hm => by simp at hm ⊢; exact ⟨hm.1, hm.2.1, hm.2.2.2⟩))
      have Y2 := A2.d X (by omega) (by simp; omega) (by simp; omega) (by simp; omega)
      rw [r1]
      have ex : (π r.2).1 x = n := by rw [A.1 x (by simp; exact ⟨hx2.1, hx2.2.2.2.2.1, hx2.2.2.2.2.2.2⟩)]; exact hn
      refine nb_b (xp_decl_N H fd x hx g (i + 1 + 1) n st r.2 Y2 ⟨a11, by rw [A.1 12 (by simp)]; exact h12.1⟩ ex (by omega)) (fun r2 h2 => ?_)
      have A3 := A2.trans (h2.2.2.1.mono (l' := [10, 11, x, 14]) (fun m hm => by simp at hm ⊢; exact ⟨hm.1, hm.2.2.1, hm.2.2.2⟩))
      exact hk r2 (by have := h2.1; omega) h2.2.1 (A3.drop (fun m hm => by
        by_cases c : m = 14
        · subst c; exact Or.inr (by rw [h2.2.2.2.2, h12.2])
        · left; simp at hm ⊢; exact ⟨hm.1, hm.2.1, hm.2.2, c⟩)) h2.2.2.2.1
    unfold xp_vars
    split
    · rename_i w5
      have hi := H.2.2.2.2.2.1 i X.2.2.2.1 (by rw [w5.1]; decide)
      refine go false 1 vn rfl hv hi (fun r r1 r2 A ex => ?_)
      have A2 : pQ [10, 11, 1, 2] (π s) (π r.2.2) i r.1 := A.mono (fun m hm => by simp at hm ⊢; exact ⟨hm.1, hm.2.1, hm.2.2.1⟩)
      refine nb_imp (xp_vars_N H hg f r.1 r.2.1 fn st r.2.2 (A2.d X r2 (by simp) (by simp) (by simp)) (by rw [A2.1 12 (by simp), A2.1 14 (by simp)]; exact h12) ex (by rw [A.1 2 (by simp)]; exact hfn) (by omega)) (fun a ha => ?_)
      exact ⟨by have := ha.1; omega, ha.2.1, A2.trans ha.2.2.1, ha.2.2.2⟩
    split
    · rename_i w4
      have hi := H.2.2.2.2.2.1 i X.2.2.2.1 (by rw [w4.1]; decide)
      refine go true 2 fn rfl hfn hi (fun r r1 r2 A ex => ?_)
      have A2 : pQ [10, 11, 1, 2] (π s) (π r.2.2) i r.1 := A.mono (fun m hm => by simp at hm ⊢; exact ⟨hm.1, hm.2.1, hm.2.2.2⟩)
      refine nb_imp (xp_vars_N H hg f r.1 vn r.2.1 st r.2.2 (A2.d X r2 (by simp) (by simp) (by simp)) (by rw [A2.1 12 (by simp), A2.1 14 (by simp)]; exact h12) (by rw [A.1 1 (by simp)]; exact hv) ex (by omega)) (fun a ha => ?_)
      exact ⟨by have := ha.1; omega, ha.2.1, A2.trans ha.2.2.1, ha.2.2.2⟩
    · exact ⟨Nat.le_refl _, X.2.2.2.1, pQ_0 X, hv, hfn⟩
theorem xp_pars_N (H : pr_H w K V C π nx sx Z) : ∀ (f i n st : Nat) (s : σ), pD Z 4 i st (π s) → (π s).1 13 = 1 ∧ (π s).1 14 = 0 → (π s).1 4 = n → Z - i + 1 ≤ f → nb (xp_pars nx sx K V P C f i n s) (fun a => i < a.1 ∧ a.1 ≤ Z ∧ pQ [10, 11, 4] (π s) (π a.2) i a.1 ∧ ∀ k, (π a.2).2.2.2 k + 2 * i + 2 ≤ (π s).2.2.2 k + 2 * a.1)
  | 0, _, _, _, _, _, _, _, h => by omega
  | f + 1, i, n, st, s, X, h13, hn, hf => by
    have hw := H.1
    have hZ := H.2.2.2.2.1
    unfold xp_pars
    split
    · rename_i s41
      have hi := H.2.2.2.2.2.1 i X.2.2.2.1 (by rw [s41.1]; decide)
      exact nb_n H ⟨by show i < i + 1; omega, by show i + 1 ≤ Z; omega, (pQ_0 X).on (by show i ≤ i + 1; omega), fun k => by show (π s).2.2.2 k + 2 * i + 2 ≤ _ + 2 * (i + 1); omega⟩
    · refine nb_b (Q := fun j => (j = i ∨ j = i + 1) ∧ j ≤ Z) ?_ (fun j hj => ?_)
      · split
        · exact ⟨Or.inl rfl, X.2.2.2.1⟩
        · have t := nb_sg (c := 44) (f := fun j => (.inr j : gx_R Nat)) (Q := fun j => (j = i ∨ j = i + 1) ∧ j ≤ Z) H X.2.2.2.1 (fun hi => ⟨Or.inr rfl, by omega⟩)
          rw [gx_b_id] at t
          exact t
      · have E1 : pQ [10, 11, 4] (π s) (π s) i j := (pQ_0 X).on (by omega)
        have Y1 := E1.d X hj.2 (by simp) (by simp) (by simp)
        refine nb_b (xx_type_N H Y1 (by omega) h13.2) (fun r h => ?_)
        obtain ⟨r1, r2, A, ea, a11⟩ := h
        have A2 : pQ [10, 11, 4, 14] (π s) (π r.2) i (j + 1) := (E1.mono (fun m hm => by simp at hm ⊢; exact ⟨hm.1, hm.2.1, hm.2.2.1⟩)).trans (A.mono (fun m hm => by simp at hm ⊢; exact ⟨hm.1, hm.2.1, hm.2.2.2⟩))
        have Y2 := A2.d X (by omega) (by simp) (by simp) (by simp)
        rw [r1]
        refine nb_if (H.2.2.2.1 _) (fun k2 => nb_if (show (2 : Int) < 8 by decide) (fun h12 => ?_))
        have hi := H.2.2.2.2.2.1 (j + 1) (by omega) (by rw [k2]; decide)
        have e4 : (π r.2).1 4 = n := by rw [A.1 4 (by simp)]; exact hn
        have ev : pr w K V (46, ((j + 1 : Nat) : Int), 0, 0) (π r.2) = .inr (pu (pu (pu (π r.2).1 4 ((π r.2).1 4 + 1)) 10 (((j + 1 : Nat) : Int).toNat + 1)) 14 0, (π r.2).2.1, (π r.2).2.2.1, fun k => (π r.2).2.2.2 k + w k 46) := pr_ok ⟨Y2.1, by omega, pr_tk Y2.2.1 (by omega) k2, a11, by rw [A2.1 13 (by simp)]; exact h13.1⟩ (pD_b H Y2 (fun k => by have := (hw k).2.2.2.1; omega))
        rw [e4, Int.toNat_natCast] at ev
        refine nb_C H ev (fun s1 e1 => nb_n H ?_)
        obtain ⟨q1, q2, q3, q4⟩ := pr_parts e1
        have E : pQ [10, 11, 4, 14] (π r.2) (π s1) (j + 1) (j + 1 + 1) := ⟨fun m hm => by simp at hm; rw [q1, pu_n _ _ _ _ hm.2.2.2, pu_n _ _ _ _ hm.1, pu_n _ _ _ _ hm.2.2.1], by rw [q1]; show j + 1 + 1 ≤ j + 1 + 1; omega, q2, q3, fun k => by rw [q4 k]; have := (hw k).2.2.2.1; omega⟩
        have e14 : (π s1).1 14 = 0 := by rw [q1]; rfl
        have E3 : pQ [10, 11, 4] (π s) (π s1) i (j + 1 + 1) := (A2.trans E).drop (fun m hm => by
          by_cases c : m = 14
          · subst c; exact Or.inr (by rw [e14, h13.2])
          · left; simp at hm ⊢; exact ⟨hm.1, hm.2.1, hm.2.2, c⟩)
        refine nb_imp (xp_pars_N H f (j + 1 + 1) (n + 1) st s1 (E3.d X (by omega) (by simp) (by simp) (by simp)) (by rw [E3.1 13 (by simp)]; exact ⟨h13.1, e14⟩) (by rw [q1]; rfl) (by omega)) (fun a ha => ?_)
        exact ⟨by have := ha.1; omega, ha.2.1, E3.trans ha.2.2.1, fun k => by have := ha.2.2.2 k; have := E3.2.2.2.2 k; omega⟩
theorem xp_locs_N (H : pr_H w K V C π nx sx Z) {g : Nat} (hg : Z + 1 ≤ g) : ∀ (f i n st : Nat) (s : σ), pD Z 5 i st (π s) → (π s).1 13 = 1 ∧ (π s).1 14 = 0 → (π s).1 5 = n → Z - i + 1 ≤ f → nb (xp_locs nx sx K V P C g f i n s) (fun a => i ≤ a.1 ∧ a.1 ≤ Z ∧ pQ [10, 11, 5] (π s) (π a.2) i a.1)
  | 0, _, _, _, _, _, _, _, h => by omega
  | f + 1, i, n, st, s, X, h13, hn, hf => by
    have hZ := H.2.2.2.2.1
    unfold xp_locs
    split
    · rename_i w6
      have hi := H.2.2.2.2.2.1 i X.2.2.2.1 (by rw [w6.1]; decide)
      refine nb_n H ?_
      have E1 : pQ [10, 11, 5] (π s) (π s) i (i + 1) := (pQ_0 X).on (by omega)
      have Y1 := E1.d X (by omega) (by simp) (by simp) (by simp)
      refine nb_b (xx_type_N H Y1 (by omega) h13.2) (fun r h => ?_)
      obtain ⟨r1, r2, A, -, a11⟩ := h
      have A2 : pQ [10, 11, 5, 14] (π s) (π r.2) i (i + 1 + 1) := (E1.mono (fun m hm => by simp at hm ⊢; exact ⟨hm.1, hm.2.1, hm.2.2.1⟩)).trans (A.mono (fun m hm => by simp at hm ⊢; exact ⟨hm.1, hm.2.1, hm.2.2.2⟩))
      have Y2 := A2.d X (by omega) (by simp) (by simp) (by simp)
      rw [r1]
      refine nb_b (xp_varn_N H g (i + 1 + 1) n st r.2 Y2 ⟨a11, by rw [A2.1 13 (by simp)]; exact h13.1⟩ (by rw [A.1 5 (by simp)]; exact hn) (by omega)) (fun r2 h2 => ?_)
      have A3 : pQ [10, 11, 5] (π s) (π r2.2.2) i r2.1 := (A2.trans (h2.2.2.1.mono (l' := [10, 11, 5, 14]) (fun m hm => by simp at hm ⊢; exact ⟨hm.1, hm.2.2.1, hm.2.2.2⟩))).drop (fun m hm => by
        by_cases c : m = 14
        · subst c; exact Or.inr (by rw [h2.2.2.2.2, h13.2])
        · left; simp at hm ⊢; exact ⟨hm.1, hm.2.1, hm.2.2, c⟩)
      refine nb_imp (xp_locs_N H hg f r2.1 r2.2.1 st r2.2.2 (A3.d X h2.2.1 (by simp) (by simp) (by simp)) (by rw [A3.1 13 (by simp), A3.1 14 (by simp)]; exact h13) h2.2.2.2.1 (by have := h2.1; omega)) (fun a ha => ?_)
      exact ⟨by have := ha.1; have := h2.1; omega, ha.2.1, A3.trans ha.2.2⟩
    · exact ⟨Nat.le_refl _, X.2.2.2.1, pQ_0 X⟩
end
