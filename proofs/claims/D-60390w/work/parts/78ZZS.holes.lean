/-! PURE LAYER, 124: what items hold stays, but for where jumps lead -/
def my (g x : am_H) : Prop := g 254 33 ≤ x 254 33 ∧ ∀ k : Nat, (k : Int) < g 254 33 → x 279 k = g 279 k ∧ (g 277 k ≠ 15 → g 277 k ≠ 16 → x 278 k = g 278 k)
/-- holes of blocks that are open are jumps; their labels are the component's -/
def bw (S : am_H) (n : Int) : List Nat → List (Int × Int × Int × Int) → List (Int × Int × Int × Int) → Prop
  | [], [], [] => True
  | a :: pl, b :: bs, q :: st => (b.2.1 = q.1 ∧ 0 ≤ b.2.1 ∧ (a = 1 ∨ a = 4 → 0 ≤ b.2.2.1 ∧ b.2.2.1 < n ∧ S 277 b.2.2.1.toNat = 15) ∧ (a = 2 → 0 ≤ b.2.2.1 ∧ b.2.2.1 < n ∧ S 277 b.2.2.1.toNat = 16)) ∧ bw S n pl bs st
  | _, _, _ => False
section
variable {S g x : am_H}
theorem bw.mono {n m : Int} (h : n ≤ m) : ∀ {pl : List Nat} {bs st : List (Int × Int × Int × Int)}, bw S n pl bs st → bw S m pl bs st
  | [], [], [], _ => trivial
  | a :: pl, b :: bs, q :: st, ⟨⟨h1, h2, h3, h4⟩, h5⟩ => ⟨⟨h1, h2, fun z => ⟨(h3 z).1, by have := (h3 z).2.1; omega, (h3 z).2.2⟩, fun z => ⟨(h4 z).1, by have := (h4 z).2.1; omega, (h4 z).2.2⟩⟩, bw.mono h h5⟩
  | [], [], _ :: _, z => z.elim
  | [], _ :: _, [], z => z.elim
  | [], _ :: _, _ :: _, z => z.elim
  | _ :: _, [], [], z => z.elim
  | _ :: _, [], _ :: _, z => z.elim
  | _ :: _, _ :: _, [], z => z.elim
theorem my.refl (g : am_H) : my g g := ⟨Int.le_refl _, fun _ _ => ⟨rfl, fun _ _ => rfl⟩⟩
theorem my.up (M : my g x) {a k : Nat} {v : Int} (ha : a ≠ 278 ∧ a ≠ 279 ∧ a ≠ 254) : my g (am_up x a k v) := ⟨by rw [p_up_c _ _ _ _ _ (by omega)]; exact M.1, fun j hj => by rw [p_up_c _ _ _ _ _ (by omega), p_up_c _ _ _ _ _ (by omega)]; exact M.2 j hj⟩
theorem my.upf (M : my g x) {k : Nat} {v : Int} (hk : k ≠ 33) : my g (am_up x 254 k v) := ⟨by rw [p_up_n _ _ _ _ _ _ (Or.inr (by omega))]; exact M.1, fun j hj => by rw [p_up_c _ _ _ _ _ (by decide), p_up_c _ _ _ _ _ (by decide)]; exact M.2 j hj⟩
theorem my.put (M : my g x) (k a b t : Int) (h33 : 0 ≤ g 254 33) : my g (mi_put k a b t x) := by
  refine ⟨by rw [mi_put_33]; have := M.1; omega, fun j hj => ?_⟩
  have := M.1
  unfold mi_put
  rw [p_up_c _ _ _ _ _ (by decide), p_up_c _ _ _ _ _ (by decide), p_up_c _ _ _ _ _ (by decide), p_up_n _ _ _ _ 279 j (Or.inr (by omega)), p_up_c _ _ _ _ _ (by decide), p_up_c _ _ _ _ _ (by decide)]
  rw [p_up_c _ _ _ _ 278 (by decide), p_up_c _ _ _ _ 278 (by decide), p_up_c _ _ _ _ 278 (by decide), p_up_c _ _ _ _ 278 (by decide), p_up_n _ _ _ _ 278 j (Or.inr (by omega)), p_up_c _ _ _ _ _ (by decide)]
  exact M.2 j hj
theorem my.add (M : my g x) (k a b t : Int) (h33 : 0 ≤ g 254 33) : gx_P (mi_add k a b t x) (my g) := gx_P_q fun _ => gx_P_i (M.put k a b t h33)
theorem my.hole (M : my g x) {k : Nat} {v : Int} (hk : g 277 k = 15 ∨ g 277 k = 16) : my g (am_up x 278 k v) := by
  refine ⟨by rw [p_up_c _ _ _ _ _ (by decide)]; exact M.1, fun j hj => ⟨by rw [p_up_c _ _ _ _ _ (by decide)]; exact (M.2 j hj).1, fun z1 z2 => ?_⟩⟩
  rw [p_up_n _ _ _ _ _ _ (Or.inr (fun e => by rw [e] at z1 z2; omega))]
  exact (M.2 j hj).2 z1 z2
theorem my.blk (M : my g x) (k : Nat) (a b c e : Int) : my g (mi_blk k a b c e x) := ((((M.up (by decide)).up (by decide)).up (by decide)).up (by decide)).upf (by decide)
theorem my.call (M : my g x) (a b : Int) : my g (mi_call a b x) := ((((M.upf (by decide)).up (by decide)).up (by decide)).up (by decide)).up (by decide)
theorem my.dec (M : my g x) (x1 x2 x3 x4 x5 x6 : Int) : my g (mi_dec x1 x2 x3 x4 x5 x6 x) := (((((((M.up (by decide)).up (by decide)).up (by decide)).up (by decide)).up (by decide)).up (by decide)).up (by decide)).upf (by decide)
theorem my.hh {s : mi_S} {r : gx_R am_H} (H : gx_P r (my s.1)) : gx_P (mi_h s r) (fun s1 => my s.1 s1.1) := gx_P_b fun a e => gx_P_i (H a e)
theorem my.trans {a b c : am_H} (A : my a b) (B : my b c) (h : ∀ k : Nat, (k : Int) < a 254 33 → b 277 k = a 277 k) : my a c := ⟨Int.le_trans A.1 B.1, fun k hk => by
  have x := A.2 k hk
  have y := B.2 k (by have := A.1; omega)
  rw [h k hk] at y
  exact ⟨y.1.trans x.1, fun z1 z2 => (y.2 z1 z2).trans (x.2 z1 z2)⟩⟩
variable {V : Nat → Int} {e : gx_V} {s s' : mi_S} {K : Nat → Int} {p p' : pr_S}
/-- every event -/
theorem my_ev {w : Nat → Nat → Nat} (hp : pr w K V e p = .inr p') (hm : mi V e s = .inr s') (h33 : 0 ≤ s.1 254 33) {st : List (Int × Int × Int × Int)} (B : bw S (s.1 254 33) p.2.1 s.2.2.2.1 st) (h277 : ∀ k : Nat, (k : Int) < s.1 254 33 → S 277 k = s.1 277 k) : my s.1 s'.1 := by
  obtain ⟨g, ty, so, bs, oc⟩ := s
  obtain ⟨n, a, b, c⟩ := e
  dsimp only at h33 B h277
  have M := my.refl g
  have two : ∀ (k a b t k2 a2 b2 t2 : Int), gx_P (gx_b (mi_add k a b t g) (mi_add k2 a2 b2 t2)) (my g) := fun k a b t k2 a2 b2 t2 => gx_P_b fun g1 e1 => (M.add k a b t h33 g1 e1).add k2 a2 b2 t2 h33
  -- a hole that is open
  have hole : ∀ (q : Int × Int × Int × Int) (l : List (Int × Int × Int × Int)) (a : Nat) (pl : List Nat), bs = q :: l → p.2.1 = a :: pl → (a = 1 ∨ a = 2 ∨ a = 4) → g 277 q.2.2.1.toNat = 15 ∨ g 277 q.2.2.1.toNat = 16 := by
    intro q l a pl h1 h2 h3
    rw [h1, h2] at B
    cases st with
    | nil => exact B.elim
    | cons r st =>
      obtain ⟨⟨-, -, b3, b4⟩, -⟩ := B
      rcases h3 with z | z | z
      · have := b3 (Or.inl z)
        left; rw [← h277 _ (by omega)]; exact this.2.2
      · have := b4 z
        right; rw [← h277 _ (by omega)]; exact this.2.2
      · have := b3 (Or.inr z)
        left; rw [← h277 _ (by omega)]; exact this.2.2
  have hd : ∀ z : Nat, p.2.1.head? = some z → ∃ pl, p.2.1 = z :: pl := fun z hz => by
    cases hq : p.2.1 with
    | nil => rw [hq] at hz; cases hz
    | cons y pl => rw [hq] at hz; cases hz; exact ⟨pl, rfl⟩
  show my g s'.1
  unfold mi at hm
  dsimp only at hm
  split at hm
  all_goals first
    | (exact my.hh (s := (g, ty, so, bs, oc)) (M.add _ _ _ _ h33) s' hm)
    | (exact my.hh (s := (g, ty, so, bs, oc)) (two _ _ _ _ _ _ _ _) s' hm)
    | (cases hm; exact M)
    | skip
  · exact (show gx_P (ce_q (g 254 39 < 990) (gx_b (mi_add 9 (g 254 39) 0 0 (mi_call (if c = 1 then a else -1) b g)) fun g1 => (.inr (g1, ty, so, bs, g 254 39 :: oc) : gx_R mi_S))) (fun s1 => my g s1.1) from gx_P_q fun _ => gx_P_b fun g1 e1 => gx_P_i ((M.call _ _).add _ _ _ _ h33 g1 e1)) s' hm
  · cases oc with
    | nil => cases hm
    | cons x l => exact (show gx_P (gx_b (mi_add 10 x 0 0 (am_up g 284 x.toNat c)) fun g1 => (.inr (g1, ty, so, bs, l) : gx_R mi_S)) (fun s1 => my g s1.1) from gx_P_b fun g1 e1 => gx_P_i ((M.up (by decide)).add _ _ _ _ h33 g1 e1)) s' hm
  · exact (show gx_P (ce_q (0 ≤ g 254 50 ∧ g 254 50 < 99990) (.inr (am_up g 254 50 (g 254 50 + 2), ty, so, (1, g 254 50, 0, g 254 33) :: bs, oc) : gx_R mi_S)) (fun s1 => my g s1.1) from gx_P_q fun _ => gx_P_i (M.upf (by decide))) s' hm
  · cases bs with
    | nil => cases hm
    | cons b l => exact (show gx_P (ce_q (l.length < 40) (gx_b (mi_add 15 0 b.2.1 0 g) fun g1 => (.inr (mi_blk l.length 1 b.2.1 (g 254 33) b.2.2.2 g1, ty, so, (1, b.2.1, g 254 33, b.2.2.2) :: l, oc) : gx_R mi_S))) (fun s1 => my g s1.1) from gx_P_q fun _ => gx_P_b fun g1 e1 => gx_P_i ((M.add _ _ _ _ h33 g1 e1).blk _ _ _ _ _)) s' hm
  · cases hbs : bs with
    | nil => rw [hbs] at hm; cases hm
    | cons b l =>
      rw [hbs] at hm
      obtain ⟨hc, -, -⟩ := pr_q_in hp
      obtain ⟨pl, hpl⟩ := hd _ hc.2.2.1
      have ho := hole b l 1 pl hbs hpl (by omega)
      exact (show gx_P (gx_b (mi_add 16 0 (b.2.1 + 1) 0 (am_up g 254 55 (l.length : Int))) fun g1 => gx_b (mi_add 20 b.2.1 0 0 g1) fun g2 => (.inr (mi_blk l.length 2 b.2.1 (g 254 33) 0 (am_up g2 278 b.2.2.1.toNat (g1 254 33)), ty, so, (2, b.2.1, g 254 33, 0) :: l, oc) : gx_R mi_S)) (fun s1 => my g s1.1) from gx_P_b fun g1 e1 => gx_P_b fun g2 e2 => gx_P_i ((((M.upf (by decide)).add _ _ _ _ h33 g1 e1).add _ _ _ _ h33 g2 e2 |>.hole ho).blk _ _ _ _ _)) s' hm
  · cases hbs : bs with
    | nil => rw [hbs] at hm; cases hm
    | cons b l =>
      rw [hbs] at hm
      obtain ⟨hc, -, -⟩ := pr_q_in hp
      obtain ⟨pl, hpl⟩ := hd _ hc.2.2.1
      have ho := hole b l 1 pl hbs hpl (by omega)
      exact (show gx_P (gx_b (mi_add 20 b.2.1 0 0 (am_up g 254 55 (l.length : Int))) fun g1 => gx_b (mi_add 12 0 0 0 (am_up g1 278 b.2.2.1.toNat (g 254 33))) fun g2 => (.inr (g2, ty, so, l, oc) : gx_R mi_S)) (fun s1 => my g s1.1) from gx_P_b fun g1 e1 => gx_P_b fun g2 e2 => gx_P_i (((M.upf (by decide)).add _ _ _ _ h33 g1 e1 |>.hole ho).add _ _ _ _ h33 g2 e2)) s' hm
  · cases hbs : bs with
    | nil => rw [hbs] at hm; cases hm
    | cons b l =>
      rw [hbs] at hm
      obtain ⟨hc, -, -⟩ := pr_q_in hp
      obtain ⟨pl, hpl⟩ := hd _ hc.2.2.1
      have ho := hole b l 2 pl hbs hpl (by omega)
      exact (show gx_P (gx_b (mi_add 20 (b.2.1 + 1) 0 0 (am_up g 254 55 (l.length : Int))) fun g1 => gx_b (mi_add 12 0 0 0 (am_up g1 278 b.2.2.1.toNat (g 254 33))) fun g2 => (.inr (g2, ty, so, l, oc) : gx_R mi_S)) (fun s1 => my g s1.1) from gx_P_b fun g1 e1 => gx_P_b fun g2 e2 => gx_P_i (((M.upf (by decide)).add _ _ _ _ h33 g1 e1 |>.hole ho).add _ _ _ _ h33 g2 e2)) s' hm
  · exact (show gx_P (ce_q (0 ≤ g 254 50 ∧ g 254 50 < 99990) (gx_b (mi_add 20 (g 254 50) 0 0 (am_up g 254 50 (g 254 50 + 2))) fun g1 => gx_b (mi_add 17 0 0 0 g1) fun g2 => (.inr (g2, ty, so, (3, g 254 50, 0, g 254 33) :: bs, oc) : gx_R mi_S))) (fun s1 => my g s1.1) from gx_P_q fun _ => gx_P_b fun g1 e1 => gx_P_b fun g2 e2 => gx_P_i (((M.upf (by decide)).add _ _ _ _ h33 g1 e1).add _ _ _ _ h33 g2 e2)) s' hm
  · cases bs with
    | nil => cases hm
    | cons b l => exact (show gx_P (ce_q (l.length < 40) (gx_b (mi_add 15 0 (b.2.1 + 1) 0 g) fun g1 => (.inr (mi_blk l.length 3 b.2.1 (g 254 33) b.2.2.2 g1, ty, so, (3, b.2.1, g 254 33, b.2.2.2) :: l, oc) : gx_R mi_S))) (fun s1 => my g s1.1) from gx_P_q fun _ => gx_P_b fun g1 e1 => gx_P_i ((M.add _ _ _ _ h33 g1 e1).blk _ _ _ _ _)) s' hm
  · cases hbs : bs with
    | nil => rw [hbs] at hm; cases hm
    | cons b l =>
      rw [hbs] at hm
      obtain ⟨hc, -, -⟩ := pr_q_in hp
      obtain ⟨pl, hpl⟩ := hd _ hc.2.2.1
      have ho := hole b l 4 pl hbs hpl (by omega)
      exact (show gx_P (gx_b (mi_add 16 b.2.2.2 b.2.1 0 (am_up g 254 55 (l.length : Int))) fun g1 => gx_b (mi_add 20 (b.2.1 + 1) 0 0 g1) fun g2 => gx_b (mi_add 12 0 0 0 (am_up g2 278 b.2.2.1.toNat (g1 254 33))) fun g3 => (.inr (g3, ty, so, l, oc) : gx_R mi_S)) (fun s1 => my g s1.1) from gx_P_b fun g1 e1 => gx_P_b fun g2 e2 => gx_P_b fun g3 e3 => gx_P_i ((((M.upf (by decide)).add _ _ _ _ h33 g1 e1).add _ _ _ _ h33 g2 e2 |>.hole ho).add _ _ _ _ h33 g3 e3)) s' hm
  · unfold ce_q at hm
    split at hm
    · split at hm
      · cases hm; exact (M.dec _ _ _ _ _ _).up (by decide)
      · cases hm; exact ((M.dec _ _ _ _ _ _).upf (by decide)).upf (by decide)
    · cases hm
  · unfold ce_q at hm
    split at hm
    · cases hm; exact (M.dec _ _ _ _ _ _).up (by decide)
    · cases hm
  · unfold ce_q at hm
    split at hm
    · cases hm; exact (M.dec _ _ _ _ _ _).up (by decide)
    · cases hm
  · cases hm
end
