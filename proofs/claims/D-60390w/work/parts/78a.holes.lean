/-! PURE LAYER, 132: where jumps lead, in the end -/
/-- jumps whose goal is not known yet -/
def hol : List Nat → List (Int × Int × Int × Int) → List Nat
  | a :: pl, b :: bs => if a = 1 ∨ a = 2 ∨ a = 4 then b.2.2.1.toNat :: hol pl bs else hol pl bs
  | _, _ => []
/-- goals of jumps that are known stay -/
def hx (g x : am_H) (l l' : List Nat) : Prop := (∀ k : Nat, (k : Int) < g 254 33 → k ∉ l → x 278 k = g 278 k) ∧ ∀ k ∈ l', k ∈ l ∨ (g 254 33).toNat ≤ k
section
variable {K V : Nat → Int} {e : gx_V} {p p1 : pr_S} {s s1 : mi_S} {g x : am_H} {S : am_H}
theorem bw.hol_lt {n : Int} : ∀ {pl : List Nat} {bs st : List (Int × Int × Int × Int)}, bw S n pl bs st → ∀ k ∈ hol pl bs, (k : Int) < n
  | [], bs, st, B, k, h => by cases bs <;> cases h
  | a :: pl, [], st, B, k, h => by cases h
  | a :: pl, b :: bs, [], B, k, h => B.elim
  | a :: pl, b :: bs, q :: st, ⟨⟨b1, b2, b3, b4⟩, b5⟩, k, h => by
    unfold hol at h
    split at h
    · rcases List.mem_cons.1 h with rfl | h
      · rename_i c
        rcases c with c | c | c
        · have := b3 (Or.inl c); omega
        · have := b4 c; omega
        · have := b3 (Or.inr c); omega
      · exact bw.hol_lt b5 k h
    · exact bw.hol_lt b5 k h
/-- only the row of a hole changes -/
def h78 (g x : am_H) (o : Option Nat) : Prop := g 254 33 ≤ x 254 33 ∧ ∀ k : Nat, (k : Int) < g 254 33 → o ≠ some k → x 278 k = g 278 k
theorem h78.refl (g : am_H) (o : Option Nat) : h78 g g o := ⟨Int.le_refl _, fun _ _ _ => rfl⟩
theorem h78.put {o : Option Nat} (M : h78 g x o) (k a b t : Int) (h33 : 0 ≤ g 254 33) : h78 g (mi_put k a b t x) o := ⟨by rw [mi_put_33]; have := M.1; omega, fun j hj ho => by
  have := M.1
  rw [mi_put_lo _ _ _ _ _ (by omega) 278 (by omega)]; exact M.2 j hj ho⟩
theorem h78.add {o : Option Nat} (M : h78 g x o) (k a b t : Int) (h33 : 0 ≤ g 254 33) {y : am_H} (h : mi_add k a b t x = .inr y) : h78 g y o := by rw [mi_add_in h]; exact M.put k a b t h33
theorem h78.up {o : Option Nat} (M : h78 g x o) {a k : Nat} {v : Int} (ha : a ≠ 254 ∧ a ≠ 278) : h78 g (am_up x a k v) o := ⟨by rw [p_up_c _ _ _ _ _ (by omega)]; exact M.1, fun j hj ho => by rw [p_up_c _ _ _ _ _ (by omega)]; exact M.2 j hj ho⟩
theorem h78.upf {o : Option Nat} (M : h78 g x o) {k : Nat} {v : Int} (hk : k ≠ 33) : h78 g (am_up x 254 k v) o := ⟨by rw [p_up_n _ _ _ _ _ _ (Or.inr (by omega))]; exact M.1, fun j hj ho => by rw [p_up_c _ _ _ _ _ (by decide)]; exact M.2 j hj ho⟩
theorem h78.hole {k : Nat} {v : Int} (M : h78 g x (some k)) : h78 g (am_up x 278 k v) (some k) := ⟨by rw [p_up_c _ _ _ _ _ (by decide)]; exact M.1, fun j hj ho => by rw [p_up_n _ _ _ _ _ _ (Or.inr (fun z => ho (by rw [z])))]; exact M.2 j hj ho⟩
theorem h78.blk {o : Option Nat} (M : h78 g x o) (k : Nat) (a b c e : Int) : h78 g (mi_blk k a b c e x) o := ((((M.up (by decide)).up (by decide)).up (by decide)).up (by decide)).upf (by decide)
theorem h78.call {o : Option Nat} (M : h78 g x o) (a b : Int) : h78 g (mi_call a b x) o := ((((M.upf (by decide)).up (by decide)).up (by decide)).up (by decide)).up (by decide)
theorem h78.dec {o : Option Nat} (M : h78 g x o) (x1 x2 x3 x4 x5 x6 : Int) : h78 g (mi_dec x1 x2 x3 x4 x5 x6 x) o := (((((((M.up (by decide)).up (by decide)).up (by decide)).up (by decide)).up (by decide)).up (by decide)).up (by decide)).upf (by decide)
/-- a row of the hole that an event closes, and what is open behind it -/
theorem hx_ev {w : Nat → Nat → Nat} (hp : pr w K V e p = .inr p1) (hm : mi V e s = .inr s1) (h33 : 0 ≤ s.1 254 33) {st : List (Int × Int × Int × Int)} (B : bw S (s.1 254 33) p.2.1 s.2.2.2.1 st) : hx s.1 s1.1 (hol p.2.1 s.2.2.2.1) (hol p1.2.1 s1.2.2.2.1) := by
  by_cases he : e.1 = 24 ∨ e.1 = 25 ∨ e.1 = 26 ∨ e.1 = 27 ∨ e.1 = 28 ∨ e.1 = 30 ∨ e.1 = 31 ∨ e.1 = 32
  · obtain ⟨g, ty, so, bs, oc⟩ := s
    obtain ⟨n, a, b, d⟩ := e
    dsimp only at he h33 B
    have M : ∀ o, h78 g g o := h78.refl g
    have fin : ∀ {x : am_H} {o : Option Nat} {l l' : List Nat}, h78 g x o → (∀ k, o = some k → k ∈ l) → (∀ k ∈ l', k ∈ l ∨ (g 254 33).toNat ≤ k) → hx g x l l' := fun m h1 h2 => ⟨fun k hk hn => m.2 k hk (fun z => hn (h1 k z)), h2⟩
    have hd : ∀ z : Nat, p.2.1.head? = some z → ∃ pl, p.2.1 = z :: pl := fun z hz => by
      cases hq : p.2.1 with
      | nil => rw [hq] at hz; cases hz
      | cons y pl => rw [hq] at hz; cases hz; exact ⟨pl, rfl⟩
    rcases he with h | h | h | h | h | h | h | h
    · subst h
      obtain ⟨hc, -, hq⟩ := pr_q_in hp
      subst hq
      have hm : ce_q (0 ≤ g 254 50 ∧ g 254 50 < 99990) (.inr (am_up g 254 50 (g 254 50 + 2), ty, so, (1, g 254 50, 0, g 254 33) :: bs, oc) : gx_R mi_S) = .inr s1 := hm
      unfold ce_q at hm
      split at hm
      · cases hm
        exact fin ((M none).upf (by decide)) (fun k z => by cases z) (fun k hk => by
          have hk : k ∈ hol p.2.1 bs := hk
          exact Or.inl hk)
      · cases hm
    · subst h
      obtain ⟨hc, -, hq⟩ := pr_q_in hp
      subst hq
      obtain ⟨pl, hpl⟩ := hd _ hc.2.2.1
      cases bs with
      | nil => cases hm
      | cons b l =>
        have hm : ce_q (l.length < 40) (gx_b (mi_add 15 0 b.2.1 0 g) fun g1 => (.inr (mi_blk l.length 1 b.2.1 (g 254 33) b.2.2.2 g1, ty, so, (1, b.2.1, g 254 33, b.2.2.2) :: l, oc) : gx_R mi_S)) = .inr s1 := hm
        unfold ce_q at hm
        split at hm
        · obtain ⟨g1, w1, w2⟩ := gx_b_ok hm
          cases w2
          refine fin (((M none).add _ _ _ _ h33 w1).blk _ _ _ _ _) (fun k z => by cases z) (fun k hk => ?_)
          dsimp only at hk
          rw [hpl] at hk ⊢
          have hk : k ∈ (g 254 33).toNat :: hol pl l := hk
          have e0 : hol (0 :: pl) (b :: l) = hol pl l := rfl
          rw [e0]
          rcases List.mem_cons.1 hk with rfl | hk
          · exact Or.inr (Nat.le_refl _)
          · exact Or.inl hk
        · cases hm
    · subst h
      obtain ⟨hc, -, hq⟩ := pr_q_in hp
      subst hq
      obtain ⟨pl, hpl⟩ := hd _ hc.2.2.1
      cases bs with
      | nil => cases hm
      | cons b l =>
        obtain ⟨g1, w1, w2⟩ := gx_b_ok (show gx_b (mi_add 16 0 (b.2.1 + 1) 0 (am_up g 254 55 (l.length : Int))) (fun g1 => gx_b (mi_add 20 b.2.1 0 0 g1) fun g2 => (.inr (mi_blk l.length 2 b.2.1 (g 254 33) 0 (am_up g2 278 b.2.2.1.toNat (g1 254 33)), ty, so, (2, b.2.1, g 254 33, 0) :: l, oc) : gx_R mi_S)) = .inr s1 from hm)
        obtain ⟨g2, w3, w4⟩ := gx_b_ok w2
        cases w4
        have e0 : hol p.2.1 (b :: l) = b.2.2.1.toNat :: hol pl l := by rw [hpl]; rfl
        refine fin (((((M (some b.2.2.1.toNat)).upf (by decide)).add _ _ _ _ h33 w1).add _ _ _ _ h33 w3 |>.hole).blk _ _ _ _ _) (fun k z => by cases z; rw [e0]; exact List.mem_cons_self) (fun k hk => ?_)
        dsimp only at hk
        rw [hpl] at hk
        have hk : k ∈ (g 254 33).toNat :: hol pl l := hk
        rw [e0]
        rcases List.mem_cons.1 hk with rfl | hk
        · exact Or.inr (Nat.le_refl _)
        · exact Or.inl (List.mem_cons_of_mem _ hk)
    · subst h
      obtain ⟨hc, -, hq⟩ := pr_q_in hp
      subst hq
      obtain ⟨pl, hpl⟩ := hd _ hc.2.2.1
      cases bs with
      | nil => cases hm
      | cons b l =>
        obtain ⟨g1, w1, w2⟩ := gx_b_ok (show gx_b (mi_add 20 b.2.1 0 0 (am_up g 254 55 (l.length : Int))) (fun g1 => gx_b (mi_add 12 0 0 0 (am_up g1 278 b.2.2.1.toNat (g 254 33))) fun g2 => (.inr (g2, ty, so, l, oc) : gx_R mi_S)) = .inr s1 from hm)
        obtain ⟨g2, w3, w4⟩ := gx_b_ok w2
        cases w4
        have e0 : hol p.2.1 (b :: l) = b.2.2.1.toNat :: hol pl l := by rw [hpl]; rfl
        refine fin ((((M (some b.2.2.1.toNat)).upf (by decide)).add _ _ _ _ h33 w1 |>.hole).add _ _ _ _ h33 w3) (fun k z => by cases z; rw [e0]; exact List.mem_cons_self) (fun k hk => ?_)
        dsimp only at hk
        rw [hpl] at hk
        have hk : k ∈ hol pl l := hk
        rw [e0]
        exact Or.inl (List.mem_cons_of_mem _ hk)
    · subst h
      obtain ⟨hc, -, hq⟩ := pr_q_in hp
      subst hq
      obtain ⟨pl, hpl⟩ := hd _ hc.2.2.1
      cases bs with
      | nil => cases hm
      | cons b l =>
        obtain ⟨g1, w1, w2⟩ := gx_b_ok (show gx_b (mi_add 20 (b.2.1 + 1) 0 0 (am_up g 254 55 (l.length : Int))) (fun g1 => gx_b (mi_add 12 0 0 0 (am_up g1 278 b.2.2.1.toNat (g 254 33))) fun g2 => (.inr (g2, ty, so, l, oc) : gx_R mi_S)) = .inr s1 from hm)
        obtain ⟨g2, w3, w4⟩ := gx_b_ok w2
        cases w4
        have e0 : hol p.2.1 (b :: l) = b.2.2.1.toNat :: hol pl l := by rw [hpl]; rfl
        refine fin ((((M (some b.2.2.1.toNat)).upf (by decide)).add _ _ _ _ h33 w1 |>.hole).add _ _ _ _ h33 w3) (fun k z => by cases z; rw [e0]; exact List.mem_cons_self) (fun k hk => ?_)
        dsimp only at hk
        rw [hpl] at hk
        have hk : k ∈ hol pl l := hk
        rw [e0]
        exact Or.inl (List.mem_cons_of_mem _ hk)
    · subst h
      obtain ⟨hc, -, hq⟩ := pr_q_in hp
      subst hq
      have hm : ce_q (0 ≤ g 254 50 ∧ g 254 50 < 99990) (gx_b (mi_add 20 (g 254 50) 0 0 (am_up g 254 50 (g 254 50 + 2))) fun g1 => gx_b (mi_add 17 0 0 0 g1) fun g2 => (.inr (g2, ty, so, (3, g 254 50, 0, g 254 33) :: bs, oc) : gx_R mi_S)) = .inr s1 := hm
      unfold ce_q at hm
      split at hm
      · obtain ⟨g1, w1, w2⟩ := gx_b_ok hm
        obtain ⟨g2, w3, w4⟩ := gx_b_ok w2
        cases w4
        exact fin (((M none).upf (by decide) |>.add _ _ _ _ h33 w1).add _ _ _ _ h33 w3) (fun k z => by cases z) (fun k hk => by
          have hk : k ∈ hol p.2.1 bs := hk
          exact Or.inl hk)
      · cases hm
    · subst h
      obtain ⟨hc, -, hq⟩ := pr_q_in hp
      subst hq
      obtain ⟨pl, hpl⟩ := hd _ hc.2.2.1
      cases bs with
      | nil => cases hm
      | cons b l =>
        have hm : ce_q (l.length < 40) (gx_b (mi_add 15 0 (b.2.1 + 1) 0 g) fun g1 => (.inr (mi_blk l.length 3 b.2.1 (g 254 33) b.2.2.2 g1, ty, so, (3, b.2.1, g 254 33, b.2.2.2) :: l, oc) : gx_R mi_S)) = .inr s1 := hm
        unfold ce_q at hm
        split at hm
        · obtain ⟨g1, w1, w2⟩ := gx_b_ok hm
          cases w2
          refine fin (((M none).add _ _ _ _ h33 w1).blk _ _ _ _ _) (fun k z => by cases z) (fun k hk => ?_)
          dsimp only at hk
          rw [hpl] at hk ⊢
          have hk : k ∈ (g 254 33).toNat :: hol pl l := hk
          have e0 : hol (3 :: pl) (b :: l) = hol pl l := rfl
          rw [e0]
          rcases List.mem_cons.1 hk with rfl | hk
          · exact Or.inr (Nat.le_refl _)
          · exact Or.inl hk
        · cases hm
    · subst h
      obtain ⟨hc, -, hq⟩ := pr_q_in hp
      subst hq
      obtain ⟨pl, hpl⟩ := hd _ hc.2.2.1
      cases bs with
      | nil => cases hm
      | cons b l =>
        obtain ⟨g1, w1, w2⟩ := gx_b_ok (show gx_b (mi_add 16 b.2.2.2 b.2.1 0 (am_up g 254 55 (l.length : Int))) (fun g1 => gx_b (mi_add 20 (b.2.1 + 1) 0 0 g1) fun g2 => gx_b (mi_add 12 0 0 0 (am_up g2 278 b.2.2.1.toNat (g1 254 33))) fun g3 => (.inr (g3, ty, so, l, oc) : gx_R mi_S)) = .inr s1 from hm)
        obtain ⟨g2, w3, w4⟩ := gx_b_ok w2
        obtain ⟨g3, w5, w6⟩ := gx_b_ok w4
        cases w6
        have e0 : hol p.2.1 (b :: l) = b.2.2.1.toNat :: hol pl l := by rw [hpl]; rfl
        refine fin ((((M (some b.2.2.1.toNat)).upf (by decide)).add _ _ _ _ h33 w1 |>.add _ _ _ _ h33 w3 |>.hole).add _ _ _ _ h33 w5) (fun k z => by cases z; rw [e0]; exact List.mem_cons_self) (fun k hk => ?_)
        dsimp only at hk
        rw [hpl] at hk
        have hk : k ∈ hol pl l := hk
        rw [e0]
        exact Or.inl (List.mem_cons_of_mem _ hk)
  · -- all others
    have e1 : p1.2.1 = p.2.1 := by
      obtain ⟨n, a, b, d⟩ := e
      dsimp only at he
      by_cases h12 : n = 12
      · subst h12
        cases hq : p.2.2.1 with
        | nil => unfold pr at hp; dsimp only at hp; rw [hq] at hp; cases hp
        | cons q l => unfold pr at hp; dsimp only at hp; rw [hq] at hp; obtain ⟨-, -, e⟩ := pr_q_in hp; rw [e]
      unfold pr at hp
      split at hp
      all_goals first
        | (cases hp; done)
        | (rename_i hx; have hx : n = _ := hx; omega)
        | (rename_i hx; have hx : n = _ := hx; subst hx)
      all_goals (obtain ⟨-, -, e⟩ := pr_q_in hp; rw [e])
    obtain ⟨g, ty, so, bs, oc⟩ := s
    obtain ⟨n, a, b, d⟩ := e
    dsimp only at he h33 B
    have M : h78 g g none := h78.refl g none
    have two : ∀ (k a b t k2 a2 b2 t2 : Int), gx_P (gx_b (mi_add k a b t g) (mi_add k2 a2 b2 t2)) (fun x => h78 g x none) := fun k a b t k2 a2 b2 t2 => gx_P_b fun g1 e1 => fun g2 e2 => (M.add k a b t h33 e1).add k2 a2 b2 t2 h33 e2
    have key : gx_P (mi V (n, a, b, d) (g, ty, so, bs, oc)) (fun s1 => h78 g s1.1 none ∧ s1.2.2.2.1 = bs) := by
      have hh : ∀ r, gx_P r (fun x => h78 g x none) → gx_P (mi_h (g, ty, so, bs, oc) r) (fun s1 => h78 g s1.1 none ∧ s1.2.2.2.1 = bs) := fun r h => gx_P_b fun a e => gx_P_i ⟨h a e, rfl⟩
      unfold mi
      dsimp only
      split
      all_goals first
        | (exact hh _ (fun y e => M.add _ _ _ _ h33 e))
        | (exact hh _ (two _ _ _ _ _ _ _ _))
        | (exact gx_P_i ⟨M, rfl⟩)
        | (exfalso; omega)
        | (exact fun _ h => by cases h)
        | skip
      · exact gx_P_q fun _ => gx_P_b fun g1 e1 => gx_P_i ⟨(M.call _ _).add _ _ _ _ h33 e1, rfl⟩
      · cases oc with
        | nil => exact fun _ h => by cases h
        | cons y l => exact gx_P_b fun g1 e1 => gx_P_i ⟨(M.up (by decide)).add _ _ _ _ h33 e1, rfl⟩
      · refine gx_P_q fun _ => ?_
        split
        · exact gx_P_i ⟨(M.dec _ _ _ _ _ _).up (by decide), rfl⟩
        · exact gx_P_i ⟨((M.dec _ _ _ _ _ _).upf (by decide)).upf (by decide), rfl⟩
      · exact gx_P_q fun _ => gx_P_i ⟨(M.dec _ _ _ _ _ _).up (by decide), rfl⟩
      · exact gx_P_q fun _ => gx_P_i ⟨(M.dec _ _ _ _ _ _).up (by decide), rfl⟩
    obtain ⟨k1, k2⟩ := key s1 hm
    refine ⟨fun k hk _ => k1.2 k hk (by simp), fun k hk => ?_⟩
    rw [e1, k2] at hk
    exact Or.inl hk
theorem hx_run {S' : mi_S} : ∀ (es : List gx_V) {p p' : pr_S} {s : mi_S} {st : List (Int × Int × Int × Int)}, gx_fold (pr pw K V) es p = .inr p' → gx_fold (mi V) es s = .inr S' → 0 ≤ s.1 254 33 → bw S'.1 (s.1 254 33) p.2.1 s.2.2.2.1 st → ∀ k : Nat, (k : Int) < s.1 254 33 → k ∉ hol p.2.1 s.2.2.2.1 → S'.1 278 k = s.1 278 k
  | [], p, p', s, st, h1, m1, h33, B, k, hk, hn => by cases m1; rfl
  | e :: es, p, p', s, st, h1, m1, h33, B, k, hk, hn => by
    obtain ⟨p1, a1, a2⟩ := gx_b_ok h1
    obtain ⟨s1, w1, w2⟩ := gx_b_ok m1
    have M1 := mx_run V es s1 S' w2
    have H := hx_ev a1 w1 h33 B
    have m33 := (mx_ev V e s s1 w1).1 33 (Or.inr (Or.inr (Or.inr (Or.inl rfl))))
    have B1 := bw_ev (c0 := fun _ _ => 0) (h := fun _ _ => 0) (P := fun _ => 0) (sc := fun _ => 0) (ss := fun _ => 0) (cs := fun _ => 0) (b21 := 0) (b15 := 0) (l := 0) (t := s.1 254 50) a1 w1 h33 B M1 (fun _ => rfl)
    rw [hx_run es a2 w2 (by omega) B1 k (by omega) (fun z => (H.2 k z).elim hn (fun y => by omega)), H.1 k hk hn]
end
