/-! PURE LAYER, 133: the goals of jumps; subs of items -/
section
variable {K V : Nat → Int} {pE : pr_S} {S : mi_S} {e : gx_V} {es : List gx_V} {p p1 : pr_S} {s s1 : mi_S} {c c1 : ce_S}
/-- holes lie one behind the other -/
def HS (p : pr_S) (s : mi_S) : Prop := (hol p.2.1 s.2.2.2.1).Pairwise (· > ·)
theorem HS_ev (B : bd K V pE S (e :: es) p s c) (hp : pr pw K V e p = .inr p1) (hm : mi V e s = .inr s1) (H : HS p s) : HS p1 s1 := by
  have h33 : 0 ≤ s.1 254 33 := B.2.1.1.1.2.2.2.1.1
  have lt := B.2.2.1.hol_lt
  have add : ∀ {l : List Nat}, (∀ k ∈ l, (k : Int) < s.1 254 33) → l.Pairwise (· > ·) → ((s.1 254 33).toNat :: l).Pairwise (· > ·) := fun h1 h2 => List.pairwise_cons.2 ⟨fun k hk => by have := h1 k hk; omega, h2⟩
  unfold HS at *
  by_cases he : e.1 = 24 ∨ e.1 = 25 ∨ e.1 = 26 ∨ e.1 = 27 ∨ e.1 = 28 ∨ e.1 = 30 ∨ e.1 = 31 ∨ e.1 = 32
  · clear B
    obtain ⟨g, ty, so, bs, oc⟩ := s
    obtain ⟨n, a, b, d⟩ := e
    dsimp only at he h33 H lt add
    have hd : ∀ z : Nat, p.2.1.head? = some z → ∃ pl, p.2.1 = z :: pl := fun z hz => by
      cases hq : p.2.1 with
      | nil => rw [hq] at hz; cases hz
      | cons y pl => rw [hq] at hz; cases hz; exact ⟨pl, rfl⟩
    rcases he with h | h | h | h | h | h | h | h
    · subst h
      obtain ⟨hc, -, hq⟩ := pr_q_in hp
      subst hq
      have hm : ce_q (0 ≤ g 254 50 ∧ g 254 50 < 99990) (.inr (am_up g 254 50 (g 254 50 + 2), ty, so, (1, g 254 50, 0, g 254 33) :: bs, oc) : gx_R mi_S) = .inr s1 := hm
      unfold ce_q at hm
      split at hm
      · cases hm; exact H
      · cases hm
    · subst h
      obtain ⟨hc, -, hq⟩ := pr_q_in hp
      subst hq
      obtain ⟨pl, hpl⟩ := hd _ hc.2.2.1
      cases bs with
      | nil => cases hm
      | cons b l =>
        have hm : ce_q (l.length < 40) (gx_b (mi_add 15 0 b.2.1 0 g) fun g1 => (.inr (mi_blk l.length 1 b.2.1 (g 254 33) b.2.2.2 g1, ty, so, (1, b.2.1, g 254 33, b.2.2.2) :: l, oc) : gx_R mi_S)) = .inr s1 := hm
        unfold ce_q at hm
        split at hm
        · obtain ⟨g1, w1, w2⟩ := gx_b_ok hm
          cases w2
          rw [hpl] at H lt ⊢
          have e0 : hol (0 :: pl) (b :: l) = hol pl l := rfl
          rw [e0] at H lt
          exact add lt H
        · cases hm
    · subst h
      obtain ⟨hc, -, hq⟩ := pr_q_in hp
      subst hq
      obtain ⟨pl, hpl⟩ := hd _ hc.2.2.1
      cases bs with
      | nil => cases hm
      | cons b l =>
        obtain ⟨g1, w1, w2⟩ := gx_b_ok (show gx_b (mi_add 16 0 (b.2.1 + 1) 0 (am_up g 254 55 (l.length : Int))) (fun g1 => gx_b (mi_add 20 b.2.1 0 0 g1) fun g2 => (.inr (mi_blk l.length 2 b.2.1 (g 254 33) 0 (am_up g2 278 b.2.2.1.toNat (g1 254 33)), ty, so, (2, b.2.1, g 254 33, 0) :: l, oc) : gx_R mi_S)) = .inr s1 from hm)
        obtain ⟨g2, w3, w4⟩ := gx_b_ok w2
        cases w4
        rw [hpl] at H lt ⊢
        have e0 : hol (1 :: pl) (b :: l) = b.2.2.1.toNat :: hol pl l := rfl
        rw [e0] at H lt
        exact add (fun k hk => lt k (List.mem_cons_of_mem _ hk)) (List.pairwise_cons.1 H).2
    · subst h
      obtain ⟨hc, -, hq⟩ := pr_q_in hp
      subst hq
      obtain ⟨pl, hpl⟩ := hd _ hc.2.2.1
      cases bs with
      | nil => cases hm
      | cons b l =>
        obtain ⟨g1, w1, w2⟩ := gx_b_ok (show gx_b (mi_add 20 b.2.1 0 0 (am_up g 254 55 (l.length : Int))) (fun g1 => gx_b (mi_add 12 0 0 0 (am_up g1 278 b.2.2.1.toNat (g 254 33))) fun g2 => (.inr (g2, ty, so, l, oc) : gx_R mi_S)) = .inr s1 from hm)
        obtain ⟨g2, w3, w4⟩ := gx_b_ok w2
        cases w4
        rw [hpl] at H ⊢
        exact (List.pairwise_cons.1 (show (b.2.2.1.toNat :: hol pl l).Pairwise (· > ·) from H)).2
    · subst h
      obtain ⟨hc, -, hq⟩ := pr_q_in hp
      subst hq
      obtain ⟨pl, hpl⟩ := hd _ hc.2.2.1
      cases bs with
      | nil => cases hm
      | cons b l =>
        obtain ⟨g1, w1, w2⟩ := gx_b_ok (show gx_b (mi_add 20 (b.2.1 + 1) 0 0 (am_up g 254 55 (l.length : Int))) (fun g1 => gx_b (mi_add 12 0 0 0 (am_up g1 278 b.2.2.1.toNat (g 254 33))) fun g2 => (.inr (g2, ty, so, l, oc) : gx_R mi_S)) = .inr s1 from hm)
        obtain ⟨g2, w3, w4⟩ := gx_b_ok w2
        cases w4
        rw [hpl] at H ⊢
        exact (List.pairwise_cons.1 (show (b.2.2.1.toNat :: hol pl l).Pairwise (· > ·) from H)).2
    · subst h
      obtain ⟨hc, -, hq⟩ := pr_q_in hp
      subst hq
      have hm : ce_q (0 ≤ g 254 50 ∧ g 254 50 < 99990) (gx_b (mi_add 20 (g 254 50) 0 0 (am_up g 254 50 (g 254 50 + 2))) fun g1 => gx_b (mi_add 17 0 0 0 g1) fun g2 => (.inr (g2, ty, so, (3, g 254 50, 0, g 254 33) :: bs, oc) : gx_R mi_S)) = .inr s1 := hm
      unfold ce_q at hm
      split at hm
      · obtain ⟨g1, w1, w2⟩ := gx_b_ok hm
        obtain ⟨g2, w3, w4⟩ := gx_b_ok w2
        cases w4; exact H
      · cases hm
    · subst h
      obtain ⟨hc, -, hq⟩ := pr_q_in hp
      subst hq
      obtain ⟨pl, hpl⟩ := hd _ hc.2.2.1
      cases bs with
      | nil => cases hm
      | cons b l =>
        have hm : ce_q (l.length < 40) (gx_b (mi_add 15 0 (b.2.1 + 1) 0 g) fun g1 => (.inr (mi_blk l.length 3 b.2.1 (g 254 33) b.2.2.2 g1, ty, so, (3, b.2.1, g 254 33, b.2.2.2) :: l, oc) : gx_R mi_S)) = .inr s1 := hm
        unfold ce_q at hm
        split at hm
        · obtain ⟨g1, w1, w2⟩ := gx_b_ok hm
          cases w2
          rw [hpl] at H lt ⊢
          have e0 : hol (3 :: pl) (b :: l) = hol pl l := rfl
          rw [e0] at H lt
          exact add lt H
        · cases hm
    · subst h
      obtain ⟨hc, -, hq⟩ := pr_q_in hp
      subst hq
      obtain ⟨pl, hpl⟩ := hd _ hc.2.2.1
      cases bs with
      | nil => cases hm
      | cons b l =>
        obtain ⟨g1, w1, w2⟩ := gx_b_ok (show gx_b (mi_add 16 b.2.2.2 b.2.1 0 (am_up g 254 55 (l.length : Int))) (fun g1 => gx_b (mi_add 20 (b.2.1 + 1) 0 0 g1) fun g2 => gx_b (mi_add 12 0 0 0 (am_up g2 278 b.2.2.1.toNat (g1 254 33))) fun g3 => (.inr (g3, ty, so, l, oc) : gx_R mi_S)) = .inr s1 from hm)
        obtain ⟨g2, w3, w4⟩ := gx_b_ok w2
        obtain ⟨g3, w5, w6⟩ := gx_b_ok w4
        cases w6
        rw [hpl] at H ⊢
        exact (List.pairwise_cons.1 (show (b.2.2.1.toNat :: hol pl l).Pairwise (· > ·) from H)).2
  · have e1 : p1.2.1 = p.2.1 ∧ s1.2.2.2.1 = s.2.2.2.1 := by
      by_cases he34 : e.1 ≤ 34
      · refine ⟨?_, ?_⟩
        · obtain ⟨n, a, b, d⟩ := e
          dsimp only at he
          by_cases h12 : n = 12
          · subst h12
            cases hq : p.2.2.1 with
            | nil => unfold pr at hp; dsimp only at hp; rw [hq] at hp; cases hp
            | cons q l => unfold pr at hp; dsimp only at hp; rw [hq] at hp; obtain ⟨-, -, e⟩ := pr_q_in hp; rw [e]
          unfold pr at hp
          split at hp
          all_goals first
            | (cases hp; done)
            | (rename_i hx; have hx : n = _ := hx; omega)
            | (rename_i hx; have hx : n = _ := hx; subst hx)
          all_goals (obtain ⟨-, -, e⟩ := pr_q_in hp; rw [e])
        · clear B lt add H hp
          obtain ⟨g, ty, so, bs, oc⟩ := s
          obtain ⟨n, a, b, d⟩ := e
          dsimp only at he he34
          have key : gx_P (mi V (n, a, b, d) (g, ty, so, bs, oc)) (fun s1 => s1.2.2.2.1 = bs) := by
            have hh : ∀ r, gx_P (mi_h (g, ty, so, bs, oc) r) (fun s1 => s1.2.2.2.1 = bs) := fun r => gx_P_b fun a e => gx_P_i rfl
            unfold mi
            dsimp only
            split
            all_goals first
              | (exact hh _)
              | (exact gx_P_i rfl)
              | (exfalso; omega)
              | (exact gx_P_q fun _ => gx_P_b fun _ _ => gx_P_i rfl)
              | (exact fun a e => by cases e)
              | skip
            cases oc with
            | nil => exact fun a e => by cases e
            | cons x l => exact gx_P_b fun _ _ => gx_P_i rfl
          exact key s1 hm
      · exact ⟨(pr_decl he34 hp).1.1, by rw [mi_decl he34 hp hm]⟩
    rw [e1.1, e1.2]; exact H
/-- the goal of the hole that an event closes -/
theorem close_ev (B : bd K V pE S (e :: es) p s c) (hp : pr pw K V e p = .inr p1) (hm : mi V e s = .inr s1) (B1 : bd K V pE S es p1 s1 c1) (H : HS p s) :
    (e.1 = 27 ∨ e.1 = 28 → S.1 278 (s.2.2.2.1.headD (0, 0, 0, 0)).2.2.1.toNat = s.1 254 33) ∧
    (e.1 = 26 ∨ e.1 = 32 → S.1 278 (s.2.2.2.1.headD (0, 0, 0, 0)).2.2.1.toNat = s.1 254 33 + 1) ∧
    (e.1 = 32 → S.1 278 (s.1 254 33).toNat = (s.2.2.2.1.headD (0, 0, 0, 0)).2.2.2) := by
  have h33 : 0 ≤ s.1 254 33 := B.2.1.1.1.2.2.2.1.1
  have lt := B.2.2.1.hol_lt
  have lt1 := B1.2.2.1.hol_lt
  have H1 := HS_ev B hp hm H
  have run := hx_run es B1.1.1 B1.1.2 B1.2.1.1.1.2.2.2.1.1 B1.2.2.1
  have hx := (hx_ev hp hm h33 B.2.2.1).2
  clear B B1
  unfold HS at H
  obtain ⟨g, ty, so, bs, oc⟩ := s
  obtain ⟨n, a, b, d⟩ := e
  dsimp only at h33 H lt hx ⊢
  have hd : ∀ z : Nat, p.2.1.head? = some z → ∃ pl, p.2.1 = z :: pl := fun z hz => by
    cases hq : p.2.1 with
    | nil => rw [hq] at hz; cases hz
    | cons y pl => rw [hq] at hz; cases hz; exact ⟨pl, rfl⟩
  refine ⟨fun h => ?_, fun h => ?_, fun h => ?_⟩
  · -- 27, 28
    have key : ∀ (z t : Nat) (bb : Int × Int × Int × Int) (l : List (Int × Int × Int × Int)) (lab : Int), (z = 1 ∨ z = 2) → p.2.1.head? = some z → bs = bb :: l → p1.2.1 = p.2.1.tail → gx_b (mi_add 20 lab 0 0 (am_up g 254 55 (l.length : Int))) (fun g1 => gx_b (mi_add 12 0 0 0 (am_up g1 278 bb.2.2.1.toNat (g 254 33))) fun g2 => (.inr (g2, ty, so, l, oc) : gx_R mi_S)) = .inr s1 → S.1 278 (bs.headD (0, 0, 0, 0)).2.2.1.toNat = g 254 33 := by
      intro z t bb l lab hz hz2 hb hp1 hm
      obtain ⟨pl, hpl⟩ := hd _ hz2
      obtain ⟨g1, w1, w2⟩ := gx_b_ok hm
      obtain ⟨g2, w3, w4⟩ := gx_b_ok w2
      cases w4
      subst hb
      rw [hpl] at H lt hp1
      have e0 : hol (z :: pl) (bb :: l) = bb.2.2.1.toNat :: hol pl l := by rcases hz with rfl | rfl <;> rfl
      rw [e0] at H lt
      have hl := lt _ List.mem_cons_self
      have ng : bb.2.2.1.toNat ∉ hol pl l := fun z => by have := (List.pairwise_cons.1 H).1 _ z; omega
      have i2 : (am_up g1 278 bb.2.2.1.toNat (g 254 33) 254 33).toNat = (g 254 33).toNat + 1 := by
        rw [p_up_c _ _ _ _ _ (by decide), mi_add_in w1, mi_put_33, p_up_n _ _ _ _ _ _ (Or.inr (by decide))]; omega
      have g33 : g2 254 33 = g 254 33 + 2 := by rw [mi_add_in w3, mi_put_33, p_up_c _ _ _ _ _ (by decide), mi_add_in w1, mi_put_33, p_up_n _ _ _ _ _ _ (Or.inr (by decide))]; omega
      show S.1 278 bb.2.2.1.toNat = _
      rw [run _ (by show _ < g2 254 33; rw [g33]; omega) (by rw [hp1]; exact ng)]
      show g2 278 bb.2.2.1.toNat = _
      rw [mi_add_in w3, mi_put_lo _ _ _ _ _ (by rw [i2]; omega) 278 (by omega)]
      exact p_up_s _ _ _ _
    rcases h with h | h
    · subst h
      obtain ⟨hc, -, hq⟩ := pr_q_in hp
      cases bs with
      | nil => cases hm
      | cons bb l => exact key 1 0 bb l bb.2.1 (Or.inl rfl) hc.2.2.1 rfl (by rw [hq]) hm
    · subst h
      obtain ⟨hc, -, hq⟩ := pr_q_in hp
      cases bs with
      | nil => cases hm
      | cons bb l => exact key 2 0 bb l (bb.2.1 + 1) (Or.inr rfl) hc.2.2.1 rfl (by rw [hq]) hm
  · rcases h with h | h
    · subst h
      obtain ⟨hc, -, hq⟩ := pr_q_in hp
      obtain ⟨pl, hpl⟩ := hd _ hc.2.2.1
      cases bs with
      | nil => cases hm
      | cons bb l =>
        obtain ⟨g1, w1, w2⟩ := gx_b_ok (show gx_b (mi_add 16 0 (bb.2.1 + 1) 0 (am_up g 254 55 (l.length : Int))) (fun g1 => gx_b (mi_add 20 bb.2.1 0 0 g1) fun g2 => (.inr (mi_blk l.length 2 bb.2.1 (g 254 33) 0 (am_up g2 278 bb.2.2.1.toNat (g1 254 33)), ty, so, (2, bb.2.1, g 254 33, 0) :: l, oc) : gx_R mi_S)) = .inr s1 from hm)
        obtain ⟨g2, w3, w4⟩ := gx_b_ok w2
        cases w4
        have hp1 : p1.2.1 = 2 :: pl := by rw [hq, hpl]; rfl
        rw [hpl] at H lt
        have e0 : hol (1 :: pl) (bb :: l) = bb.2.2.1.toNat :: hol pl l := rfl
        rw [e0] at H lt
        have hl := lt _ List.mem_cons_self
        have ng : bb.2.2.1.toNat ∉ (g 254 33).toNat :: hol pl l := fun z => by
          rcases List.mem_cons.1 z with z | z
          · omega
          · have := (List.pairwise_cons.1 H).1 _ z; omega
        have g1' : g1 254 33 = g 254 33 + 1 := by rw [mi_add_in w1, mi_put_33, p_up_n _ _ _ _ _ _ (Or.inr (by decide))]
        have g2' : g2 254 33 = g 254 33 + 2 := by rw [mi_add_in w3, mi_put_33, g1']; omega
        show S.1 278 bb.2.2.1.toNat = _
        rw [run _ (by show _ < mi_blk l.length 2 bb.2.1 (g 254 33) 0 (am_up g2 278 bb.2.2.1.toNat (g1 254 33)) 254 33; have : mi_blk l.length 2 bb.2.1 (g 254 33) 0 (am_up g2 278 bb.2.2.1.toNat (g1 254 33)) 254 33 = g2 254 33 := by simp [mi_blk, p_up]
                      omega) (by rw [hp1]; exact ng)]
        show mi_blk l.length 2 bb.2.1 (g 254 33) 0 (am_up g2 278 bb.2.2.1.toNat (g1 254 33)) 278 bb.2.2.1.toNat = _
        rw [mi_blk_c2 _ _ _ _ _ _ 278 (by omega), p_up_s, g1']
    · subst h
      obtain ⟨hc, -, hq⟩ := pr_q_in hp
      obtain ⟨pl, hpl⟩ := hd _ hc.2.2.1
      cases bs with
      | nil => cases hm
      | cons bb l =>
        obtain ⟨g1, w1, w2⟩ := gx_b_ok (show gx_b (mi_add 16 bb.2.2.2 bb.2.1 0 (am_up g 254 55 (l.length : Int))) (fun g1 => gx_b (mi_add 20 (bb.2.1 + 1) 0 0 g1) fun g2 => gx_b (mi_add 12 0 0 0 (am_up g2 278 bb.2.2.1.toNat (g1 254 33))) fun g3 => (.inr (g3, ty, so, l, oc) : gx_R mi_S)) = .inr s1 from hm)
        obtain ⟨g2, w3, w4⟩ := gx_b_ok w2
        obtain ⟨g3, w5, w6⟩ := gx_b_ok w4
        cases w6
        have hp1 : p1.2.1 = pl := by rw [hq, hpl]; rfl
        rw [hpl] at H lt
        have e0 : hol (4 :: pl) (bb :: l) = bb.2.2.1.toNat :: hol pl l := rfl
        rw [e0] at H lt
        have hl := lt _ List.mem_cons_self
        have ng : bb.2.2.1.toNat ∉ hol pl l := fun z => by have := (List.pairwise_cons.1 H).1 _ z; omega
        have g1' : g1 254 33 = g 254 33 + 1 := by rw [mi_add_in w1, mi_put_33, p_up_n _ _ _ _ _ _ (Or.inr (by decide))]
        have g2' : g2 254 33 = g 254 33 + 2 := by rw [mi_add_in w3, mi_put_33, g1']; omega
        have g3' : g3 254 33 = g 254 33 + 3 := by rw [mi_add_in w5, mi_put_33, p_up_c _ _ _ _ _ (by decide), g2']; omega
        show S.1 278 bb.2.2.1.toNat = _
        rw [run _ (by show _ < g3 254 33; omega) (by rw [hp1]; exact ng)]
        show g3 278 bb.2.2.1.toNat = _
        rw [mi_add_in w5, mi_put_lo _ _ _ _ _ (by rw [p_up_c _ _ _ _ _ (by decide), g2']; omega) 278 (by omega), p_up_s, g1']
  · subst h
    obtain ⟨hc, -, hq⟩ := pr_q_in hp
    obtain ⟨pl, hpl⟩ := hd _ hc.2.2.1
    cases bs with
    | nil => cases hm
    | cons bb l =>
      obtain ⟨g1, w1, w2⟩ := gx_b_ok (show gx_b (mi_add 16 bb.2.2.2 bb.2.1 0 (am_up g 254 55 (l.length : Int))) (fun g1 => gx_b (mi_add 20 (bb.2.1 + 1) 0 0 g1) fun g2 => gx_b (mi_add 12 0 0 0 (am_up g2 278 bb.2.2.1.toNat (g1 254 33))) fun g3 => (.inr (g3, ty, so, l, oc) : gx_R mi_S)) = .inr s1 from hm)
      obtain ⟨g2, w3, w4⟩ := gx_b_ok w2
      obtain ⟨g3, w5, w6⟩ := gx_b_ok w4
      cases w6
      have hp1 : p1.2.1 = pl := by rw [hq, hpl]; rfl
      rw [hpl] at H lt
      have e0 : hol (4 :: pl) (bb :: l) = bb.2.2.1.toNat :: hol pl l := rfl
      rw [e0] at H lt
      have hl := lt _ List.mem_cons_self
      have ng : (g 254 33).toNat ∉ hol pl l := fun z => by have := lt _ (List.mem_cons_of_mem _ z); omega
      have g1' : g1 254 33 = g 254 33 + 1 := by rw [mi_add_in w1, mi_put_33, p_up_n _ _ _ _ _ _ (Or.inr (by decide))]
      have g2' : g2 254 33 = g 254 33 + 2 := by rw [mi_add_in w3, mi_put_33, g1']; omega
      have g3' : g3 254 33 = g 254 33 + 3 := by rw [mi_add_in w5, mi_put_33, p_up_c _ _ _ _ _ (by decide), g2']; omega
      show S.1 278 (g 254 33).toNat = bb.2.2.2
      rw [run _ (by show _ < g3 254 33; omega) (by rw [hp1]; exact ng)]
      show g3 278 (g 254 33).toNat = _
      obtain ⟨x1, x2, x3, x4, x5⟩ := mi_put_277 16 bb.2.2.2 bb.2.1 0 (am_up g 254 55 (l.length : Int))
      rw [p_up_n _ _ _ _ _ _ (Or.inr (by decide))] at x4
      rw [mi_add_in w5, mi_put_lo _ _ _ _ _ (by rw [p_up_c _ _ _ _ _ (by decide), g2']; omega) 278 (by omega), p_up_n _ _ _ _ _ _ (Or.inr (by omega)), mi_add_in w3, mi_put_lo _ _ _ _ _ (by rw [g1']; omega) 278 (by omega), mi_add_in w1]
      exact x4
/-- subs of items -/
def SB (S : am_H) (p : pr_S) (s : mi_S) : Prop := (∀ k : Nat, (k : Int) < s.1 254 33 → (0 ≤ S 281 k ∧ S 281 k < (p.1 3 : Int)) ∧ (S 277 k = 18 ∨ ((k : Int) + 1 < s.1 254 33 → S 281 (k + 1) = S 281 k) ∧ ((k : Int) + 1 = s.1 254 33 → p.1 9 = 6 ∧ S 281 k = (p.1 3 : Int) - 1)) ∧ (S 281 k).toNat < hq p ∧ S 269 (S 281 k).toNat ≤ (k : Int) ∧ ∀ b, b < hq p → S 281 k < (b : Int) → (k : Int) < S 269 b)
theorem SB_ev (B : bd K V pE S (e :: es) p s c) (hp : pr pw K V e p = .inr p1) (hm : mi V e s = .inr s1) (B1 : bd K V pE S es p1 s1 c1) (M1 : mx s1.1 S.1) (Y1 : my s1.1 S.1) (F : FI S.1 p s) (H : SB S.1 p s) : SB S.1 p1 s1 := by
  have h33 : 0 ≤ s.1 254 33 := B.2.1.1.1.2.2.2.1.1
  rcases hq_ev B hp hm B1 with ⟨he, h1, h2, h3, h9, h4⟩ | ⟨he, h1, h2, h3, h4⟩ | ⟨⟨d1, d2, d3⟩, h1, h2⟩
  · have e3 : p1.1 3 = p.1 3 := by
      by_cases he' : e.1 ≤ 34
      · exact pz_ev he' hp 3 (by decide)
      · obtain ⟨n, a, b, d⟩ := e
        have h49 : n = 49 := by dsimp only at he he'; omega
        subst h49
        obtain ⟨-, -, hq⟩ := pr_q_in hp
        rw [hq]; rfl
    have rows : ∀ k : Nat, s.1 254 33 ≤ (k : Int) → (k : Int) < s1.1 254 33 → S.1 281 k = (p.1 3 : Int) - 1 := by
      intro k k1 k2
      have hl := ie_len h33 he B hp hm B1
      have hj : k - (s.1 254 33).toNat < (ie e s).length := by omega
      have := (ie_end he hp hm B.2.1.1 B.2.2.1 M1 Y1 (List.getElem?_eq_getElem hj)).2.2.2.2
      rw [show (s.1 254 33).toNat + (k - (s.1 254 33).toNat) = k by omega] at this
      exact this
    have last : e.1 = 49 → ∀ k : Nat, (k : Int) + 1 = s1.1 254 33 → S.1 277 k = 18 := by
      intro h49 k hk
      have := (ie_end (j := 1) (r := (18, 1, 0, 0)) he hp hm B.2.1.1 B.2.2.1 M1 Y1 (by unfold ie; rw [h49]; rfl)).1
      rw [h49] at h3
      have e2 : pw 0 49 = 2 := rfl
      rw [e2] at h3
      rw [show (s.1 254 33).toNat + 1 = k by omega] at this
      exact this
    have e9 : e.1 ≤ 34 → p1.1 9 = 6 := fun z => by rw [pz_ev z hp 9 (by decide)]; exact h9
    intro k hk
    rw [e3, h1]
    by_cases ck : (k : Int) < s.1 254 33
    · obtain ⟨x1, x2, x3⟩ := H k ck
      refine ⟨x1, ?_, x3⟩
      rcases x2 with x2 | ⟨x2, x4⟩
      · exact Or.inl x2
      · by_cases c1 : (k : Int) + 1 < s.1 254 33
        · exact Or.inr ⟨fun _ => x2 c1, fun z => by omega⟩
        · have c2 : (k : Int) + 1 = s.1 254 33 := by omega
          obtain ⟨y1, y2⟩ := x4 c2
          by_cases c3 : (k : Int) + 1 < s1.1 254 33
          · exact Or.inr ⟨fun _ => by rw [rows (k + 1) (by omega) (by omega), y2], fun z => by omega⟩
          · by_cases he' : e.1 ≤ 34
            · exact Or.inr ⟨fun z => by omega, fun _ => ⟨e9 he', y2⟩⟩
            · exact Or.inl (last (by omega) k (by omega))
    · have r := rows k (by omega) hk
      refine ⟨by omega, ?_, by omega, ?_, fun b hb hlt => by omega⟩
      · by_cases c3 : (k : Int) + 1 < s1.1 254 33
        · exact Or.inr ⟨fun _ => by rw [rows (k + 1) (by omega) (by omega), r], fun z => by omega⟩
        · by_cases he' : e.1 ≤ 34
          · exact Or.inr ⟨fun z => by omega, fun _ => ⟨e9 he', r⟩⟩
          · exact Or.inl (last (by omega) k (by omega))
      · rw [r, show ((p.1 3 : Int) - 1).toNat = hq p - 1 by omega]
        have := (F (hq p - 1) (by omega)).2.1
        omega
  · obtain ⟨n, a, b, d⟩ := e
    dsimp only at he
    subst he
    obtain ⟨hc, -, hq'⟩ := pr_q_in hp
    have e3 : p1.1 3 = p.1 3 := by rw [hq']; rfl
    intro k hk
    rw [h2] at hk
    rw [e3, h1, h2]
    obtain ⟨x1, x2, x3, x4, x5⟩ := H k hk
    refine ⟨x1, ?_, by omega, x4, fun b hb hlt => ?_⟩
    · rcases x2 with x2 | ⟨x2, x6⟩
      · exact Or.inl x2
      · exact Or.inr ⟨x2, fun z => by have := (x6 z).1; have := hc.1; omega⟩
    · by_cases cb : b = hq p
      · rw [cb, h3]; exact hk
      · exact x5 b (by omega) hlt
  · have key : p.1 3 ≤ p1.1 3 ∧ p.1 9 ≠ 6 := by
      have := (fz_ev hp hm B.2.1.1).2.2.1
      refine ⟨this, fun z => ?_⟩
      exact d2 ((pr_decl d3 hp).2.1 z).1
    intro k hk
    rw [h2] at hk
    rw [h1, h2]
    obtain ⟨x1, x2, x3⟩ := H k hk
    refine ⟨by omega, ?_, x3⟩
    rcases x2 with x2 | ⟨x2, x6⟩
    · exact Or.inl x2
    · exact Or.inr ⟨x2, fun z => absurd (x6 z).1 key.2⟩
end
