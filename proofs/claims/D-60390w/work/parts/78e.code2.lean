/-! PURE LAYER, 136: the code grows event by event -/
section
variable {K P V sc ss : Nat → Int} {cs : Nat → Nat} {b21 b15 bv bl : Nat} {c0 : am_H} {pE : pr_S} {S : mi_S} {e : gx_V} {es : List gx_V} {p p1 : pr_S} {s s1 : mi_S} {c c1 : ce_S}
theorem CI_ev (B : bd K V pE S (e :: es) p s c) (hp : pr pw K V e p = .inr p1) (hm : mi V e s = .inr s1) (hc : CO (oE K P V sc ss cs b21 b15 S.1 c0 e p (c.1 8 4) (c.1 235 4) c.2.2.2.2.2.2) c c1) (B1 : bd K V pE S es p1 s1 c1) (M1 : mx s1.1 S.1) (Y1 : my s1.1 S.1) (HK : ∀ k : Nat, (k : Int) < S.1 254 39 → pr_cs K V (S.1 283 k).toNat (S.1 284 k)) (hV : ∀ i, i < 1000 → K i = 3 → 0 ≤ V i) (h263 : e.1 = 48 → S.1 263 (p.1 3 - 1) = (p.1 0 : Int) - 1 ∧ 1 ≤ p.1 0) (F : FI S.1 p s) (H : HS p s) {f : Nat → List (Int × Int × Int)} (I : CI K P V sc ss cs b21 b15 bv bl c0 S.1 p s c f) : ∃ f', (∀ k : Nat, (k : Int) < s.1 254 33 → f' k = f k) ∧ (e.1 = 30 → f' ((s.1 254 33).toNat + 1) = [(20, P e.2.1.toNat, 0)]) ∧ CI K P V sc ss cs b21 b15 bv bl c0 S.1 p1 s1 c1 f' := by
  obtain ⟨⟨I1, I2⟩, I3, ⟨I4, I5, I6, I7⟩, I8, I9⟩ := I
  have h33 : 0 ≤ s.1 254 33 := B.2.1.1.1.2.2.2.1.1
  obtain ⟨⟨⟨x1, -⟩, x2, -, x3, -⟩, c2, c3, -⟩ := hc
  rw [oE_l] at c3
  have wt := pr_wt hp 6
  -- rows
  have rows : ∀ T : List (Int × Int × Int), T = tU (vH b21 c0 S.1) f (S.1 269) (hq p) (s.1 254 33).toNat ++ (oE K P V sc ss cs b21 b15 S.1 c0 e p (c.1 8 4) (c.1 235 4) c.2.2.2.2.2.2).1 → c1.1 8 3 = (bv : Int) + (T.length : Nat) ∧ rws c1.1 9 bv T := by
    intro T hT
    subst hT
    refine ⟨by rw [List.length_append, x1, I1]; omega, ?_⟩
    refine rws_app I2 (fun k h1 h2 => x2 k (by omega)) (fun j v hj => ?_)
    have := x3 j v hj
    rw [show (c.1 8 3).toNat = bv + (tU (vH b21 c0 S.1) f (S.1 269) (hq p) (s.1 254 33).toNat).length by omega] at this
    exact this
  have lab : ∀ T : List (Int × Int × Int), T = tU (vH b21 c0 S.1) f (S.1 269) (hq p) (s.1 254 33).toNat ++ (oE K P V sc ss cs b21 b15 S.1 c0 e p (c.1 8 4) (c.1 235 4) c.2.2.2.2.2.2).1 → lbs T = lbs (tU (vH b21 c0 S.1) f (S.1 269) (hq p) (s.1 254 33).toNat) ++ le e.1 (c.1 8 4) c.2.2.2.2.2.2 := fun T hT => by rw [hT, lbs_app, oE_lbs]
  rcases hq_ev B hp hm B1 with ⟨he, h1, h2, h3, h9, h4⟩ | ⟨he, h1, h2, h3, h4⟩ | ⟨⟨d1, d2, d3⟩, h1, h2⟩
  · obtain ⟨vf, vl⟩ := ve_flat (P := P) (sc := sc) (ss := ss) (cs := cs) (b21 := b21) (b15 := b15) (c0 := c0) (h := S.1) (l := c.1 8 4) (t := c.1 235 4) (st := c.2.2.2.2.2.2) (s := s) hp he
    have pv := PV_ev (P := P) (sc := sc) (ss := ss) (cs := cs) (b21 := b21) (b15 := b15) (c0 := c0) (l := c.1 8 4) (t := c.1 235 4) (st := c.2.2.2.2.2.2) B hp hm B1 M1 Y1 HK hV
    have il := ie_len h33 he B hp hm B1
    have lo : ∀ k : Nat, (k : Int) < s.1 254 33 → exf f (s.1 254 33).toNat (ve P (oE K P V sc ss cs b21 b15 S.1 c0 e p (c.1 8 4) (c.1 235 4) c.2.2.2.2.2.2).1 e (c.1 8 4) c.2.2.2.2.2.2) k = f k := fun k hk => exf_lo (by omega)
    have hi : ∀ j x, (ve P (oE K P V sc ss cs b21 b15 S.1 c0 e p (c.1 8 4) (c.1 235 4) c.2.2.2.2.2.2).1 e (c.1 8 4) c.2.2.2.2.2.2)[j]? = some x → exf f (s.1 254 33).toNat (ve P (oE K P V sc ss cs b21 b15 S.1 c0 e p (c.1 8 4) (c.1 235 4) c.2.2.2.2.2.2).1 e (c.1 8 4) c.2.2.2.2.2.2) ((s.1 254 33).toNat + j) = x := fun j x h => exf_hi h
    have key : tU (vH b21 c0 S.1) (exf f (s.1 254 33).toNat (ve P (oE K P V sc ss cs b21 b15 S.1 c0 e p (c.1 8 4) (c.1 235 4) c.2.2.2.2.2.2).1 e (c.1 8 4) c.2.2.2.2.2.2)) (S.1 269) (hq p1) (s1.1 254 33).toNat = tU (vH b21 c0 S.1) f (S.1 269) (hq p) (s.1 254 33).toNat ++ (oE K P V sc ss cs b21 b15 S.1 c0 e p (c.1 8 4) (c.1 235 4) c.2.2.2.2.2.2).1 := by
      rw [h1, il, show (s.1 254 33 + ((ie e s).length : Int)).toNat = (s.1 254 33).toNat + (ie e s).length by omega, tU_body h2 (by have := (F (hq p - 1) (by omega)).2.1; omega), tU_congr (it' := f) (fun k hk => exf_lo hk) (fun a ha => ⟨by have := (F a ha).2.1; omega, fun b hb1 hb2 => by have := (F a ha).2.2 b hb1 hb2; omega⟩), ← vl, rgn_exf _ (Nat.le_refl _), List.take_length, vf]
    have pvs : ∀ k : Nat, (k : Int) < s1.1 254 33 → PV K P V sc ss cs b21 b15 c0 S.1 k (exf f (s.1 254 33).toNat (ve P (oE K P V sc ss cs b21 b15 S.1 c0 e p (c.1 8 4) (c.1 235 4) c.2.2.2.2.2.2).1 e (c.1 8 4) c.2.2.2.2.2.2) k) := by
      intro k hk
      by_cases ck : (k : Int) < s.1 254 33
      · rw [lo k ck]; exact I3 k ck
      · have hj : k - (s.1 254 33).toNat < (ve P (oE K P V sc ss cs b21 b15 S.1 c0 e p (c.1 8 4) (c.1 235 4) c.2.2.2.2.2.2).1 e (c.1 8 4) c.2.2.2.2.2.2).length := by omega
        have g := List.getElem?_eq_getElem hj
        have a1 := hi _ _ g
        have a2 := pv _ _ g
        rw [show (s.1 254 33).toNat + (k - (s.1 254 33).toNat) = k by omega] at a1 a2
        rw [a1]; exact a2
    have E := fun (j : Nat) (r : Int × Int × Int × Int) (h : (ie e s)[j]? = some r) => ie_end he hp hm B.2.1.1 B.2.2.1 M1 Y1 h
    have mono : ∀ k : Nat, (k : Int) < s.1 254 33 → JTf S.1 f (s.1 254 33) k → JTf S.1 (exf f (s.1 254 33).toNat (ve P (oE K P V sc ss cs b21 b15 S.1 c0 e p (c.1 8 4) (c.1 235 4) c.2.2.2.2.2.2).1 e (c.1 8 4) c.2.2.2.2.2.2)) (s1.1 254 33) k := fun k hk J => J.mono (by omega) lo hk
    have cl := close_ev B hp hm B1 H
    obtain ⟨ep, eh⟩ := pe_ev hp
    have eb := be_ev hm
    have bw0 := B.2.2.1
    have rows := rows _ key
    have lab := lab _ key
    refine ⟨_, lo, fun h => hi 1 _ (by unfold ve; rw [h]; rfl), rows, pvs, ?_⟩
    clear pv pvs rows B B1 I1 I2 I3 x1 x2 x3 HK hV F M1 Y1 h263
    rw [lab, ep, eb, c2, c3]
    clear lab
    generalize hT : lbs (tU (vH b21 c0 S.1) f (S.1 269) (hq p) (s.1 254 33).toNat) = T at I4 I5 ⊢
    clear key hT
    generalize hf' : exf f (s.1 254 33).toNat (ve P (oE K P V sc ss cs b21 b15 S.1 c0 e p (c.1 8 4) (c.1 235 4) c.2.2.2.2.2.2).1 e (c.1 8 4) c.2.2.2.2.2.2) = f' at lo hi mono ⊢
    clear hf'
    generalize hn1 : s1.1 254 33 = n1 at il mono ⊢
    have bk := I8.mono (n' := n1) (f' := f') (by omega) lo
    by_cases hn : pnx e.1
    · obtain ⟨o1, o2, o3⟩ := oE_st (K := K) (P := P) (V := V) (sc := sc) (ss := ss) (cs := cs) (b21 := b21) (b15 := b15) (c0 := c0) (p := p) (h := S.1) (l := c.1 8 4) (t := c.1 235 4) (st := c.2.2.2.2.2.2) hn
      rw [o1, o2, o3, pe_n hn, be_n hn]
      refine ⟨⟨by rw [List.append_nil]; exact I4, fun x hx => ?_, by omega, by omega⟩, bk, fun k hk hk2 => ?_⟩
      · rw [List.append_nil] at hx
        have := I5 x hx
        omega
      · by_cases ck : (k : Int) < s.1 254 33
        · rcases I9 k ck hk2 with z | z
          · exact Or.inl z
          · exact Or.inr (mono k ck z)
        · exfalso
          have hj : k - (s.1 254 33).toNat < (ie e s).length := by omega
          have g := List.getElem?_eq_getElem hj
          have a1 := (E _ _ g).1
          rw [show (s.1 254 33).toNat + (k - (s.1 254 33).toNat) = k by omega] at a1
          have := ie_kind hn _ (List.mem_of_getElem? g)
          omega
    · have hn8 : e.1 = 24 ∨ e.1 = 25 ∨ e.1 = 26 ∨ e.1 = 27 ∨ e.1 = 28 ∨ e.1 = 30 ∨ e.1 = 31 ∨ e.1 = 32 := by unfold pnx at hn; omega
      clear hn
      obtain ⟨n, x, y, z⟩ := e
      dsimp only at hn8 c2 c3 he
      -- a block at hand
      have blk : ∀ a pl, p.2.1 = a :: pl → ∃ b bs q st, s.2.2.2.1 = b :: bs ∧ c.2.2.2.2.2.2 = q :: st := by
        intro a pl h
        rw [h] at I8
        cases hb : s.2.2.2.1 with
        | nil => rw [hb] at I8; cases hs : c.2.2.2.2.2.2 <;> rw [hs] at I8 <;> exact I8.elim
        | cons b bs =>
          rw [hb] at I8
          cases hs : c.2.2.2.2.2.2 with
          | nil => rw [hs] at I8; exact I8.elim
          | cons q st => exact ⟨b, bs, q, st, rfl, rfl⟩
      have fresh : ∀ x, c.1 8 4 ≤ x → x ∉ T ++ opl p.2.1 c.2.2.2.2.2.2 := fun x h1 h2 => by have := I5 x h2; omega
      have k33 : ((s.1 254 33).toNat : Int) = s.1 254 33 := by omega
      rcases hn8 with h | h | h | h | h | h | h | h
      · -- 24
        subst h
        have e0 : (ie (24, x, y, z) s).length = 0 := rfl
        rw [e0] at il
        have epe : pe (24, x, y, z) p = 0 :: p.2.1 := rfl
        have ebe : be (24, x, y, z) s = (1, s.1 254 50, 0, s.1 254 33) :: s.2.2.2.1 := rfl
        have eoe : (oE K P V sc ss cs b21 b15 S.1 c0 (24, x, y, z) p (c.1 8 4) (c.1 235 4) c.2.2.2.2.2.2).2.2.1 = (c.1 235 4, 0, 0, 0) :: c.2.2.2.2.2.2 := rfl
        rw [epe, ebe, eoe]
        refine ⟨⟨?_, ?_, by show _ ≤ c.1 8 4 + ((0 : Nat) : Int); omega, ?_⟩, ⟨⟨fun z => (by cases z), fun z => (by cases z), fun z => (by rcases z with z | z <;> cases z), fun z => (by cases z)⟩, bk⟩, fun k hk hk2 => ?_⟩
        · show (T ++ [] ++ opl p.2.1 c.2.2.2.2.2.2).Nodup
          rw [List.append_nil]; exact I4
        · intro x hx
          have hx : x ∈ T ++ [] ++ opl p.2.1 c.2.2.2.2.2.2 := hx
          rw [List.append_nil] at hx
          have := I5 x hx
          show _ ∧ x < c.1 8 4 + ((0 : Nat) : Int)
          omega
        · show 2 * (c.1 8 4 + ((0 : Nat) : Int) - (bl : Int)) ≤ (p1.2.2.2 6 : Int) + (((0 :: p.2.1).count 3 : Nat) : Int)
          rw [List.count_cons, if_neg (by decide)]
          omega
        · rcases I9 k (by omega) hk2 with z | z
          · exact Or.inl z
          · exact Or.inr (mono k (by omega) z)
      · -- 25
        subst h
        obtain ⟨pl, hpl⟩ := eh 0 rfl
        obtain ⟨b, bs, q, st, hb, hs⟩ := blk 0 pl hpl
        have e0 : (ie (25, x, y, z) s).length = 1 := rfl
        rw [e0] at il
        have h0 := hi 0 _ rfl
        rw [Nat.add_zero] at h0
        have epe : pe (25, x, y, z) p = 1 :: pl := by show 1 :: p.2.1.tail = _; rw [hpl]; rfl
        have ebe : be (25, x, y, z) s = (1, b.2.1, s.1 254 33, b.2.2.2) :: bs := by show (1, (s.2.2.2.1.headD (0, 0, 0, 0)).2.1, s.1 254 33, (s.2.2.2.1.headD (0, 0, 0, 0)).2.2.2) :: s.2.2.2.1.tail = _; rw [hb]; rfl
        have eoe : (oE K P V sc ss cs b21 b15 S.1 c0 (25, x, y, z) p (c.1 8 4) (c.1 235 4) c.2.2.2.2.2.2).2.2.1 = (q.1, c.1 8 4 + 1, 0, 0) :: st := by show ((hd4 c.2.2.2.2.2.2).1, c.1 8 4 + 1, 0, 0) :: c.2.2.2.2.2.2.tail = _; rw [hs]; rfl
        have ele : le (25, x, y, z).1 (c.1 8 4) c.2.2.2.2.2.2 = [c.1 8 4] := by rw [hs]; rfl
        rw [epe, ebe, eoe, ele]
        rw [hs] at h0
        rw [hpl] at I4 I5 I7 I9 bk bw0 fresh
        rw [hb] at I9 bk bw0
        rw [hs] at I4 I5 bk bw0 fresh
        refine ⟨⟨?_, ?_, by show _ ≤ c.1 8 4 + ((2 : Nat) : Int); omega, ?_⟩, ⟨⟨fun _ => ⟨by show ((s.1 254 33).toNat : Int) < n1; omega, _, h0⟩, fun z => (by cases z), fun z => (by rcases z with z | z <;> cases z), fun z => (by cases z)⟩, bk.2⟩, fun k hk hk2 => ?_⟩
        · show (T ++ [c.1 8 4] ++ ([c.1 8 4 + 1] ++ opl pl st)).Nodup
          have g1 : (T ++ [c.1 8 4 + 1] ++ opl pl st).Nodup := nodup_ins I4 (fresh _ (by omega))
          rw [List.append_assoc] at g1
          refine nodup_ins g1 (fun z => ?_)
          rcases List.mem_append.1 z with z | z
          · exact fresh _ (Int.le_refl _) (List.mem_append_left _ z)
          · rcases List.mem_append.1 z with z | z
            · rw [List.mem_singleton] at z; omega
            · exact fresh _ (Int.le_refl _) (List.mem_append_right _ z)
        · intro x hx
          have hx : x ∈ T ++ [c.1 8 4] ++ ([c.1 8 4 + 1] ++ opl pl st) := hx
          have I5' : ∀ x, x ∈ T ∨ x ∈ opl pl st → (bl : Int) ≤ x ∧ x < c.1 8 4 := fun x h => I5 x (List.mem_append.2 h)
          show _ ∧ x < c.1 8 4 + ((2 : Nat) : Int)
          simp only [List.mem_append, List.mem_singleton] at hx
          rcases hx with (hx | hx) | hx | hx
          · have := I5' x (Or.inl hx); omega
          · omega
          · omega
          · have := I5' x (Or.inr hx); omega
        · show 2 * (c.1 8 4 + ((2 : Nat) : Int) - (bl : Int)) ≤ (p1.2.2.2 6 : Int) + (((1 :: pl).count 3 : Nat) : Int)
          rw [List.count_cons, if_neg (by decide)] at I7 ⊢
          have : p1.2.2.2 6 = p.2.2.2 6 + 4 := wt
          omega
        · by_cases ck : (k : Int) < s.1 254 33
          · rcases I9 k ck hk2 with z | z
            · exact Or.inl (List.mem_cons_of_mem _ z)
            · exact Or.inr (mono k ck z)
          · left
            show k ∈ (s.1 254 33).toNat :: hol pl bs
            rw [show k = (s.1 254 33).toNat by omega]; exact List.mem_cons_self
      · -- 26
        subst h
        obtain ⟨pl, hpl⟩ := eh 1 rfl
        obtain ⟨b, bs, q, st, hb, hs⟩ := blk 1 pl hpl
        have e0 : (ie (26, x, y, z) s).length = 2 := rfl
        rw [e0] at il
        have h0 := hi 0 _ rfl
        have h1 := hi 1 _ rfl
        have r1 := (E 1 (20, (s.2.2.2.1.headD (0, 0, 0, 0)).2.1, 0, 0) rfl).1
        have cl := cl.2.1 (Or.inl rfl)
        rw [Nat.add_zero] at h0
        rw [hb] at cl
        have cl : S.1 278 b.2.2.1.toNat = s.1 254 33 + 1 := cl
        have epe : pe (26, x, y, z) p = 2 :: pl := by show 2 :: p.2.1.tail = _; rw [hpl]; rfl
        have ebe : be (26, x, y, z) s = (2, b.2.1, s.1 254 33, 0) :: bs := by show (2, (s.2.2.2.1.headD (0, 0, 0, 0)).2.1, s.1 254 33, 0) :: s.2.2.2.1.tail = _; rw [hb]; rfl
        have eoe : (oE K P V sc ss cs b21 b15 S.1 c0 (26, x, y, z) p (c.1 8 4) (c.1 235 4) c.2.2.2.2.2.2).2.2.1 = (q.1, q.2.1, c.1 8 4, 0) :: st := by show ((hd4 c.2.2.2.2.2.2).1, (hd4 c.2.2.2.2.2.2).2.1, c.1 8 4, 0) :: c.2.2.2.2.2.2.tail = _; rw [hs]; rfl
        have ele : le (26, x, y, z).1 (c.1 8 4) c.2.2.2.2.2.2 = [q.2.1] := by rw [hs]; rfl
        rw [epe, ebe, eoe, ele]
        rw [hs] at h1
        rw [hpl] at I4 I5 I7 I9 bk bw0 fresh
        rw [hb] at I9 bk bw0
        rw [hs] at I4 I5 bk bw0 fresh
        refine ⟨⟨?_, ?_, by show _ ≤ c.1 8 4 + ((1 : Nat) : Int); omega, ?_⟩, ⟨⟨fun z => (by cases z), fun _ => ⟨by show ((s.1 254 33).toNat : Int) < n1; omega, h0⟩, fun z => (by rcases z with z | z <;> cases z), fun z => (by cases z)⟩, bk.2⟩, fun k hk hk2 => ?_⟩
        · show (T ++ [q.2.1] ++ ([c.1 8 4] ++ opl pl st)).Nodup
          have g0 : (T ++ ([q.2.1] ++ opl pl st)).Nodup := I4
          have g1 := nodup_ins (A := T ++ [q.2.1]) (B := opl pl st) (x := c.1 8 4) (by rw [List.append_assoc]; exact g0) (by rw [List.append_assoc]; exact fresh _ (Int.le_refl _))
          rw [List.append_assoc] at g1
          exact g1
        · intro x hx
          have hx : x ∈ T ++ [q.2.1] ++ ([c.1 8 4] ++ opl pl st) := hx
          have I5' : ∀ x, x ∈ T ∨ x = q.2.1 ∨ x ∈ opl pl st → (bl : Int) ≤ x ∧ x < c.1 8 4 := fun x h => I5 x (List.mem_append.2 (h.imp id (fun h => List.mem_append.2 (h.imp List.mem_singleton.2 id))))
          show _ ∧ x < c.1 8 4 + ((1 : Nat) : Int)
          simp only [List.mem_append, List.mem_singleton] at hx
          rcases hx with (hx | hx) | hx | hx
          · have := I5' x (Or.inl hx); omega
          · have := I5' x (Or.inr (Or.inl hx)); omega
          · omega
          · have := I5' x (Or.inr (Or.inr hx)); omega
        · show 2 * (c.1 8 4 + ((1 : Nat) : Int) - (bl : Int)) ≤ (p1.2.2.2 6 : Int) + (((2 :: pl).count 3 : Nat) : Int)
          rw [List.count_cons, if_neg (by decide)] at I7 ⊢
          have : p1.2.2.2 6 = p.2.2.2 6 + 2 := wt
          omega
        · by_cases ck : (k : Int) < s.1 254 33
          · rcases I9 k ck hk2 with z | z
            · have z : k ∈ b.2.2.1.toNat :: hol pl bs := z
              rcases List.mem_cons.1 z with rfl | z
              · right
                obtain ⟨u1, u2⟩ := bk.1.1 rfl
                exact ⟨q.2.1, Or.inl u2, by omega, by rw [cl, show (s.1 254 33 + 1).toNat = (s.1 254 33).toNat + 1 by omega]; exact r1, by rw [cl, show (s.1 254 33 + 1).toNat = (s.1 254 33).toNat + 1 by omega]; exact h1⟩
              · exact Or.inl (List.mem_cons_of_mem _ z)
            · exact Or.inr (mono k ck z)
          · by_cases ck2 : k = (s.1 254 33).toNat
            · left
              show k ∈ (s.1 254 33).toNat :: hol pl bs
              rw [ck2]; exact List.mem_cons_self
            · exfalso
              rw [show (s.1 254 33).toNat + 1 = k by omega] at r1
              have r1 : S.1 277 k = 20 := r1
              omega
      · -- 27
        subst h
        obtain ⟨pl, hpl⟩ := eh 1 rfl
        obtain ⟨b, bs, q, st, hb, hs⟩ := blk 1 pl hpl
        have e0 : (ie (27, x, y, z) s).length = 2 := rfl
        rw [e0] at il
        have h0 := hi 0 _ rfl
        have r0 := (E 0 (20, (s.2.2.2.1.headD (0, 0, 0, 0)).2.1, 0, 0) rfl).1
        have r1 := (E 1 (12, 0, 0, 0) rfl).1
        have cl := cl.1 (Or.inl rfl)
        rw [Nat.add_zero] at h0 r0
        rw [hb] at cl
        have cl : S.1 278 b.2.2.1.toNat = s.1 254 33 := cl
        have epe : pe (27, x, y, z) p = pl := by show p.2.1.tail = _; rw [hpl]; rfl
        have ebe : be (27, x, y, z) s = bs := by show s.2.2.2.1.tail = _; rw [hb]; rfl
        have eoe : (oE K P V sc ss cs b21 b15 S.1 c0 (27, x, y, z) p (c.1 8 4) (c.1 235 4) c.2.2.2.2.2.2).2.2.1 = st := by show c.2.2.2.2.2.2.tail = _; rw [hs]; rfl
        have ele : le (27, x, y, z).1 (c.1 8 4) c.2.2.2.2.2.2 = [q.2.1] := by rw [hs]; rfl
        rw [epe, ebe, eoe, ele]
        rw [hs] at h0
        rw [hpl] at I4 I5 I7 I9 bk bw0 fresh
        rw [hb] at I9 bk bw0
        rw [hs] at I4 I5 bk bw0 fresh
        refine ⟨⟨?_, ?_, by show _ ≤ c.1 8 4 + ((0 : Nat) : Int); omega, ?_⟩, bk.2, fun k hk hk2 => ?_⟩
        · show (T ++ [q.2.1] ++ opl pl st).Nodup
          rw [List.append_assoc]; exact I4
        · intro x hx
          have hx : x ∈ T ++ [q.2.1] ++ opl pl st := hx
          rw [List.append_assoc] at hx
          have := I5 x hx
          show _ ∧ x < c.1 8 4 + ((0 : Nat) : Int)
          omega
        · show 2 * (c.1 8 4 + ((0 : Nat) : Int) - (bl : Int)) ≤ (p1.2.2.2 6 : Int) + ((pl.count 3 : Nat) : Int)
          rw [List.count_cons, if_neg (by decide)] at I7
          omega
        · by_cases ck : (k : Int) < s.1 254 33
          · rcases I9 k ck hk2 with z | z
            · have z : k ∈ b.2.2.1.toNat :: hol pl bs := z
              rcases List.mem_cons.1 z with rfl | z
              · right
                obtain ⟨u1, u2⟩ := bk.1.1 rfl
                exact ⟨q.2.1, Or.inl u2, by omega, by rw [cl]; exact r0, by rw [cl]; exact h0⟩
              · exact Or.inl z
            · exact Or.inr (mono k ck z)
          · exfalso
            have r0 : S.1 277 (s.1 254 33).toNat = 20 := r0
            have r1 : S.1 277 ((s.1 254 33).toNat + 1) = 12 := r1
            by_cases ck2 : k = (s.1 254 33).toNat
            · rw [ck2] at hk2; omega
            · rw [show k = (s.1 254 33).toNat + 1 by omega] at hk2; omega
      · -- 28
        subst h
        obtain ⟨pl, hpl⟩ := eh 2 rfl
        obtain ⟨b, bs, q, st, hb, hs⟩ := blk 2 pl hpl
        have e0 : (ie (28, x, y, z) s).length = 2 := rfl
        rw [e0] at il
        have h0 := hi 0 _ rfl
        have r0 := (E 0 (20, (s.2.2.2.1.headD (0, 0, 0, 0)).2.1 + 1, 0, 0) rfl).1
        have r1 := (E 1 (12, 0, 0, 0) rfl).1
        have cl := cl.1 (Or.inr rfl)
        rw [Nat.add_zero] at h0 r0
        rw [hb] at cl
        have cl : S.1 278 b.2.2.1.toNat = s.1 254 33 := cl
        have epe : pe (28, x, y, z) p = pl := by show p.2.1.tail = _; rw [hpl]; rfl
        have ebe : be (28, x, y, z) s = bs := by show s.2.2.2.1.tail = _; rw [hb]; rfl
        have eoe : (oE K P V sc ss cs b21 b15 S.1 c0 (28, x, y, z) p (c.1 8 4) (c.1 235 4) c.2.2.2.2.2.2).2.2.1 = st := by show c.2.2.2.2.2.2.tail = _; rw [hs]; rfl
        have ele : le (28, x, y, z).1 (c.1 8 4) c.2.2.2.2.2.2 = [q.2.2.1] := by rw [hs]; rfl
        rw [epe, ebe, eoe, ele]
        rw [hs] at h0
        rw [hpl] at I4 I5 I7 I9 bk bw0 fresh
        rw [hb] at I9 bk bw0
        rw [hs] at I4 I5 bk bw0 fresh
        refine ⟨⟨?_, ?_, by show _ ≤ c.1 8 4 + ((0 : Nat) : Int); omega, ?_⟩, bk.2, fun k hk hk2 => ?_⟩
        · show (T ++ [q.2.2.1] ++ opl pl st).Nodup
          rw [List.append_assoc]; exact I4
        · intro x hx
          have hx : x ∈ T ++ [q.2.2.1] ++ opl pl st := hx
          rw [List.append_assoc] at hx
          have := I5 x hx
          show _ ∧ x < c.1 8 4 + ((0 : Nat) : Int)
          omega
        · show 2 * (c.1 8 4 + ((0 : Nat) : Int) - (bl : Int)) ≤ (p1.2.2.2 6 : Int) + ((pl.count 3 : Nat) : Int)
          rw [List.count_cons, if_neg (by decide)] at I7
          omega
        · by_cases ck : (k : Int) < s.1 254 33
          · rcases I9 k ck hk2 with z | z
            · have z : k ∈ b.2.2.1.toNat :: hol pl bs := z
              rcases List.mem_cons.1 z with rfl | z
              · right
                obtain ⟨u1, u2⟩ := bk.1.2.1 rfl
                have k16 : S.1 277 b.2.2.1.toNat = 16 := (bw0.1.2.2.2 rfl).2.2
                exact ⟨q.2.2.1, Or.inr ⟨k16, u2⟩, by omega, by rw [cl]; exact r0, by rw [cl]; exact h0⟩
              · exact Or.inl z
            · exact Or.inr (mono k ck z)
          · exfalso
            have r0 : S.1 277 (s.1 254 33).toNat = 20 := r0
            have r1 : S.1 277 ((s.1 254 33).toNat + 1) = 12 := r1
            by_cases ck2 : k = (s.1 254 33).toNat
            · rw [ck2] at hk2; omega
            · rw [show k = (s.1 254 33).toNat + 1 by omega] at hk2; omega
      · -- 30
        subst h
        have e0 : (ie (30, x, y, z) s).length = 2 := rfl
        rw [e0] at il
        have h0 := hi 0 _ rfl
        have r0 := (E 0 (20, s.1 254 50, 0, 0) rfl).1
        have r1 := (E 1 (17, 0, 0, 0) rfl).1
        rw [Nat.add_zero] at h0 r0
        have epe : pe (30, x, y, z) p = 3 :: p.2.1 := rfl
        have ebe : be (30, x, y, z) s = (3, s.1 254 50, 0, s.1 254 33) :: s.2.2.2.1 := rfl
        have eoe : (oE K P V sc ss cs b21 b15 S.1 c0 (30, x, y, z) p (c.1 8 4) (c.1 235 4) c.2.2.2.2.2.2).2.2.1 = (c.1 235 4, c.1 8 4, c.1 8 4 + 1, 0) :: c.2.2.2.2.2.2 := rfl
        rw [epe, ebe, eoe]
        refine ⟨⟨?_, ?_, by show _ ≤ c.1 8 4 + ((2 : Nat) : Int); omega, ?_⟩, ⟨⟨fun z => (by cases z), fun z => (by cases z), fun _ => ⟨h33, by show s.1 254 33 < n1; omega, r0, h0⟩, fun z => (by cases z)⟩, bk⟩, fun k hk hk2 => ?_⟩
        · show (T ++ [c.1 8 4] ++ ([c.1 8 4 + 1] ++ opl p.2.1 c.2.2.2.2.2.2)).Nodup
          have g1 : (T ++ [c.1 8 4 + 1] ++ opl p.2.1 c.2.2.2.2.2.2).Nodup := nodup_ins I4 (fresh _ (by omega))
          rw [List.append_assoc] at g1
          refine nodup_ins g1 (fun z => ?_)
          rcases List.mem_append.1 z with z | z
          · exact fresh _ (Int.le_refl _) (List.mem_append_left _ z)
          · rcases List.mem_append.1 z with z | z
            · rw [List.mem_singleton] at z; omega
            · exact fresh _ (Int.le_refl _) (List.mem_append_right _ z)
        · intro x hx
          have hx : x ∈ T ++ [c.1 8 4] ++ ([c.1 8 4 + 1] ++ opl p.2.1 c.2.2.2.2.2.2) := hx
          have I5' : ∀ x, x ∈ T ∨ x ∈ opl p.2.1 c.2.2.2.2.2.2 → (bl : Int) ≤ x ∧ x < c.1 8 4 := fun x h => I5 x (List.mem_append.2 h)
          show _ ∧ x < c.1 8 4 + ((2 : Nat) : Int)
          simp only [List.mem_append, List.mem_singleton] at hx
          rcases hx with (hx | hx) | hx | hx
          · have := I5' x (Or.inl hx); omega
          · omega
          · omega
          · have := I5' x (Or.inr hx); omega
        · show 2 * (c.1 8 4 + ((2 : Nat) : Int) - (bl : Int)) ≤ (p1.2.2.2 6 : Int) + (((3 :: p.2.1).count 3 : Nat) : Int)
          rw [List.count_cons, if_pos (by decide)]
          have : p1.2.2.2 6 = p.2.2.2 6 + 3 := wt
          omega
        · by_cases ck : (k : Int) < s.1 254 33
          · rcases I9 k ck hk2 with z | z
            · exact Or.inl z
            · exact Or.inr (mono k ck z)
          · exfalso
            have r0 : S.1 277 (s.1 254 33).toNat = 20 := r0
            have r1 : S.1 277 ((s.1 254 33).toNat + 1) = 17 := r1
            by_cases ck2 : k = (s.1 254 33).toNat
            · rw [ck2] at hk2; omega
            · rw [show k = (s.1 254 33).toNat + 1 by omega] at hk2; omega
      · -- 31
        subst h
        obtain ⟨pl, hpl⟩ := eh 3 rfl
        obtain ⟨b, bs, q, st, hb, hs⟩ := blk 3 pl hpl
        have e0 : (ie (31, x, y, z) s).length = 1 := rfl
        rw [e0] at il
        have h0 := hi 0 _ rfl
        rw [Nat.add_zero] at h0
        have epe : pe (31, x, y, z) p = 4 :: pl := by show 4 :: p.2.1.tail = _; rw [hpl]; rfl
        have ebe : be (31, x, y, z) s = (3, b.2.1, s.1 254 33, b.2.2.2) :: bs := by show (3, (s.2.2.2.1.headD (0, 0, 0, 0)).2.1, s.1 254 33, (s.2.2.2.1.headD (0, 0, 0, 0)).2.2.2) :: s.2.2.2.1.tail = _; rw [hb]; rfl
        have eoe : (oE K P V sc ss cs b21 b15 S.1 c0 (31, x, y, z) p (c.1 8 4) (c.1 235 4) c.2.2.2.2.2.2).2.2.1 = q :: st := by show c.2.2.2.2.2.2 = _; rw [hs]
        have ele : le (31, x, y, z).1 (c.1 8 4) c.2.2.2.2.2.2 = [c.1 8 4] := by rw [hs]; rfl
        rw [epe, ebe, eoe, ele]
        rw [hs] at h0
        rw [hpl] at I4 I5 I7 I9 bk bw0 fresh
        rw [hb] at I9 bk bw0
        rw [hs] at I4 I5 bk bw0 fresh
        refine ⟨⟨?_, ?_, by show _ ≤ c.1 8 4 + ((1 : Nat) : Int); omega, ?_⟩, ⟨⟨fun z => (by cases z), fun z => (by cases z), fun _ => bk.1.2.2.1 (Or.inl rfl), fun _ => ⟨by show ((s.1 254 33).toNat : Int) < n1; omega, _, h0⟩⟩, bk.2⟩, fun k hk hk2 => ?_⟩
        · show (T ++ [c.1 8 4] ++ opl (3 :: pl) (q :: st)).Nodup
          exact nodup_ins I4 (fresh _ (Int.le_refl _))
        · intro x hx
          have hx : x ∈ T ++ [c.1 8 4] ++ opl (3 :: pl) (q :: st) := hx
          have I5' : ∀ x, x ∈ T ∨ x ∈ opl (3 :: pl) (q :: st) → (bl : Int) ≤ x ∧ x < c.1 8 4 := fun x h => I5 x (List.mem_append.2 h)
          show _ ∧ x < c.1 8 4 + ((1 : Nat) : Int)
          rcases List.mem_append.1 hx with hx | hx
          · rcases List.mem_append.1 hx with hx | hx
            · have := I5' x (Or.inl hx); omega
            · rw [List.mem_singleton] at hx; omega
          · have := I5' x (Or.inr hx); omega
        · show 2 * (c.1 8 4 + ((1 : Nat) : Int) - (bl : Int)) ≤ (p1.2.2.2 6 : Int) + (((4 :: pl).count 3 : Nat) : Int)
          rw [List.count_cons, if_pos (by decide)] at I7
          rw [List.count_cons, if_neg (by decide)]
          have : p1.2.2.2 6 = p.2.2.2 6 + 4 := wt
          omega
        · by_cases ck : (k : Int) < s.1 254 33
          · rcases I9 k ck hk2 with z | z
            · exact Or.inl (List.mem_cons_of_mem _ z)
            · exact Or.inr (mono k ck z)
          · left
            show k ∈ (s.1 254 33).toNat :: hol pl bs
            rw [show k = (s.1 254 33).toNat by omega]; exact List.mem_cons_self
      · -- 32
        subst h
        obtain ⟨pl, hpl⟩ := eh 4 rfl
        obtain ⟨b, bs, q, st, hb, hs⟩ := blk 4 pl hpl
        have e0 : (ie (32, x, y, z) s).length = 3 := rfl
        rw [e0] at il
        have h0 := hi 0 _ rfl
        have h1 := hi 1 _ rfl
        have r0 := (E 0 (16, (s.2.2.2.1.headD (0, 0, 0, 0)).2.2.2, (s.2.2.2.1.headD (0, 0, 0, 0)).2.1, 0) rfl).1
        have r1 := (E 1 (20, (s.2.2.2.1.headD (0, 0, 0, 0)).2.1 + 1, 0, 0) rfl).1
        have r2 := (E 2 (12, 0, 0, 0) rfl).1
        have cl2 := cl.2.2 rfl
        have cl := cl.2.1 (Or.inr rfl)
        rw [Nat.add_zero] at h0 r0
        rw [hb] at cl cl2
        have cl : S.1 278 b.2.2.1.toNat = s.1 254 33 + 1 := cl
        have cl2 : S.1 278 (s.1 254 33).toNat = b.2.2.2 := cl2
        have epe : pe (32, x, y, z) p = pl := by show p.2.1.tail = _; rw [hpl]; rfl
        have ebe : be (32, x, y, z) s = bs := by show s.2.2.2.1.tail = _; rw [hb]; rfl
        have eoe : (oE K P V sc ss cs b21 b15 S.1 c0 (32, x, y, z) p (c.1 8 4) (c.1 235 4) c.2.2.2.2.2.2).2.2.1 = st := by show c.2.2.2.2.2.2.tail = _; rw [hs]; rfl
        have ele : le (32, x, y, z).1 (c.1 8 4) c.2.2.2.2.2.2 = [q.2.2.1] := by rw [hs]; rfl
        rw [epe, ebe, eoe, ele]
        rw [hs] at h0 h1
        rw [hpl] at I4 I5 I7 I9 bk bw0 fresh
        rw [hb] at I9 bk bw0
        rw [hs] at I4 I5 bk bw0 fresh
        refine ⟨⟨?_, ?_, by show _ ≤ c.1 8 4 + ((0 : Nat) : Int); omega, ?_⟩, bk.2, fun k hk hk2 => ?_⟩
        · show (T ++ [q.2.2.1] ++ opl pl st).Nodup
          rw [List.append_assoc]; exact I4
        · intro x hx
          have hx : x ∈ T ++ [q.2.2.1] ++ opl pl st := hx
          rw [List.append_assoc] at hx
          have := I5 x hx
          show _ ∧ x < c.1 8 4 + ((0 : Nat) : Int)
          omega
        · show 2 * (c.1 8 4 + ((0 : Nat) : Int) - (bl : Int)) ≤ (p1.2.2.2 6 : Int) + ((pl.count 3 : Nat) : Int)
          rw [List.count_cons, if_neg (by decide)] at I7
          omega
        · by_cases ck : (k : Int) < s.1 254 33
          · rcases I9 k ck hk2 with z | z
            · have z : k ∈ b.2.2.1.toNat :: hol pl bs := z
              rcases List.mem_cons.1 z with rfl | z
              · right
                obtain ⟨u1, u2⟩ := bk.1.2.2.2 rfl
                exact ⟨q.2.2.1, Or.inl u2, by omega, by rw [cl, show (s.1 254 33 + 1).toNat = (s.1 254 33).toNat + 1 by omega]; exact r1, by rw [cl, show (s.1 254 33 + 1).toNat = (s.1 254 33).toNat + 1 by omega]; exact h1⟩
              · exact Or.inl z
            · exact Or.inr (mono k ck z)
          · by_cases ck2 : k = (s.1 254 33).toNat
            · right
              subst ck2
              obtain ⟨u0, u1, u2, u3⟩ := bk.1.2.2.1 (Or.inr rfl)
              exact ⟨q.2.1, Or.inr ⟨r0, h0⟩, by rw [cl2]; exact ⟨u0, u1⟩, by rw [cl2]; exact u2, by rw [cl2]; exact u3⟩
            · exfalso
              have r1 : S.1 277 ((s.1 254 33).toNat + 1) = 20 := r1
              have r2 : S.1 277 ((s.1 254 33).toNat + 2) = 12 := r2
              by_cases ck3 : k = (s.1 254 33).toNat + 1
              · rw [ck3] at hk2; omega
              · rw [show k = (s.1 254 33).toNat + 2 by omega] at hk2; omega
  · have key : tU (vH b21 c0 S.1) f (S.1 269) (hq p1) (s1.1 254 33).toNat = tU (vH b21 c0 S.1) f (S.1 269) (hq p) (s.1 254 33).toNat ++ (oE K P V sc ss cs b21 b15 S.1 c0 e p (c.1 8 4) (c.1 235 4) c.2.2.2.2.2.2).1 := by
      rw [h1, h2, tU_head (by rw [h3]), vH_ev B hp hm B1 he (h263 he).1 (h263 he).2, show p.1 3 - 1 = hq p by omega]
    have hn : pnx e.1 := by unfold pnx; omega
    obtain ⟨o1, o2, o3⟩ := oE_st (K := K) (P := P) (V := V) (sc := sc) (ss := ss) (cs := cs) (b21 := b21) (b15 := b15) (c0 := c0) (p := p) (h := S.1) (l := c.1 8 4) (t := c.1 235 4) (st := c.2.2.2.2.2.2) hn
    refine ⟨f, fun _ _ => rfl, fun h => by omega, rows _ key, by rw [h2]; exact I3, ?_⟩
    rw [lab _ key, (pe_ev hp).1, be_ev hm, c2, c3, o1, o2, o3, pe_n hn, be_n hn, h2, List.append_nil]
    exact ⟨⟨I4, fun x hx => by have := I5 x hx; omega, by omega, by omega⟩, I8, I9⟩
  · have hn : pnx e.1 := by unfold pnx; omega
    have o0 := oE_0 (K := K) (P := P) (V := V) (sc := sc) (ss := ss) (cs := cs) (b21 := b21) (b15 := b15) (c0 := c0) (p := p) (h := S.1) (l := c.1 8 4) (t := c.1 235 4) (st := c.2.2.2.2.2.2) d1 d2 d3
    have key : tU (vH b21 c0 S.1) f (S.1 269) (hq p1) (s1.1 254 33).toNat = tU (vH b21 c0 S.1) f (S.1 269) (hq p) (s.1 254 33).toNat ++ (oE K P V sc ss cs b21 b15 S.1 c0 e p (c.1 8 4) (c.1 235 4) c.2.2.2.2.2.2).1 := by
      rw [h1, h2, o0, List.append_nil]
    obtain ⟨o1, o2, o3⟩ := oE_st (K := K) (P := P) (V := V) (sc := sc) (ss := ss) (cs := cs) (b21 := b21) (b15 := b15) (c0 := c0) (p := p) (h := S.1) (l := c.1 8 4) (t := c.1 235 4) (st := c.2.2.2.2.2.2) hn
    refine ⟨f, fun _ _ => rfl, fun h => by omega, rows _ key, by rw [h2]; exact I3, ?_⟩
    rw [lab _ key, (pe_ev hp).1, be_ev hm, c2, c3, o1, o2, o3, pe_n hn, be_n hn, h2, List.append_nil]
    exact ⟨⟨I4, fun x hx => by have := I5 x hx; omega, by omega, by omega⟩, I8, I9⟩
end
