/-! PURE LAYER, 134: blocks that are open, by events; lines by items -/
def be (e : gx_V) (s : mi_S) : List (Int × Int × Int × Int) :=
  let b := s.2.2.2.1.headD (0, 0, 0, 0)
  match e.1 with
  | 24 => (1, s.1 254 50, 0, s.1 254 33) :: s.2.2.2.1
  | 25 => (1, b.2.1, s.1 254 33, b.2.2.2) :: s.2.2.2.1.tail
  | 26 => (2, b.2.1, s.1 254 33, 0) :: s.2.2.2.1.tail
  | 27 => s.2.2.2.1.tail
  | 28 => s.2.2.2.1.tail
  | 30 => (3, s.1 254 50, 0, s.1 254 33) :: s.2.2.2.1
  | 31 => (3, b.2.1, s.1 254 33, b.2.2.2) :: s.2.2.2.1.tail
  | 32 => s.2.2.2.1.tail
  | _ => s.2.2.2.1
def pe (e : gx_V) (p : pr_S) : List Nat :=
  match e.1 with
  | 24 => 0 :: p.2.1
  | 25 => 1 :: p.2.1.tail
  | 26 => 2 :: p.2.1.tail
  | 27 => p.2.1.tail
  | 28 => p.2.1.tail
  | 30 => 3 :: p.2.1
  | 31 => 4 :: p.2.1.tail
  | 32 => p.2.1.tail
  | _ => p.2.1
/-- the block that an event closes or changes -/
def ph (n : Nat) : Option Nat := match n with
  | 25 => some 0
  | 26 => some 1
  | 27 => some 1
  | 28 => some 2
  | 31 => some 3
  | 32 => some 4
  | _ => none
def pnx (n : Nat) : Prop := n ≠ 24 ∧ n ≠ 25 ∧ n ≠ 26 ∧ n ≠ 27 ∧ n ≠ 28 ∧ n ≠ 30 ∧ n ≠ 31 ∧ n ≠ 32
section
variable {K P V sc ss : Nat → Int} {cs : Nat → Nat} {b21 b15 : Nat} {c0 : am_H} {pE : pr_S} {S : mi_S} {e : gx_V} {es : List gx_V} {p p1 : pr_S} {s s1 : mi_S} {c c1 : ce_S}
theorem be_n (h : pnx e.1) : be e s = s.2.2.2.1 := by
  obtain ⟨h1, h2, h3, h4, h5, h6, h7, h8⟩ := h
  unfold be; dsimp only; split <;> first | rfl | (exfalso; omega)
theorem pe_n (h : pnx e.1) : pe e p = p.2.1 := by
  obtain ⟨h1, h2, h3, h4, h5, h6, h7, h8⟩ := h
  unfold pe; split <;> first | rfl | (exfalso; omega)
theorem ph_n (h : pnx e.1) : ph e.1 = none := by
  obtain ⟨h1, h2, h3, h4, h5, h6, h7, h8⟩ := h
  unfold ph; split <;> first | rfl | (exfalso; omega)
theorem be_ev (hm : mi V e s = .inr s1) : s1.2.2.2.1 = be e s := by
  obtain ⟨g, ty, so, bs, oc⟩ := s
  obtain ⟨n, a, b, d⟩ := e
  have key : gx_P (mi V (n, a, b, d) (g, ty, so, bs, oc)) (fun s1 => s1.2.2.2.1 = be (n, a, b, d) (g, ty, so, bs, oc)) := by
    have hh : ∀ r, gx_P (mi_h (g, ty, so, bs, oc) r) (fun s1 => s1.2.2.2.1 = bs) := fun r => gx_P_b fun a e => gx_P_i rfl
    unfold mi
    dsimp only
    split
    all_goals first
      | (exact hh _)
      | (exact gx_P_i rfl)
      | (exact fun a e => by cases e)
      | (exact gx_P_q fun _ => gx_P_i rfl)
      | (exact gx_P_q fun _ => gx_P_b fun _ _ => gx_P_i rfl)
      | (exact gx_P_q fun _ => gx_P_b fun _ _ => gx_P_b fun _ _ => gx_P_i rfl)
      | skip
    · cases oc with
      | nil => exact fun a e => by cases e
      | cons x l => exact gx_P_b fun _ _ => gx_P_i rfl
    · cases bs with
      | nil => exact fun a e => by cases e
      | cons x l => exact gx_P_q fun _ => gx_P_b fun _ _ => gx_P_i rfl
    · cases bs with
      | nil => exact fun a e => by cases e
      | cons x l => exact gx_P_b fun _ _ => gx_P_b fun _ _ => gx_P_i rfl
    · cases bs with
      | nil => exact fun a e => by cases e
      | cons x l => exact gx_P_b fun _ _ => gx_P_b fun _ _ => gx_P_i rfl
    · cases bs with
      | nil => exact fun a e => by cases e
      | cons x l => exact gx_P_b fun _ _ => gx_P_b fun _ _ => gx_P_i rfl
    · cases bs with
      | nil => exact fun a e => by cases e
      | cons x l => exact gx_P_q fun _ => gx_P_b fun _ _ => gx_P_i rfl
    · cases bs with
      | nil => exact fun a e => by cases e
      | cons x l => exact gx_P_b fun _ _ => gx_P_b fun _ _ => gx_P_b fun _ _ => gx_P_i rfl
    · refine gx_P_q fun _ => ?_
      by_cases hb : b = 1
      · rw [if_pos hb]; exact gx_P_i rfl
      · rw [if_neg hb]; exact gx_P_i rfl
  exact key s1 hm
theorem pe_ev {w : Nat → Nat → Nat} (hp : pr w K V e p = .inr p1) : p1.2.1 = pe e p ∧ (∀ a, ph e.1 = some a → ∃ pl, p.2.1 = a :: pl) := by
  obtain ⟨n, x, y, z⟩ := e
  by_cases h12 : n = 12
  · subst h12
    cases hq : p.2.2.1 with
    | nil => unfold pr at hp; dsimp only at hp; rw [hq] at hp; cases hp
    | cons q l => unfold pr at hp; dsimp only at hp; rw [hq] at hp; obtain ⟨-, -, e⟩ := pr_q_in hp; rw [e]; exact ⟨rfl, fun a h => by cases h⟩
  have hd : ∀ z : Nat, p.2.1.head? = some z → ∀ a, some z = some a → ∃ pl, p.2.1 = a :: pl := fun z hz a ha => by
    cases ha
    cases hq : p.2.1 with
    | nil => rw [hq] at hz; cases hz
    | cons y pl => rw [hq] at hz; cases hz; exact ⟨pl, rfl⟩
  have hn0 : ∀ a, (none : Option Nat) = some a → ∃ pl, p.2.1 = a :: pl := fun a h => by cases h
  unfold pr at hp
  split at hp
  all_goals first
    | (cases hp; done)
    | (rename_i hn; have hn : n = _ := hn; subst hn; exact absurd rfl h12)
    | (rename_i hn; have hn : n = _ := hn; subst hn)
  all_goals (obtain ⟨hc, -, e⟩ := pr_q_in hp; subst e)
  all_goals first
    | (exact ⟨rfl, hn0⟩)
    | (exact ⟨rfl, hd _ hc.2.2.1⟩)
/-- lines of the items that an event adds -/
def ve (P : Nat → Int) (o : List (Int × Int × Int)) (e : gx_V) (l : Int) (st : List (Int × Int × Int × Int)) : List (List (Int × Int × Int)) :=
  match e.1 with
  | 21 => []
  | 22 => [o, []]
  | 23 => [o, []]
  | 24 => []
  | 26 => [[(12, l, 0)], [(11, (hd4 st).2.1, 0)]]
  | 27 => [o, []]
  | 28 => [o, []]
  | 30 => [[(11, l, 0)], [(20, P e.2.1.toNat, 0)]]
  | 32 => [[(12, (hd4 st).2.1, 0)], [(11, (hd4 st).2.2.1, 0)], []]
  | 34 => [o, []]
  | 49 => [[(0, 0, 0)], [(16, 0, 0)]]
  | n => if n ≤ 34 then [o] else []
theorem ve_flat {w : Nat → Nat → Nat} (hp : pr w K V e p = .inr p1) (he : e.1 ≤ 34 ∨ e.1 = 49) {h : am_H} {l t : Int} {st : List (Int × Int × Int × Int)} : (ve P (oE K P V sc ss cs b21 b15 h c0 e p l t st).1 e l st).flatten = (oE K P V sc ss cs b21 b15 h c0 e p l t st).1 ∧ (ve P (oE K P V sc ss cs b21 b15 h c0 e p l t st).1 e l st).length = (ie e s).length := by
  obtain ⟨n, x, y, z⟩ := e
  dsimp only at he
  have one : ∀ o : List (Int × Int × Int), [o].flatten = o := fun o => by simp
  have two : ∀ o : List (Int × Int × Int), [o, []].flatten = o := fun o => by simp
  by_cases h12 : n = 12
  · subst h12; exact ⟨one _, rfl⟩
  unfold pr at hp
  split at hp
  all_goals first
    | (cases hp; done)
    | (rename_i hn; have hn : n = _ := hn; subst hn; exact absurd rfl h12)
    | (rename_i hn; have hn : n = _ := hn; subst hn)
  all_goals first
    | (exfalso; omega)
    | (exact ⟨one _, rfl⟩)
    | (exact ⟨two _, rfl⟩)
    | (exact ⟨rfl, rfl⟩)
/-- an object's lines -/
def oV (b15 : Nat) (V : Nat → Int) (S : am_H) (a : Nat) : List (Int × Int × Int) := if S 282 a = -1 then [(0, 4, 0)] else if m_var V S (S 289 a) (S 282 a).toNat = -1 then [] else ldk (kdv S (m_var V S (S 289 a) (S 282 a).toNat).toNat) (plv b15 S (m_var V S (S 289 a) (S 282 a).toNat).toNat)
/-- lines of an item, but for jumps and labels -/
def vS (K P V sc ss : Nat → Int) (cs : Nat → Nat) (b21 b15 : Nat) (c0 S : am_H) (k : Nat) : List (Int × Int × Int) :=
  match (S 277 k).toNat with
  | 0 => if S 278 k < 0 then [(0, 0, 0), (7, 0, 0)] else [(0, 0, S 278 k)]
  | 1 => (0, 0, V (S 280 k).toNat) :: (15, sysS c0 30 31, 1) :: chE c0 (sysS c0 30 32) (P (S 280 k).toNat + 1).toNat false (V (S 280 k).toNat).toNat 0
  | 3 => [(0, 4, 0)]
  | 4 => ldk (kdv S (m_var V S (S 281 k) (S 280 k).toNat).toNat) (plv b15 S (m_var V S (S 281 k) (S 280 k).toNat).toNat)
  | 5 => [(2, 0, 0), (17, 1, 0)]
  | 6 => opE c0 (S 278 k) false
  | 7 => [(4, 0, 0)]
  | 8 => [(7, 0, 0)]
  | 9 => oV b15 V S (S 278 k).toNat
  | 10 => [(15, sm b21 cs (m_kc K V sc S (S 278 k).toNat) (m_sof V ss S (m_kc K V sc S (S 278 k).toNat) (S 283 (S 278 k).toNat).toNat), if 0 < m_ko V S (S 278 k).toNat then S 284 (S 278 k).toNat + 1 else S 284 (S 278 k).toNat)]
  | 11 => [(20, P (S 280 k).toNat, 0)]
  | 13 => stk (kdv S (m_var V S (S 281 k) (S 280 k).toNat).toNat) (plv b15 S (m_var V S (S 281 k) (S 280 k).toNat).toNat)
  | 14 => [(1, 5, 0), (18, 1, 0)]
  | 18 => [(16, 0, 0)]
  | 19 => [(1, 5, 0)]
  | _ => []
def PV (K P V sc ss : Nat → Int) (cs : Nat → Nat) (b21 b15 : Nat) (c0 S : am_H) (k : Nat) (L : List (Int × Int × Int)) : Prop :=
  (S 277 k ≠ 15 ∧ S 277 k ≠ 16 ∧ S 277 k ≠ 17 ∧ S 277 k ≠ 20 → L = vS K P V sc ss cs b21 b15 c0 S k) ∧ (S 277 k = 15 → ∃ x y, L = [(13, x, 0), (12, y, 0), (11, x, 0)]) ∧ (S 277 k = 16 → ∃ y, L = [(12, y, 0)]) ∧ (S 277 k = 17 → ∃ t : Nat, L = [(20, P t, 0)]) ∧ (S 277 k = 20 → ∃ x, L = [(11, x, 0)])
theorem PV.pl {k : Nat} {L : List (Int × Int × Int)} (m : Int) (h : S.1 277 k = m) (hm : m ≠ 15 ∧ m ≠ 16 ∧ m ≠ 17 ∧ m ≠ 20) (hL : L = vS K P V sc ss cs b21 b15 c0 S.1 k) : PV K P V sc ss cs b21 b15 c0 S.1 k L := ⟨fun _ => hL, fun z => by omega, fun z => by omega, fun z => by omega, fun z => by omega⟩
theorem PV.j15 {k : Nat} {x y : Int} (h : S.1 277 k = 15) : PV K P V sc ss cs b21 b15 c0 S.1 k [(13, x, 0), (12, y, 0), (11, x, 0)] := ⟨fun z => by omega, fun _ => ⟨x, y, rfl⟩, fun z => by omega, fun z => by omega, fun z => by omega⟩
theorem PV.j16 {k : Nat} {y : Int} (h : S.1 277 k = 16) : PV K P V sc ss cs b21 b15 c0 S.1 k [(12, y, 0)] := ⟨fun z => by omega, fun z => by omega, fun _ => ⟨y, rfl⟩, fun z => by omega, fun z => by omega⟩
theorem PV.j17 {k t : Nat} (h : S.1 277 k = 17) : PV K P V sc ss cs b21 b15 c0 S.1 k [(20, P t, 0)] := ⟨fun z => by omega, fun z => by omega, fun z => by omega, fun _ => ⟨t, rfl⟩, fun z => by omega⟩
theorem PV.j20 {k : Nat} {x : Int} (h : S.1 277 k = 20) : PV K P V sc ss cs b21 b15 c0 S.1 k [(11, x, 0)] := ⟨fun z => by omega, fun z => by omega, fun z => by omega, fun z => by omega, fun _ => ⟨x, rfl⟩⟩
theorem vS_k {k m : Nat} (h : S.1 277 k = (m : Int)) : (S.1 277 k).toNat = m := by omega
theorem vS_0 {k : Nat} (h : S.1 277 k = 0) : vS K P V sc ss cs b21 b15 c0 S.1 k = if S.1 278 k < 0 then [(0, 0, 0), (7, 0, 0)] else [(0, 0, S.1 278 k)] := by unfold vS; rw [h]; rfl
theorem vS_9 {k : Nat} (h : S.1 277 k = 9) : vS K P V sc ss cs b21 b15 c0 S.1 k = oV b15 V S.1 (S.1 278 k).toNat := by unfold vS; rw [h]; rfl
theorem vS_10 {k : Nat} (h : S.1 277 k = 10) : vS K P V sc ss cs b21 b15 c0 S.1 k = [(15, sm b21 cs (m_kc K V sc S.1 (S.1 278 k).toNat) (m_sof V ss S.1 (m_kc K V sc S.1 (S.1 278 k).toNat) (S.1 283 (S.1 278 k).toNat).toNat), if 0 < m_ko V S.1 (S.1 278 k).toNat then S.1 284 (S.1 278 k).toNat + 1 else S.1 284 (S.1 278 k).toNat)] := by unfold vS; rw [h]; rfl
theorem PV_ev (B : bd K V pE S (e :: es) p s c) (hp : pr pw K V e p = .inr p1) (hm : mi V e s = .inr s1) (B1 : bd K V pE S es p1 s1 c1) (M1 : mx s1.1 S.1) (Y1 : my s1.1 S.1) (HK : ∀ k : Nat, (k : Int) < S.1 254 39 → pr_cs K V (S.1 283 k).toNat (S.1 284 k)) (hV : ∀ i, i < 1000 → K i = 3 → 0 ≤ V i) {l t : Int} {st : List (Int × Int × Int × Int)} :
    ∀ j L, (ve P (oE K P V sc ss cs b21 b15 S.1 c0 e p l t st).1 e l st)[j]? = some L → PV K P V sc ss cs b21 b15 c0 S.1 ((s.1 254 33).toNat + j) L := by
  by_cases he : e.1 ≤ 34 ∨ e.1 = 49
  · have E := fun (j : Nat) (r : Int × Int × Int × Int) (h : (ie e s)[j]? = some r) => ie_end he hp hm B.2.1.1 B.2.2.1 M1 Y1 h
    have RQ := B.2.2.2.1.1
    have O := B.2.1.2.2.2.2
    have RQ1 := B1.2.2.2.1.1
    have e3 : e.1 ≤ 34 → p1.1 3 = p.1 3 := fun z => pz_ev z hp 3 (by decide)
    clear B B1
    generalize hN : (s.1 254 33).toNat = N at E ⊢
    obtain ⟨n, x, y, z⟩ := e
    dsimp only at he e3
    have one : ∀ {o L : List (Int × Int × Int)} {j : Nat}, ([o] : List (List (Int × Int × Int)))[j]? = some L → PV K P V sc ss cs b21 b15 c0 S.1 N o → PV K P V sc ss cs b21 b15 c0 S.1 (N + j) L := fun {o L j} h1 h2 => by
      match j with
      | 0 => cases h1; exact h2
      | j + 1 => cases h1
    have two : ∀ {o o' L : List (Int × Int × Int)} {j : Nat}, ([o, o'] : List (List (Int × Int × Int)))[j]? = some L → PV K P V sc ss cs b21 b15 c0 S.1 N o → PV K P V sc ss cs b21 b15 c0 S.1 (N + 1) o' → PV K P V sc ss cs b21 b15 c0 S.1 (N + j) L := fun {o o' L j} h1 h2 h3 => by
      match j with
      | 0 => cases h1; exact h2
      | 1 => cases h1; exact h3
      | j + 2 => cases h1
    have dn : ∀ j, S.1 277 (N + j) = 12 → PV K P V sc ss cs b21 b15 c0 S.1 (N + j) [] := fun j h => PV.pl 12 h (by decide) (by unfold vS; rw [vS_k (m := 12) h]; rfl)
    intro j L hj
    by_cases h12 : n = 12
    · subst h12
      cases hq : p.2.2.1 with
      | nil => unfold pr at hp; dsimp only at hp; rw [hq] at hp; cases hp
      | cons q lq =>
        unfold pr at hp; dsimp only at hp; rw [hq] at hp
        obtain ⟨hc, -, hp'⟩ := pr_q_in hp
        rw [hq] at RQ
        obtain ⟨g, ty, so, bs, oc⟩ := s
        cases oc with
        | nil => exact RQ.elim
        | cons c lc =>
          obtain ⟨⟨r0, r0', r1, r2, r3⟩, r4⟩ := RQ
          obtain ⟨o1, o2, -⟩ := E 0 (10, c, 0, 0) rfl
          have o2 : S.1 278 N = c := o2 (by dsimp only; omega) (by dsimp only; omega)
          have o1 : S.1 277 N = 10 := o1
          refine one hj (PV.pl 10 o1 (by decide) ?_)
          have ex : q.1 = x := hc.2.1
          have ey : q.2.1 = y := hc.2.2.1
          obtain ⟨po1, -, -, po4, -, -, po7⟩ := O q (by rw [hq]; exact List.mem_cons_self)
          rw [ex] at po1
          rw [ey] at po4
          rw [ex, ey] at r1 po7
          rw [ey] at r2
          have cs1 : S.1 284 c.toNat = z := by
            have a := HK c.toNat (by omega) K (fun _ _ _ => rfl)
            have b := hc.2.2.2.2.2.1 K (fun _ _ _ => rfl)
            rw [r2] at a
            unfold pr_c at a b
            rw [b] at a
            exact (Option.some.inj a).symm
          have exy : x = y ↔ x.toNat = y.toNat := by omega
          have ekc : m_kc K V sc S.1 c.toNat = kcE K V sc S.1 ((p.1 3 : Int) - 1) x.toNat y.toNat := by
            unfold m_kc kcE
            rw [r1, r3]
            by_cases d : x = y
            · rw [if_pos d, if_pos rfl, if_pos (exy.1 d)]
            · rw [if_neg d, if_neg (show ¬ x = -1 by omega), if_neg (fun z => d (exy.2 z))]
          have eko : (0 < m_ko V S.1 c.toNat) ↔ (x.toNat = y.toNat ∨ m_var V S.1 ((p.1 3 : Int) - 1) x.toNat ≠ -1) := by
            unfold m_ko
            rw [r1, r3]
            by_cases d : x = y
            · rw [if_pos d, if_pos rfl]; exact ⟨fun _ => Or.inl (exy.1 d), fun _ => by decide⟩
            · rw [if_neg d, if_neg (show ¬ x = -1 by omega)]
              by_cases d2 : m_var V S.1 ((p.1 3 : Int) - 1) x.toNat = -1
              · rw [if_pos d2]; exact ⟨fun z => by omega, fun z => by omega⟩
              · rw [if_neg d2]; exact ⟨fun _ => Or.inr d2, fun _ => by decide⟩
          rw [vS_10 o1, o2, ekc, r2, cs1]
          show [(15, sm b21 cs (kcE K V sc S.1 ((p.1 3 : Int) - 1) x.toNat y.toNat) (m_sof V ss S.1 (kcE K V sc S.1 ((p.1 3 : Int) - 1) x.toNat y.toNat) y.toNat), if x.toNat = y.toNat ∨ m_var V S.1 ((p.1 3 : Int) - 1) x.toNat ≠ -1 then z + 1 else z)] = _
          by_cases d : 0 < m_ko V S.1 c.toNat
          · rw [if_pos d, if_pos (eko.1 d)]
          · rw [if_neg d, if_neg (fun z => d (eko.2 z))]
    by_cases h11 : n = 11
    · subst h11
      obtain ⟨hc, -, hp'⟩ := pr_q_in hp
      have E0 := E 0 (9, s.1 254 39, 0, 0) rfl
      have a2 : S.1 278 N = s.1 254 39 := E0.2.1 (by dsimp only; omega) (by dsimp only; omega)
      have a1 : S.1 277 N = 9 := E0.1
      clear E0
      have x0 : 0 ≤ x := hc.2.1.1
      have y0 : 0 ≤ y := hc.2.2.1.1
      have hz : z = 1 ∧ y = x + 2 ∨ z = 0 ∧ y = x := hc.2.2.2.1
      obtain ⟨g, ty, so, bs, oc⟩ := s
      have hm := ce_q_in (show ce_q (g 254 39 < 990) (gx_b (mi_add 9 (g 254 39) 0 0 (mi_call (if z = 1 then x else -1) y g)) fun g1 => (.inr (g1, ty, so, bs, g 254 39 :: oc) : gx_R mi_S)) = .inr s1 from hm)
      obtain ⟨g1, w1, w2⟩ := gx_b_ok hm
      cases w2
      rw [hp'] at RQ1
      obtain ⟨⟨r0, r0', r1, r2, r3⟩, -⟩ := RQ1
      refine one hj (PV.pl 9 a1 (by decide) ?_)
      have e3 := e3 (by decide)
      rw [hp'] at e3
      dsimp only at e3 r1 r2 r3 a2
      rw [vS_9 a1, a2]
      unfold oV
      rw [r1, r3, e3]
      show (if x.toNat = y.toNat then ([(0, 4, 0)], [(0, 6, 0)], st, l, t) else if m_var V S.1 ((p.1 3 : Int) - 1) x.toNat = -1 then ([], [], st, l, t) else (ldk (kdv S.1 (m_var V S.1 ((p.1 3 : Int) - 1) x.toNat).toNat) (plv b15 S.1 (m_var V S.1 ((p.1 3 : Int) - 1) x.toNat).toNat), [(0, ce_lseg (kdv S.1 (m_var V S.1 ((p.1 3 : Int) - 1) x.toNat).toNat), nov S.1 (m_var V S.1 ((p.1 3 : Int) - 1) x.toNat).toNat)], st, l, t) : List (Int × Int × Int) × List (Int × Int × Int) × List (Int × Int × Int × Int) × Int × Int).1 = _
      rcases hz with ⟨z1, z2⟩ | ⟨z1, z2⟩
      · rw [if_neg (c := x.toNat = y.toNat) (by omega), if_neg (c := x = y) (by omega), if_neg (c := x = -1) (by omega)]
        by_cases d : m_var V S.1 ((p.1 3 : Int) - 1) x.toNat = -1
        · rw [if_pos d, if_pos d]
        · rw [if_neg d, if_neg d]
      · rw [if_pos (c := x.toNat = y.toNat) (by omega), if_pos (c := x = y) (by omega), if_pos rfl]
    unfold pr at hp
    split at hp
    all_goals first
      | (cases hp; done)
      | (rename_i hn; have hn : n = _ := hn; subst hn; exact absurd rfl h12)
      | (rename_i hn; have hn : n = _ := hn; subst hn; exact absurd rfl h11)
      | (rename_i hn; have hn : n = _ := hn; subst hn)
    all_goals first
      | (exfalso; omega)
      | (cases hj; done)
      | skip
    all_goals (obtain ⟨hc, -, hp'⟩ := pr_q_in hp)
    · obtain ⟨o1, o2, -⟩ := E 0 (0, x, 0, 0) rfl
      have o1 : S.1 277 N = 0 := o1
      have o2 : S.1 278 N = x := o2 (by dsimp only; omega) (by dsimp only; omega)
      refine one hj (PV.pl 0 o1 (by decide) ?_)
      rw [vS_0 o1, o2, if_neg]
      · rfl
      · rcases hc.2.2 with w | ⟨i, i1, i2, i3⟩
        · have w : x = 0 := w
          omega
        · have i3 : V i = x := i3
          have := hV i i1 i2
          omega
    · obtain ⟨o1, o2, -⟩ := E 0 (0, -1, 0, 0) rfl
      have o1 : S.1 277 N = 0 := o1
      have o2 : S.1 278 N = -1 := o2 (by dsimp only; omega) (by dsimp only; omega)
      refine one hj (PV.pl 0 o1 (by decide) ?_)
      rw [vS_0 o1, o2, if_pos (by decide)]; rfl
    · obtain ⟨o1, o2, -⟩ := E 0 (0, 0, 0, 0) rfl
      have o1 : S.1 277 N = 0 := o1
      have o2 : S.1 278 N = 0 := o2 (by dsimp only; omega) (by dsimp only; omega)
      refine one hj (PV.pl 0 o1 (by decide) ?_)
      rw [vS_0 o1, o2, if_neg (by decide)]; rfl
    · obtain ⟨o1, -⟩ := E 0 (3, 0, 0, x) rfl
      have o1 : S.1 277 N = 3 := o1
      exact one hj (PV.pl 3 o1 (by decide) (by unfold vS; rw [vS_k (m := 3) o1]; rfl))
    · obtain ⟨o1, -, -, o4, -⟩ := E 0 (1, 0, 0, x) rfl
      have o1 : S.1 277 N = 1 := o1
      have o4 : S.1 280 N = x := o4
      exact one hj (PV.pl 1 o1 (by decide) (by unfold vS; rw [vS_k (m := 1) o1, o4]; rfl))
    · obtain ⟨o1, -, -, o4, o5⟩ := E 0 (4, 0, 0, x) rfl
      have o1 : S.1 277 N = 4 := o1
      have o4 : S.1 280 N = x := o4
      have o5 : S.1 281 N = (p.1 3 : Int) - 1 := o5
      exact one hj (PV.pl 4 o1 (by decide) (by unfold vS; rw [vS_k (m := 4) o1, o4, o5]; rfl))
    · obtain ⟨o1, -⟩ := E 0 (5, 0, 0, 0) rfl
      have o1 : S.1 277 N = 5 := o1
      exact one hj (PV.pl 5 o1 (by decide) (by unfold vS; rw [vS_k (m := 5) o1]; rfl))
    · obtain ⟨o1, o2, -⟩ := E 0 (6, x, 0, 0) rfl
      have o1 : S.1 277 N = 6 := o1
      have o2 : S.1 278 N = x := o2 (by dsimp only; omega) (by dsimp only; omega)
      exact one hj (PV.pl 6 o1 (by decide) (by unfold vS; rw [vS_k (m := 6) o1, o2]; rfl))
    · obtain ⟨o1, -⟩ := E 0 (7, 0, 0, 0) rfl
      have o1 : S.1 277 N = 7 := o1
      exact one hj (PV.pl 7 o1 (by decide) (by unfold vS; rw [vS_k (m := 7) o1]; rfl))
    · obtain ⟨o1, -⟩ := E 0 (8, 0, 0, 0) rfl
      have o1 : S.1 277 N = 8 := o1
      exact one hj (PV.pl 8 o1 (by decide) (by unfold vS; rw [vS_k (m := 8) o1]; rfl))
    · obtain ⟨o1, -, -, o4, -⟩ := E 0 (11, 0, 0, x) rfl
      have o1 : S.1 277 N = 11 := o1
      have o4 : S.1 280 N = x := o4
      exact one hj (PV.pl 11 o1 (by decide) (by unfold vS; rw [vS_k (m := 11) o1, o4]; rfl))
    · obtain ⟨o1, -, -, o4, o5⟩ := E 0 (13, 0, 0, x) rfl
      have o1 : S.1 277 N = 13 := o1
      have o4 : S.1 280 N = x := o4
      have o5 : S.1 281 N = (p.1 3 : Int) - 1 := o5
      obtain ⟨u1, -⟩ := E 1 (12, 0, 0, 0) rfl
      exact two hj (PV.pl 13 o1 (by decide) (by unfold vS; rw [vS_k (m := 13) o1, o4, o5]; rfl)) (dn 1 u1)
    · obtain ⟨o1, -⟩ := E 0 (14, 0, 0, 0) rfl
      have o1 : S.1 277 N = 14 := o1
      obtain ⟨u1, -⟩ := E 1 (12, 0, 0, 0) rfl
      exact two hj (PV.pl 14 o1 (by decide) (by unfold vS; rw [vS_k (m := 14) o1]; rfl)) (dn 1 u1)
    · obtain ⟨o1, -⟩ := E 0 (15, 0, (s.2.2.2.1.headD (0, 0, 0, 0)).2.1, 0) rfl
      exact one hj (PV.j15 o1)
    · obtain ⟨o1, -⟩ := E 0 (16, 0, (s.2.2.2.1.headD (0, 0, 0, 0)).2.1 + 1, 0) rfl
      obtain ⟨u1, -⟩ := E 1 (20, (s.2.2.2.1.headD (0, 0, 0, 0)).2.1, 0, 0) rfl
      exact two hj (PV.j16 o1) (PV.j20 u1)
    · obtain ⟨o1, -⟩ := E 0 (20, (s.2.2.2.1.headD (0, 0, 0, 0)).2.1, 0, 0) rfl
      obtain ⟨u1, -⟩ := E 1 (12, 0, 0, 0) rfl
      exact two hj (PV.j20 o1) (dn 1 u1)
    · obtain ⟨o1, -⟩ := E 0 (20, (s.2.2.2.1.headD (0, 0, 0, 0)).2.1 + 1, 0, 0) rfl
      obtain ⟨u1, -⟩ := E 1 (12, 0, 0, 0) rfl
      exact two hj (PV.j20 o1) (dn 1 u1)
    · obtain ⟨o1, -⟩ := E 0 (20, s.1 254 50, 0, 0) rfl
      obtain ⟨u1, -⟩ := E 1 (17, 0, 0, 0) rfl
      exact two hj (PV.j20 o1) (PV.j17 u1)
    · obtain ⟨o1, -⟩ := E 0 (15, 0, (s.2.2.2.1.headD (0, 0, 0, 0)).2.1 + 1, 0) rfl
      exact one hj (PV.j15 o1)
    · obtain ⟨o1, -⟩ := E 0 (16, (s.2.2.2.1.headD (0, 0, 0, 0)).2.2.2, (s.2.2.2.1.headD (0, 0, 0, 0)).2.1, 0) rfl
      obtain ⟨u1, -⟩ := E 1 (20, (s.2.2.2.1.headD (0, 0, 0, 0)).2.1 + 1, 0, 0) rfl
      obtain ⟨v1, -⟩ := E 2 (12, 0, 0, 0) rfl
      match j with
      | 0 => cases hj; exact PV.j16 o1
      | 1 => cases hj; exact PV.j20 u1
      | 2 => cases hj; exact dn 2 v1
      | j + 3 => cases hj
    · obtain ⟨o1, -⟩ := E 0 (18, 0, 0, 0) rfl
      have o1 : S.1 277 N = 18 := o1
      exact one hj (PV.pl 18 o1 (by decide) (by unfold vS; rw [vS_k (m := 18) o1]; rfl))
    · obtain ⟨o1, -⟩ := E 0 (19, 0, 0, 0) rfl
      have o1 : S.1 277 N = 19 := o1
      obtain ⟨u1, -⟩ := E 1 (12, 0, 0, 0) rfl
      exact two hj (PV.pl 19 o1 (by decide) (by unfold vS; rw [vS_k (m := 19) o1]; rfl)) (dn 1 u1)
    · obtain ⟨o1, o2, -⟩ := E 0 (0, 0, 0, 0) rfl
      have o1 : S.1 277 N = 0 := o1
      have o2 : S.1 278 N = 0 := o2 (by dsimp only; omega) (by dsimp only; omega)
      obtain ⟨u1, -⟩ := E 1 (18, 1, 0, 0) rfl
      refine two hj (PV.pl 0 o1 (by decide) ?_) (PV.pl 18 u1 (by decide) ?_)
      · rw [vS_0 o1, o2, if_neg (by decide)]
      · unfold vS; rw [vS_k (m := 18) u1]; rfl
  · intro j L hj
    exfalso
    unfold ve at hj
    split at hj
    all_goals first
      | (omega)
      | (rw [if_neg (by omega)] at hj; cases hj)
end
