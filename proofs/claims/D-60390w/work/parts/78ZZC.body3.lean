/-! PURE LAYER, 108: events within bodies, second reading: all of them -/
/-- pieces that end in a state -/
def EMS (vs ls : List (Int × Int × Int)) (g : am_H) (f : am_H → ce_S) (r : gx_R ce_S) : Prop := ∃ g', r = .inr (f g') ∧ AP vs ls g g' ∧ g' 8 4 = g 8 4 ∧ g' 235 4 = g 235 4
section
variable {vs ls : List (Int × Int × Int)} {g : am_H} {n m : Nat} {f : am_H → ce_S}
theorem EMS.nil : EMS [] [] g f (.inr (f g)) := ⟨g, rfl, AP.refl g, rfl, rfl⟩
theorem EMS.v {op a b : Int} {k : am_H → gx_R ce_S} (hc : cap g (n + 1) m) (h2 : ∀ g', AP [(op, a, b)] [] g g' → cap g' n m → EMS vs ls g' f (k g')) : EMS ((op, a, b) :: vs) ls g f (gx_b (ce_vm true op a b g) k) := by
  obtain ⟨g1, e1, A, l1, l2⟩ := EM.v1 (op := op) (a := a) (b := b) (hc.le (by omega) (by omega))
  obtain ⟨g2, e2, B, k1, k2⟩ := h2 g1 A (cap.ap (vs := [(op, a, b)]) (ls := []) (hc.le (by show 1 + n ≤ n + 1; omega) (by show 0 + m ≤ m; omega)) A)
  exact ⟨g2, by rw [e1]; exact e2, A.trans B hc.1 hc.2.2.1, k1.trans l1, k2.trans l2⟩
theorem EMS.l {op a b : Int} {k : am_H → gx_R ce_S} (hc : cap g n (m + 1)) (h2 : ∀ g', AP [] [(op, a, b)] g g' → cap g' n m → EMS vs ls g' f (k g')) : EMS vs ((op, a, b) :: ls) g f (gx_b (ce_li true false op a b g) k) := by
  obtain ⟨g1, e1, A, l1, l2⟩ := EM.l1 (op := op) (a := a) (b := b) (hc.le (by omega) (by omega))
  obtain ⟨g2, e2, B, k1, k2⟩ := h2 g1 A (cap.ap (vs := []) (ls := [(op, a, b)]) (hc.le (by show 0 + n ≤ n; omega) (by show 1 + m ≤ m + 1; omega)) A)
  exact ⟨g2, by rw [e1]; exact e2, A.trans B hc.1 hc.2.2.1, k1.trans l1, k2.trans l2⟩
theorem cap.lab (hc : cap g n m) (v : Int) : cap (am_up g 8 4 v) n m := cap.ap (vs := []) (ls := []) (hc.le (by show 0 + n ≤ n; omega) (by show 0 + m ≤ m; omega)) (AP.lab v g)
theorem cap.lab2 (hc : cap g n m) (v : Int) : cap (am_up g 235 4 v) n m := cap.ap (vs := []) (ls := []) (hc.le (by show 0 + n ≤ n; omega) (by show 0 + m ≤ m; omega)) (AP.lab2 v g)
end
theorem pr_le {w : Nat → Nat → Nat} {K V : Nat → Int} {e : gx_V} {p p' : pr_S} (h : pr w K V e p = .inr p') : ∀ k, p'.2.2.2 k ≤ 2100 := by
  obtain ⟨n, x, y, z⟩ := e
  unfold pr at h
  split at h
  all_goals first
    | (cases h; done)
    | (rename_i hn; have hn : n = _ := hn; subst hn)
  all_goals first
    | (obtain ⟨-, hb, hp⟩ := pr_q_in h; intro k; rw [hp]; exact hb k; done)
    | (cases hq : p.2.2.1 with
      | nil => rw [hq] at h; cases h
      | cons q l => rw [hq] at h; obtain ⟨-, hb, hp⟩ := pr_q_in h; intro k; rw [hp]; exact hb k)
section
variable {K K' P V sc ss n6 : Nat → Int} {cc cs : Nat → Nat} {b20 b21 b15 bv bl n0 n3 : Nat} {h c0 : am_H} {p p' : pr_S} {s s' S : mi_S} {c : ce_S} {e : gx_V}
set_option maxHeartbeats 2000000 in
theorem c2_body (T : tkc K K' V P n6) (hn6 : c0 6 = n6) (F : FT b20 b21 V h c0 n0 n3) (Sy : SY b20 b21 sc ss cc cs h c0) (Sk : SKn c0) (tp : tkP K' P) (hb : b20 ≤ 12 ∧ b21 ≤ 70 ∧ b15 ≤ 2000 ∧ bv ≤ 6000 ∧ bl ≤ 50000) (hS : S.1 = h) (H0 : rt K' h) (HK : ∀ k : Nat, (k : Int) < h 254 39 → pr_cs K' V (h 283 k).toNat (h 284 k)) (he : e.1 ≤ 34) (h1 : pr pw K' V e p = .inr p') (m1 : mi V e s = .inr s') (R : r2 K' P V sc ss cc b20 b21 b15 bv bl h c0 p s c) (O : po K' p) (Rv : rv K' p s) (Rm : rm p s) (Rm' : rm p' s') (Q : pq p) (L : lt_e p s S) (L' : lt_e p' s' S) (M : mx s'.1 h) (X15 : p'.1 15 ≠ 0 → ∃ k : Nat, s'.1 254 33 ≤ k ∧ k < h 254 33 ∧ h 277 k = 13 ∧ h 280 k + 1 = (p'.1 15 : Int)) : c2o K K' P V sc ss cc cs b20 b21 b15 bv bl h c0 e p p' s s' c := by
  have hpz := pz_ev he h1
  have hwt := pr_wt h1
  have hle := pr_le h1
  have mb := mi_body e s s' he m1
  have M0 : mx s.1 h := (mx_ev V _ s s' m1).trans M
  have pos : ∀ k, mx_k k → 0 ≤ s.1 254 k := by
    intro k hk
    obtain ⟨⟨r1, -⟩, ⟨r2, -⟩, ⟨r3, -⟩, ⟨r4, -⟩, r5, -⟩ := Rv.1
    rcases hk with e | e | e | e | e <;> rw [e] <;> assumption
  have B := BN_ev (K := K') (P := P) (sc := sc) (ss := ss) m1 M pos
  have h25 : s'.1 254 25 = s.1 254 25 := by
    have a1 := Rm.2.2.1
    have a2 := Rm'.2.2.1
    have a3 := hwt 2
    rw [pw2_0 e.1 (by omega)] at a3
    omega
  obtain ⟨n, x, y, z⟩ := e
  obtain ⟨g, ty, fn, on, pn, ln, st⟩ := c
  have r := R
  obtain ⟨⟨f1, f2⟩, ⟨⟨-, -, k13⟩, ⟨-, k16⟩, ⟨-, k14, k4⟩, -⟩, ⟨v1, v2, v3⟩, ⟨t1, t2, t3, t4⟩, ⟨⟨q1, q2⟩, ⟨q3, q4⟩, ⟨q5', q6⟩, ⟨q7, q8⟩, q9, q10, q11, q12, q13⟩, o1, o2⟩ := R
  dsimp only at f1 f2 k13 k16 k14 k4 q1 q2 q3 q4 q5' q6 q7 q8 q9 mb h25 hwt B he
  have cp : cap g 200 200 := ⟨q1, by omega, q3, by omega⟩
  have hp3 : p'.1 3 = p.1 3 := hpz 3 (by decide)
  have hn0 : (p.1 0 : Int) ≤ n0 := by
    have := M0.1 14 (by unfold mx_k; omega)
    rw [Rv.2.1.1, F.1.1] at this
    exact this
  have own : p.1 9 = 6 → (1 ≤ p.1 0 ∧ g 212 13 = (b20 : Int) + (p.1 0 : Int) - 1) ∧ (0 ≤ g 212 13 ∧ g 212 13 < 24) ∧ g 215 (g 212 13).toNat = 1 := by
    intro h6
    have a := k13 (by omega)
    have b := Rv.2.1
    refine ⟨a, by omega, ?_⟩
    rw [f1 215 (by omega), a.2, show ((b20 : Int) + (p.1 0 : Int) - 1).toNat = b20 + (p.1 0 - 1) by omega]
    exact (F.2.1 (p.1 0 - 1) (by omega)).2.1
  have w235 : p.1 9 = 6 → g 235 4 ≤ 2 * (p.2.2.2 3 : Int) := fun h6 => by rcases q8 with q8 | q8 <;> omega
  -- how it goes on
  have ok : ∀ {vs ls : List (Int × Int × Int)} {g' : am_H} {st' : List (Int × Int × Int × Int)}, p.1 9 = 6 → AP vs ls g g' → vs.length + 2 * p.1 8 ≤ pw 4 n + 2 * p'.1 8 → ls.length + 2 * p.1 8 ≤ pw 5 n + 2 * p'.1 8 → (g 8 4 ≤ g' 8 4 ∧ g' 8 4 ≤ g 8 4 + (pw 4 n : Int)) → (g 235 4 ≤ g' 235 4 ∧ g' 235 4 ≤ g 235 4 + 2 * (pw 3 n : Int)) → st'.length = p'.2.1.length → p'.1 8 ≤ 300 → nE K' P V sc ss h s.1 n = [] → (p'.1 15 ≠ 0 → vnt P V h ((p.1 3 : Int) - 1) (p'.1 15 - 1) = []) → r2o K' V sc ss h p' → r2 K' P V sc ss cc b20 b21 b15 bv bl h c0 p' s' (g', ty, fn, on, pn, ln, st') := by
    intro vs ls g' st' h6 A a1 a2 a3 a4 a5 a6 a7 a8 a9
    refine r.body h6 hpz h25 mb.2.1 mb.2.2 (fun a ha => A.fr a (by omega) (by omega) (by omega)) rfl a8 (BN.no (by rw [a7] at B; exact B) t4) ⟨⟨?_, ?_⟩, ⟨?_, ?_⟩, ⟨?_, ?_⟩, ⟨?_, ?_⟩, a5, a6, hle 4, hle 5, hle 3⟩ a9
    · have := A.2.2.1.1; dsimp only; omega
    · have := A.2.2.1.1; have := hwt 4; dsimp only; omega
    · have := A.2.2.1.2; dsimp only; omega
    · have := A.2.2.1.2; have := hwt 5; dsimp only; omega
    · dsimp only; omega
    · have := hwt 4; dsimp only; omega
    · dsimp only; omega
    · have := w235 h6; have := hwt 3; left; dsimp only; omega
  have ro0 : p'.2.2.1 = p.2.2.1 → r2o K' V sc ss h p' := fun e => ⟨fun z => by rw [e]; exact o1 (by rw [← hpz 9 (by decide)]; exact z), by rw [e, hp3]; exact o2⟩
  -- lines alone
  have sim : ∀ {vs ls : List (Int × Int × Int)} {rr : gx_R am_H}, p.1 9 = 6 → EM vs ls g rr → ce true false K V P (n, x, y, z) (g, ty, fn, on, pn, ln, st) = ce_h (g, ty, fn, on, pn, ln, st) rr → vs.length ≤ pw 4 n → ls.length ≤ pw 5 n → p'.1 8 = p.1 8 → p'.2.1 = p.2.1 → p'.2.2.1 = p.2.2.1 → p'.1 15 = p.1 15 → nE K' P V sc ss h s.1 n = [] → oE K' P V sc ss cs b21 b15 h c0 (n, x, y, z) p (g 8 4) (g 235 4) st = (vs, ls, st, g 8 4, g 235 4) → c2o K K' P V sc ss cc cs b20 b21 b15 bv bl h c0 (n, x, y, z) p p' s s' (g, ty, fn, on, pn, ln, st) := by
    intro vs ls rr h6 E he a1 a2 a3 a4 a5 a6 a7 a8
    obtain ⟨g', e1, A, l1, l2⟩ := E
    refine Or.inl ⟨(g', ty, fn, on, pn, ln, st), by rw [he, e1]; rfl, ok h6 A (by omega) (by omega) ⟨by omega, by omega⟩ ⟨by omega, by omega⟩ (by rw [a4]; exact q9) (by omega) a7 (by rw [a6]; exact t3) (ro0 a5), ?_⟩
    dsimp only
    rw [a8]
    exact ⟨A.xp, rfl, l1, l2⟩
  -- a state by itself
  have sta : ∀ {vs ls : List (Int × Int × Int)} {g' : am_H} {st' : List (Int × Int × Int × Int)}, p.1 9 = 6 → AP vs ls g g' → ce true false K V P (n, x, y, z) (g, ty, fn, on, pn, ln, st) = .inr (g', ty, fn, on, pn, ln, st') → vs.length ≤ pw 4 n → ls.length ≤ pw 5 n → (g 8 4 ≤ g' 8 4 ∧ g' 8 4 ≤ g 8 4 + (pw 4 n : Int)) → (g 235 4 ≤ g' 235 4 ∧ g' 235 4 ≤ g 235 4 + 2 * (pw 3 n : Int)) → st'.length = p'.2.1.length → p'.1 8 = p.1 8 → p'.2.2.1 = p.2.2.1 → p'.1 15 = p.1 15 → nE K' P V sc ss h s.1 n = [] → oE K' P V sc ss cs b21 b15 h c0 (n, x, y, z) p (g 8 4) (g 235 4) st = (vs, ls, st', g' 8 4, g' 235 4) → c2o K K' P V sc ss cc cs b20 b21 b15 bv bl h c0 (n, x, y, z) p p' s s' (g, ty, fn, on, pn, ln, st) := by
    intro vs ls g' st' h6 A he a1 a2 a3 a3' a4 a4' a5 a6 a7 a8
    refine Or.inl ⟨(g', ty, fn, on, pn, ln, st'), he, ok h6 A (by omega) (by omega) a3 a3' a4 (by omega) a7 (by rw [a6]; exact t3) (ro0 a5), ?_⟩
    dsimp only
    rw [a8]
    exact ⟨A.xp, rfl, rfl, rfl⟩
  have tt : ∀ k, c0 212 k = c0 212 k := fun _ => rfl
  have tab := fun x => tab_eq f1 f2 x
  -- the item of a name
  have row : ∀ k a b t : Int, mx (mi_put k a b t s.1) h → h 277 (s.1 254 33).toNat = k ∧ h 280 (s.1 254 33).toNat = t ∧ h 281 (s.1 254 33).toNat = (p.1 3 : Int) - 1 := by
    intro k a b t m
    have := pos 33 (by unfold mx_k; omega)
    have lt : ((s.1 254 33).toNat : Int) < mi_put k a b t s.1 254 33 := by rw [mi_put_33]; omega
    rw [m.2 277 33 rfl _ lt, m.2 280 33 rfl _ lt, m.2 281 33 rfl _ lt]
    obtain ⟨w1, w2, w3, -⟩ := mi_put_277 k a b t s.1
    exact ⟨w1, w2, by rw [w3, Rv.2.1.2.1]⟩
  have sub1 : 4 ≤ p.1 9 → ((p.1 3 : Int) - 1).toNat = p.1 3 - 1 ∧ 1 ≤ p.1 3 := fun z => by have := (k16 z).1; omega
  -- a fault at a token of this event
  have flt : ∀ {x0 : Int × Int} {t : Nat}, ce true false K V P (n, x, y, z) (g, ty, fn, on, pn, ln, st) = .inl x0 → x0 ∈ nE K' P V sc ss h s.1 n → (∀ q ∈ nE K' P V sc ss h s.1 n, nle x0 q) → x0.2 = P t → t < p'.1 10 → p'.1 15 = p.1 15 → c2o K K' P V sc ss cc cs b20 b21 b15 bv bl h c0 (n, x, y, z) p p' s s' (g, ty, fn, on, pn, ln, st) := by
    intro x0 t a1 a2 a3 a4 a5 a6
    refine Or.inr ⟨x0, a1, c2_fault B M hS L' tp H0 (Or.inl a2) a3 a4 a5 (fun q hq => ?_) (fun z15 q hq => ?_)⟩
    · rw [mb.2.1, t2] at hq; cases hq
    · rw [a6, hp3, t3 (by rw [← a6]; exact z15)] at hq; cases hq
  -- the class that a call means
  have hcof : ∀ t : Nat, m_cof V sc h t = -1 ∨ 0 ≤ m_cof V sc h t ∧ m_cof V sc h t < 8 + (n0 : Int) := by
    intro t
    unfold m_cof m_sc
    have r1 := p_find_rg sc (V t) 8 0
    have r2 := p_find_rg (fun k => V (h 261 k).toNat) (V t) (h 254 14).toNat 0
    rw [F.1.1] at r2 ⊢
    by_cases d1 : p_find sc (V t) 8 0 = -1
    · rw [if_pos d1]
      by_cases d2 : p_find (fun k => V (h 261 k).toNat) (V t) ((n0 : Int)).toNat 0 = -1
      · rw [if_pos d2]; exact Or.inl rfl
      · rw [if_neg d2]; right; omega
    · rw [if_neg d1]; right; omega
  have hkr : p.1 9 = 6 → ∀ i j : Nat, kcE K' V sc h ((p.1 3 : Int) - 1) i j = -1 ∨ 0 ≤ kcE K' V sc h ((p.1 3 : Int) - 1) i j ∧ kcE K' V sc h ((p.1 3 : Int) - 1) i j < 8 + (n0 : Int) := by
    intro h6 i j
    unfold kcE
    by_cases d1 : i = j
    · rw [if_pos d1, (sub1 (by omega)).1, (k4 (by omega)).2]
      have := (own h6).1
      right; omega
    · rw [if_neg d1]
      by_cases d2 : m_var V h ((p.1 3 : Int) - 1) i = -1
      · rw [if_pos d2]; exact hcof i
      · rw [if_neg d2]
        split
        · exact hcof _
        · exact Or.inl rfl
  have hcc : p.1 9 = 6 → ∀ {vs ls : List (Int × Int × Int)} {g' : am_H}, AP vs ls g g' → ∀ i j : Nat, ce_cc true false V g' i j = cm b20 cc (kcE K' V sc h ((p.1 3 : Int) - 1) i j) := by
    intro h6 vs ls g' A i j
    unfold ce_cc kcE
    by_cases d1 : i = j
    · rw [if_pos (Or.inl d1), if_pos d1, A.fr 212 (by decide) (by decide) (by decide), (sub1 (by omega)).1, (k4 (by omega)).2, (own h6).1.2]
      have := (own h6).1.1
      unfold cm
      rw [if_neg (by omega), if_neg (by omega)]
      omega
    · obtain ⟨va, vb⟩ := r.var h6 Q hS L M0 H0 i
      have va := va i rfl
      dsimp only at va vb
      rw [if_neg (by simp [d1]), if_neg d1]
      by_cases d2 : m_var V h ((p.1 3 : Int) - 1) i = -1
      · rw [if_neg (fun z => va.1 (A.vr.1 z) d2), if_pos d2, A.tab.2.2.1, (tab _).2.2.1, n_cof F Sy]
      · obtain ⟨a1, a2, -, -, a5, -⟩ := vb d2
        rw [if_pos (A.vr.2 (va.2 d2)), if_neg d2, A.kd.2.2.2.2.2, a5]
        have := (v1 (m_var V h ((p.1 3 : Int) - 1) i).toNat (by omega)).2.2
        unfold tyc
        rcases this with d3 | d3
        · rw [if_pos d3, if_neg (by omega)]; rfl
        · rw [if_neg (by omega), if_pos d3]
  have hobj : p.1 9 = 6 → ∀ {vs ls : List (Int × Int × Int)} {g' : am_H}, AP vs ls g g' → ∀ i j : Nat, ce_obj V g' i j ↔ (i = j ∨ m_var V h ((p.1 3 : Int) - 1) i ≠ -1) := by
    intro h6 vs ls g' A i j
    obtain ⟨va, -⟩ := r.var h6 Q hS L M0 H0 i
    have va := va i rfl
    dsimp only at va
    show (i = j ∨ ce_var g' (V i)) ↔ _
    rw [A.vr, va]
  have fA : ∀ {vs ls : List (Int × Int × Int)} {g' : am_H}, AP vs ls g g' → (∀ a, (a = 3 ∨ a = 5 ∨ a = 6 ∨ (213 ≤ a ∧ a ≤ 222)) → g' a = c0 a) ∧ (∀ k, 19 ≤ k → g' 212 k = c0 212 k) := fun A => ⟨fun a ha => (A.fr a (by omega) (by omega) (by omega)).trans (f1 a ha), fun k hk => by rw [A.fr 212 (by decide) (by decide) (by decide)]; exact f2 k hk⟩
  unfold pr at h1
  split at h1
  all_goals first
    | (cases h1; done)
    | (rename_i hn; have hn : n = _ := hn; subst hn)
    | skip
  case h_1 =>
    obtain ⟨hc, -, hp⟩ := pr_q_in h1
    subst hp
    exact sim hc.1.1 (EM.v (n := 0) (m := 1) (cp.le (by decide) (by decide)) (fun _ _ hc => EM.l1 hc)) rfl (Nat.le_of_ble_eq_true rfl) (Nat.le_of_ble_eq_true rfl) rfl rfl rfl rfl rfl rfl
  case h_2 =>
    obtain ⟨hc, -, hp⟩ := pr_q_in h1
    subst hp
    exact sim hc.1.1 (EM.v (n := 1) (m := 2) (cp.le (by decide) (by decide)) (fun _ _ hc => EM.l (n := 1) (m := 1) hc (fun _ _ hc => EM.both hc))) rfl (by decide) (by decide) rfl rfl rfl rfl rfl rfl
  case h_3 =>
    obtain ⟨hc, -, hp⟩ := pr_q_in h1
    subst hp
    exact sim hc.1.1 (EM.v (n := 0) (m := 1) (cp.le (by decide) (by decide)) (fun _ _ hc => EM.l1 hc)) rfl (Nat.le_of_ble_eq_true rfl) (Nat.le_of_ble_eq_true rfl) rfl rfl rfl rfl rfl rfl
  case h_4 =>
    obtain ⟨hc, -, hp⟩ := pr_q_in h1
    subst hp
    have h6 := hc.1.1
    have hs : s'.1 = mi_put 3 0 0 x s.1 := by
      obtain ⟨g1, a1, a2⟩ := mi_h_in (show mi_h s (mi_add 3 0 0 x s.1) = .inr s' from m1)
      rw [a2]; exact mi_add_in a1
    obtain ⟨w1, w2, w3⟩ := row 3 0 0 x (by rw [← hs]; exact M)
    obtain ⟨k17, k18⟩ := sub1 (by omega)
    have e14 : g 212 14 = h 264 (p.1 3 - 1) := by rw [k14 (Q.2.2.2.2.1 (by omega)), (k4 (by omega)).1]
    have en : nE K' P V sc ss h s.1 4 = if h 264 (p.1 3 - 1) = 2 then [(6, P x.toNat)] else [] := by
      show nt_i P V h (s.1 254 33).toNat = _
      unfold nt_i
      rw [if_pos w1, w2, w3, k17]
    by_cases c : h 264 (p.1 3 - 1) = 2
    · rw [if_pos c] at en
      refine flt (x0 := (6, P x.toNat)) (t := x.toNat) ?_ (by rw [en]; exact List.mem_singleton_self _) (fun q hq => by rw [en, List.mem_singleton] at hq; rw [hq]; exact nle_refl _) rfl (by show x.toNat < x.toNat + 1; omega) rfl
      show ce_h _ (ce_chk true (g 212 14 ≠ 2) (6, P x.toNat) _) = _
      unfold ce_chk
      rw [if_pos ⟨rfl, fun z => z (by rw [e14]; exact c)⟩]
      rfl
    · rw [if_neg c] at en
      refine sim h6 (rr := gx_b (ce_vm true 0 4 0 g) (ce_li true false 0 6 0)) (EM.v (n := 0) (m := 1) (cp.le (by decide) (by decide)) (fun _ _ hc => EM.l1 hc)) ?_ (by decide) (by decide) rfl rfl rfl rfl en rfl
      show ce_h _ (ce_chk true (g 212 14 ≠ 2) (6, P x.toNat) _) = _
      unfold ce_chk
      rw [if_neg (fun z => z.2 (by rw [e14]; exact c))]
  case h_5 =>
    obtain ⟨hc, -, hp⟩ := pr_q_in h1
    obtain ⟨s1, s2, s3⟩ := T.2.2.1 x.toNat hc.2.1.2.2.1 hc.2.1.2.2.2
    have V0 : 0 ≤ V x.toNat := hc.2.2.1
    have e8 : p'.1 8 = p.1 8 + (V x.toNat).toNat := by rw [hp]; rfl
    have e300 : (p.1 8 : Int) + V x.toNat ≤ 300 := hc.2.2.2.1
    have hk : ∀ k, k = 31 ∨ k = 32 → ce_sub g (ce_cls g (g 212 30)) (g 212 k) ≠ -1 := by
      intro k hk
      rw [(tab _).2.1, (tab _).1, f2 30 (by omega), f2 k (by omega)]
      rcases hk with e | e
      · rw [e]; exact Sk.2.1
      · rw [e]; exact Sk.2.2.1
    obtain ⟨g', e1, A, l1, l2⟩ := EM.str (V := V) (P := P) (i := x.toNat) (g := g) ⟨V0, s1, s2, s3⟩ (cp.le (by omega) (by omega)) hk
    have es : ∀ k, 19 ≤ k → ce_sub g (ce_cls g (g 212 30)) (g 212 k) = sysS c0 30 k := fun k hk => by
      rw [(tab _).2.1, (tab _).1, f2 30 (by omega), f2 k (by omega)]; rfl
    have ech : ∀ (sa : Int) (fr : Nat) (b : Bool) (m k : Nat), chE g sa fr b m k = chE c0 sa fr b m k := by
      intro sa fr b m
      induction m with
      | zero => intro k; rfl
      | succ m ih => intro k; unfold chE; rw [ih, f1 3 (by omega), f1 222 (by omega)]
    rw [es 31 (by omega), es 32 (by omega), ech, ech, f1 222 (by omega)] at A
    refine Or.inl ⟨(g', ty, fn, on, pn, ln, st), ?_, ok hc.1.1 A ?_ ?_ ⟨by omega, by omega⟩ ⟨by omega, by omega⟩ (by rw [hp]; exact q9) (by omega) rfl (by rw [show p'.1 15 = p.1 15 by rw [hp]; rfl]; exact t3) (ro0 (by rw [hp])), A.xp, rfl, l1, l2⟩
    · show ce_h _ (ce_str true false V P x.toNat g) = _
      rw [e1]; rfl
    · rw [List.length_cons, List.length_cons, chE_len, show pw 4 5 = 2 from rfl]; omega
    · rw [List.length_cons, List.length_cons, chE_len, show pw 5 5 = 2 from rfl]; omega
  case h_6 =>
    obtain ⟨hc, -, hp⟩ := pr_q_in h1
    subst hp
    have h6 := hc.1.1
    obtain ⟨own1, own2, own3⟩ := own h6
    have hs : s'.1 = mi_put 4 0 0 x s.1 := by
      obtain ⟨g1, a1, a2⟩ := mi_h_in (show mi_h s (mi_add 4 0 0 x s.1) = .inr s' from m1)
      rw [a2]; exact mi_add_in a1
    obtain ⟨w1, w2, w3⟩ := row 4 0 0 x (by rw [← hs]; exact M)
    obtain ⟨k17, k18⟩ := sub1 (by omega)
    have e14 : g 212 14 = h 264 ((p.1 3 : Int) - 1).toNat := by rw [k14 (Q.2.2.2.2.1 (by omega)), k17, (k4 (by omega)).1]
    have en : nE K' P V sc ss h s.1 6 = vnt P V h ((p.1 3 : Int) - 1) x.toNat := by
      show nt_i P V h (s.1 254 33).toNat = _
      unfold nt_i vnt
      rw [if_neg (by rw [w1]; decide), if_pos (Or.inl w1), w2, w3]
    obtain ⟨va, vb⟩ := r.var h6 Q hS L M0 H0 x.toNat
    have va := va x.toNat rfl
    dsimp only at va vb
    have hnm : ce_nm g (V x.toNat) := T.nm (by rw [f1 6 (by omega)]; exact hn6) hc.2.1
    have hce : ce true false K V P (6, x, y, z) (g, ty, fn, on, pn, ln, st) = ce_h (g, ty, fn, on, pn, ln, st) (ce_load true false (V x.toNat) (P x.toNat) g) := by
      show ce_h _ (ce_q _ _) = _
      unfold ce_q
      rw [if_pos hnm]
    rcases vnt_cases (V := V) (P := P) (h := h) (sub := (p.1 3 : Int) - 1) (t := x.toNat) with ⟨c1, c2⟩ | ⟨c1, c2, c3⟩ | ⟨c1, c2, c3⟩
    · refine flt (x0 := (4, P x.toNat)) (t := x.toNat) ?_ (by rw [en, c2]; exact List.mem_singleton_self _) (fun q hq => by rw [en, c2, List.mem_singleton] at hq; rw [hq]; exact nle_refl _) rfl (by show x.toNat < x.toNat + 1; omega) rfl
      rw [hce]
      unfold ce_load ce_chk
      rw [if_pos ⟨rfl, fun z => va.1 z c1⟩]
      rfl
    · obtain ⟨-, -, b3, -⟩ := vb c1
      refine flt (x0 := (6, P x.toNat)) (t := x.toNat) ?_ (by rw [en, c3]; exact List.mem_singleton_self _) (fun q hq => by rw [en, c3, List.mem_singleton] at hq; rw [hq]; exact nle_refl _) rfl (by show x.toNat < x.toNat + 1; omega) rfl
      rw [hce]
      unfold ce_load ce_chk
      rw [if_neg (fun z => z.2 (va.2 c1)), if_neg (by decide), if_pos ⟨rfl, fun z => by
        rcases z with z | z
        · exact z (by rw [e14]; exact c2.2.2)
        · exact z (by rw [b3]; exact kdv_4.2 c2.2.1)⟩]
      rfl
    · obtain ⟨-, -, b3, b4, -, b6, b7⟩ := vb c1
      have E := EM.load (g := g) (x := V x.toNat) (wh := P x.toNat) (cp.le (by decide) (by decide)) (va.2 c1) (by
        by_cases d1 : g 212 14 = 2
        · right; rw [b3]; intro d2
          refine c2 ⟨?_, kdv_4.1 d2, by rw [← e14]; exact d1⟩
          have := kdv_4.1 d2
          omega
        · exact Or.inl d1) own2 own3
      rw [b3, b4, b6] at E
      refine sim h6 E hce ?_ (Nat.le_of_ble_eq_true rfl) rfl rfl rfl rfl (by rw [en]; exact c3) rfl
      unfold ldk
      split <;> exact (Nat.le_of_ble_eq_true rfl)
  case h_7 =>
    obtain ⟨hc, -, hp⟩ := pr_q_in h1
    subst hp
    obtain ⟨own1, own2, own3⟩ := own hc.1.1
    refine sim hc.1.1 (vs := [(2, 0, 0), (17, 1, 0)]) (ls := [(2, 0, 0), (1, 6, 1), (0, 5, 0)]) (EM.b (vs := [(2, 0, 0)]) (ls := [(2, 0, 0)]) (n := 1) (m := 2) (cp.le (by decide) (by decide)) (EM.both (cp.le (by decide) (by decide))) (fun g1 A1 hc1 => EM.b (vs := [(17, 1, 0)]) (ls := []) (n := 0) (m := 2) hc1 (EM.get (hc1.le (by omega) (by omega)) ?_ ?_) (fun g2 A2 hc2 => EM.l (n := 0) (m := 1) hc2 (fun _ _ hc3 => EM.l1 hc3)))) rfl (Nat.le_of_ble_eq_true rfl) (Nat.le_of_ble_eq_true rfl) rfl rfl rfl rfl rfl rfl
    · rw [A1.fr 212 (by decide) (by decide) (by decide)]; exact own2
    · rw [A1.fr 212 (by decide) (by decide) (by decide), A1.fr 215 (by decide) (by decide) (by decide)]; exact own3
  case h_8 =>
    obtain ⟨hc, -, hp⟩ := pr_q_in h1
    subst hp
    have E := EM.op (g := g) (x := x) (cp.le (by decide) (by decide)) (by
      intro k hk
      rw [(tab _).2.1, (tab _).1, f2 33 (by omega), f2 k (by omega)]
      rcases hk with e | e
      · rw [e]; exact Sk.2.2.2.1
      · rw [e]; exact Sk.2.2.2.2)
    have eo : ∀ b, opE g x b = opE c0 x b := by
      intro b
      unfold opE
      rw [(tab _).2.1, (tab _).1, f2 33 (by omega), f2 34 (by omega), f2 35 (by omega), f1 222 (by omega)]
    rw [eo, eo] at E
    refine sim hc.1.1 E rfl ?_ ?_ rfl rfl rfl rfl rfl rfl
    · unfold opE; split <;> exact (Nat.le_of_ble_eq_true rfl)
    · unfold opE; split <;> exact (Nat.le_of_ble_eq_true rfl)
  case h_9 =>
    obtain ⟨hc, -, hp⟩ := pr_q_in h1
    subst hp
    exact sim hc.1.1 (EM.both (cp.le (by decide) (by decide))) rfl (by decide) (by decide) rfl rfl rfl rfl rfl rfl
  case h_10 =>
    obtain ⟨hc, -, hp⟩ := pr_q_in h1
    subst hp
    exact sim hc.1.1 (EM.both (cp.le (by decide) (by decide))) rfl (by decide) (by decide) rfl rfl rfl rfl rfl rfl
  case h_13 =>
    obtain ⟨hc, -, hp⟩ := pr_q_in h1
    subst hp
    exact sim hc.1 (EM.v1 (cp.le (by decide) (by decide))) rfl (Nat.le_of_ble_eq_true rfl) (Nat.le_of_ble_eq_true rfl) rfl rfl rfl rfl rfl rfl
  case h_14 =>
    -- the name of a let
    obtain ⟨hc, -, hp⟩ := pr_q_in h1
    subst hp
    have h6 := hc.1.1
    obtain ⟨k17, k18⟩ := sub1 (by omega)
    have e14 : g 212 14 = h 264 ((p.1 3 : Int) - 1).toNat := by rw [k14 (Q.2.2.2.2.1 (by omega)), k17, (k4 (by omega)).1]
    obtain ⟨va, vb⟩ := r.var h6 Q hS L M0 H0 x.toNat
    have va := va x.toNat rfl
    dsimp only at va vb
    have hnm : ce_nm g (V x.toNat) := T.nm (by rw [f1 6 (by omega)]; exact hn6) hc.2.1
    have hce : ce true false K V P (21, x, y, z) (g, ty, fn, on, pn, ln, st) = ce_h (g, ty, fn, on, pn, ln, st) (ce_chk true (ce_var g (V x.toNat)) (4, P x.toNat) (ce_chk true (g 212 14 ≠ 2 ∨ ce_kd g (V x.toNat) ≠ 4) (6, P x.toNat) (.inr g))) := by
      show ce_h _ (ce_q _ _) = _
      unfold ce_q
      rw [if_pos hnm]
    have x15 : (pu (pu p.1 10 (x.toNat + 1)) 15 (x.toNat + 1)) 15 = x.toNat + 1 := rfl
    -- its note is that of the item at the end of the let
    have flt2 : ∀ {x0 : Int × Int}, vnt P V h ((p.1 3 : Int) - 1) x.toNat = [x0] → x0.2 = P x.toNat → isN K' P V sc ss h s.1 x0 ∧ ∀ q, isN K' P V sc ss h s.1 q → nle x0 q := by
      intro x0 hv hx0
      obtain ⟨k, a1, a2, a3, a4⟩ := X15 (by show x.toNat + 1 ≠ 0; omega)
      have a4 : h 280 k + 1 = ((x.toNat + 1 : Nat) : Int) := a4
      have l4 := (L'.2.2.2.1 k a1 (by rw [hS]; exact a2)).2.1
      rw [hS] at l4
      have a5 : h 281 k = (p.1 3 : Int) - 1 := by
        rcases l4 a3 with ⟨-, -, w⟩ | w
        · exact w
        · exfalso
          have w : ((x.toNat + 1 : Nat) : Int) ≤ h 280 k := w
          omega
      have en : nt_i P V h k = [x0] := by
        unfold nt_i
        rw [if_neg (by rw [a3]; decide), if_pos (Or.inr a3), a5, show (h 280 k).toNat = x.toNat by omega]
        exact hv
      refine c2_fault B M hS L' tp H0 (Or.inr (Or.inr (Or.inr (Or.inr (Or.inl ⟨k, a1, a2, by rw [en]; exact List.mem_singleton_self _⟩))))) (fun q hq => by cases hq) hx0 (show x.toNat < x.toNat + 1 by omega) (fun q hq => ?_) (fun z15 q hq => ?_)
      · rw [mb.2.1, t2] at hq; cases hq
      · have hq : q ∈ vnt P V h ((p.1 3 : Int) - 1) x.toNat := hq
        rw [hv, List.mem_singleton] at hq
        rw [hq]; exact nle_refl _
    rcases vnt_cases (V := V) (P := P) (h := h) (sub := (p.1 3 : Int) - 1) (t := x.toNat) with ⟨c1, c2⟩ | ⟨c1, c2, c3⟩ | ⟨c1, c2, c3⟩
    · refine Or.inr ⟨(4, P x.toNat), ?_, flt2 c2 rfl⟩
      rw [hce]
      unfold ce_chk
      rw [if_pos ⟨rfl, fun z => va.1 z c1⟩]
      rfl
    · obtain ⟨-, -, b3, -⟩ := vb c1
      refine Or.inr ⟨(6, P x.toNat), ?_, flt2 c3 rfl⟩
      rw [hce]
      unfold ce_chk
      rw [if_neg (fun z => z.2 (va.2 c1)), if_pos ⟨rfl, fun z => by
        rcases z with z | z
        · exact z (by rw [e14]; exact c2.2.2)
        · exact z (by rw [b3]; exact kdv_4.2 c2.2.1)⟩]
      rfl
    · obtain ⟨-, -, b3, b4, -, b6, b7⟩ := vb c1
      refine Or.inl ⟨(g, ty, fn, on, pn, ln, st), ?_, ok h6 (AP.refl g) (by show 0 + _ ≤ _ + 2 * p.1 8; omega) (by show 0 + _ ≤ _ + 2 * p.1 8; omega) ⟨by omega, by omega⟩ ⟨by omega, by omega⟩ q9 q10 rfl (fun _ => c3) (ro0 rfl), (AP.refl g).xp, rfl, rfl, rfl⟩
      rw [hce]
      unfold ce_chk
      rw [if_neg (fun z => z.2 (va.2 c1)), if_neg (fun z => z.2 (by
        by_cases d1 : g 212 14 = 2
        · right; rw [b3]; intro d2
          refine c2 ⟨?_, kdv_4.1 d2, by rw [← e14]; exact d1⟩
          have := kdv_4.1 d2
          omega
        · exact Or.inl d1))]
      rfl
  case h_15 =>
    -- a let's end
    obtain ⟨hc, -, hp⟩ := pr_q_in h1
    subst hp
    have h6 := hc.1.1
    obtain ⟨own1, own2, own3⟩ := own h6
    have h15 : p.1 15 = x.toNat + 1 := hc.2.2.2.2.2.2.1
    have v0 : vnt P V h ((p.1 3 : Int) - 1) x.toNat = [] := by
      have := t3 (by omega)
      rw [h15] at this
      exact this
    have c1 : m_var V h ((p.1 3 : Int) - 1) x.toNat ≠ -1 := by
      rcases vnt_cases (V := V) (P := P) (h := h) (sub := (p.1 3 : Int) - 1) (t := x.toNat) with ⟨c1, c2⟩ | ⟨c1, c2, c3⟩ | ⟨c1, c2, c3⟩
      · rw [c2] at v0; cases v0
      · exact c1
      · exact c1
    have hs : mx (mi_put 13 0 0 x s.1) h := by
      obtain ⟨g1, a1, a2⟩ := mi_h_in (show mi_h s (gx_b (mi_add 13 0 0 x s.1) (mi_add 12 0 0 0)) = .inr s' from m1)
      obtain ⟨g2, a3, a4⟩ := gx_b_ok a1
      rw [mi_add_in a3] at a4
      have M' := M
      rw [a2, mi_add_in a4] at M'
      exact (mx_put 12 0 0 0 _).trans M'
    obtain ⟨w1, w2, w3⟩ := row 13 0 0 x hs
    have en : nE K' P V sc ss h s.1 22 = [] := by
      show nt_i P V h (s.1 254 33).toNat = _
      unfold nt_i
      rw [if_neg (by rw [w1]; decide), if_pos (Or.inr w1), w2, w3]
      exact v0
    obtain ⟨va, vb⟩ := r.var h6 Q hS L M0 H0 x.toNat
    dsimp only at va vb
    obtain ⟨-, -, b3, b4, -, b6, b7⟩ := vb c1
    have E : EM (stk (ce_kd g (V x.toNat)) (ce_pl g (V x.toNat))) [(1, ce_lseg (ce_kd g (V x.toNat)), ce_no g (V x.toNat))] g (gx_b (ce_store true (V x.toNat) g) (ce_tvar true false 1 (V x.toNat))) := by
      have ls3 : (stk (ce_kd g (V x.toNat)) (ce_pl g (V x.toNat))).length ≤ 3 := by unfold stk; split <;> exact (Nat.le_of_ble_eq_true rfl)
      have := EM.b (vs := stk (ce_kd g (V x.toNat)) (ce_pl g (V x.toNat))) (ls := []) (vs' := []) (ls' := [(1, ce_lseg (ce_kd g (V x.toNat)), ce_no g (V x.toNat))]) (n := 0) (m := 1) (g := g) (f := ce_tvar true false 1 (V x.toNat)) (cp.le (by omega) (by decide)) (EM.store (x := V x.toNat) (cp.le (by decide) (by decide)) own2 own3) (fun g1 A hc1 => by
        unfold ce_tvar
        rw [if_pos ⟨rfl, rfl⟩, A.kd.2.2.1, A.kd.2.2.2.2.1]
        exact EM.l1 hc1)
      rw [List.append_nil] at this
      exact this
    rw [b3, b4, b6] at E
    obtain ⟨g', e1, A, l1, l2⟩ := E
    refine Or.inl ⟨(g', ty, fn, on, pn, ln, st), ?_, ok h6 A ?_ (by show 1 + 2 * p.1 8 ≤ 1 + 2 * p.1 8; omega) ⟨by omega, by omega⟩ ⟨by omega, by omega⟩ q9 q10 en (fun z => absurd rfl z) (ro0 rfl), A.xp, rfl, l1, l2⟩
    · show ce_h _ (gx_b (ce_store true (V x.toNat) g) (ce_tvar true false 1 (V x.toNat))) = _
      rw [e1]; rfl
    · show _ + 2 * p.1 8 ≤ 3 + 2 * p.1 8
      have : (stk (kdv h (m_var V h ((p.1 3 : Int) - 1) x.toNat).toNat) (plv b15 h (m_var V h ((p.1 3 : Int) - 1) x.toNat).toNat)).length ≤ 3 := by unfold stk; split <;> exact (Nat.le_of_ble_eq_true rfl)
      omega
  case h_16 =>
    obtain ⟨hc, -, hp⟩ := pr_q_in h1
    subst hp
    obtain ⟨own1, own2, own3⟩ := own hc.1.1
    refine sim hc.1.1 (vs := [(1, 5, 0), (18, 1, 0)]) (ls := [(1, 7, 0), (1, 6, 1), (0, 7, 0), (1, 5, 0)]) (EM.v (n := 1) (m := 4) (cp.le (by decide) (by decide)) (fun g1 A1 hc1 => EM.b (vs := [(18, 1, 0)]) (ls := []) (n := 0) (m := 4) hc1 (EM.set (hc1.le (by omega) (by omega)) ?_ ?_) (fun g2 A2 hc2 => EM.l (n := 0) (m := 3) hc2 (fun _ _ hc3 => EM.l (n := 0) (m := 2) hc3 (fun _ _ hc4 => EM.l (n := 0) (m := 1) hc4 (fun _ _ hc5 => EM.l1 hc5)))))) rfl (Nat.le_of_ble_eq_true rfl) (Nat.le_of_ble_eq_true rfl) rfl rfl rfl rfl rfl rfl
    · rw [A1.fr 212 (by decide) (by decide) (by decide)]; exact own2
    · rw [A1.fr 212 (by decide) (by decide) (by decide), A1.fr 215 (by decide) (by decide) (by decide)]; exact own3
  case h_17 =>
    -- 24
    obtain ⟨hc, -, hp⟩ := pr_q_in h1
    subst hp
    have := w235 hc.1.1
    refine sta hc.1.1 (g' := am_up g 235 4 (g 235 4 + 2)) (st' := (g 235 4, 0, 0, 0) :: st) (AP.lab2 _ g) ?_ (Nat.le_of_ble_eq_true rfl) (Nat.le_of_ble_eq_true rfl) ?_ ?_ (by show st.length + 1 = p.2.1.length + 1; rw [q9]) rfl rfl rfl rfl ?_
    · show gx_b (ce_told g) _ = _
      unfold ce_told ce_q
      rw [if_pos (by omega)]
      rfl
    · rw [p_up_n _ _ _ _ _ _ (Or.inl (by decide))]; omega
    · rw [p_up_s, show (pw 3 24 : Int) = 1 from rfl]; omega
    · rw [p_up_n _ _ _ _ _ _ (Or.inl (by decide)), p_up_s]; rfl
  case h_12 =>
    cases hq : p.2.2.1 with
    | nil => rw [hq] at h1; cases h1
    | cons q l =>
      rw [hq] at h1
      obtain ⟨hc, -, hp⟩ := pr_q_in h1
      subst hp
      have h6 := hc.1.1
      have o2q := o2 q (by rw [hq]; exact List.mem_cons_self)
      have ex : q.1 = x := hc.2.1
      have ey : q.2.1 = y := hc.2.2.1
      rw [ex, ey] at o2q
      have cnt : gx_count K V (y.toNat + 1) 4500 (y.toNat + 1) 0 0 false = some z := hc.2.2.2.2.2.1 K T.1
      have ecs : ∀ {vs ls : List (Int × Int × Int)} {g' : am_H}, AP vs ls g g' → ce_cs true false V g' x.toNat y.toNat = sm b21 cs (kcE K' V sc h ((p.1 3 : Int) - 1) x.toNat y.toNat) (m_sof V ss h (kcE K' V sc h ((p.1 3 : Int) - 1) x.toNat y.toNat) y.toNat) := by
        intro vs ls g' A
        unfold ce_cs
        rw [if_pos rfl, hcc h6 A, A.tab.2.2.2, (tab _).2.2.2]
        exact n_sof F Sy _ ((hkr h6 x.toNat y.toNat).resolve_left o2q.1)
      have emany : ∀ {vs ls : List (Int × Int × Int)} {g' : am_H}, AP vs ls g g' → (if ce_obj V g' x.toNat y.toNat then z + 1 else z) = (if x.toNat = y.toNat ∨ m_var V h ((p.1 3 : Int) - 1) x.toNat ≠ -1 then z + 1 else z) := by
        intro vs ls g' A
        by_cases d : x.toNat = y.toNat ∨ m_var V h ((p.1 3 : Int) - 1) x.toNat ≠ -1
        · rw [if_pos d, if_pos ((hobj h6 A _ _).2 d)]
        · rw [if_neg d, if_neg (fun z => d ((hobj h6 A _ _).1 z))]
      have E : EM [(15, sm b21 cs (kcE K' V sc h ((p.1 3 : Int) - 1) x.toNat y.toNat) (m_sof V ss h (kcE K' V sc h ((p.1 3 : Int) - 1) x.toNat y.toNat) y.toNat), if x.toNat = y.toNat ∨ m_var V h ((p.1 3 : Int) - 1) x.toNat ≠ -1 then z + 1 else z)] [(15, c0 222 (sm b21 cs (kcE K' V sc h ((p.1 3 : Int) - 1) x.toNat y.toNat) (m_sof V ss h (kcE K' V sc h ((p.1 3 : Int) - 1) x.toNat y.toNat) y.toNat)).toNat, if x.toNat = y.toNat ∨ m_var V h ((p.1 3 : Int) - 1) x.toNat ≠ -1 then z + 1 else z)] g (ce_end true false K V x.toNat y.toNat g) := by
        unfold ce_end
        rw [cnt]
        dsimp only
        rw [ecs (AP.refl g), emany (AP.refl g)]
        refine EM.v (n := 0) (m := 1) (cp.le (by decide) (by decide)) (fun g1 A hc1 => ?_)
        rw [ecs A, emany A, (fA A).1 222 (by omega)]
        exact EM.l1 hc1
      obtain ⟨g', e1, A, l1, l2⟩ := E
      refine Or.inl ⟨(g', ty, fn, on, pn, ln, st), ?_, ok h6 A (Nat.le_refl _) (Nat.le_refl _) ⟨by omega, by omega⟩ ⟨by omega, by omega⟩ q9 q10 rfl t3 ⟨fun z => absurd h6 z, fun q' hq' => o2 q' (by rw [hq]; exact List.mem_cons_of_mem _ hq')⟩, A.xp, rfl, l1, l2⟩
      show ce_h _ (ce_end true false K V x.toNat y.toNat g) = _
      rw [e1]; rfl
  case h_18 =>
    -- 25
    obtain ⟨hc, -, hp⟩ := pr_q_in h1
    subst hp
    cases hs : st with
    | nil => exfalso; have := hc.2.2.1; cases hq : p.2.1 with
      | nil => rw [hq] at this; cases this
      | cons a l => rw [hq, hs] at q9; cases q9
    | cons q l =>
      subst hs
      obtain ⟨g1, e1, A1, l1, l2⟩ := EM.unless (g := g) (l := q.1) (cp.le (by decide) (by decide))
      have c1 : cap g1 197 190 := cap.ap (vs := []) (ls := [(0, 0, 0), (8, 0, 0), (13, q.1, 0)]) (cp.le (by decide) (Nat.le_of_ble_eq_true rfl)) A1
      have hl1 : g1 8 4 < 100000 := by omega
      have hl2 : am_up g1 8 4 (g1 8 4 + 1) 8 4 = g1 8 4 + 1 := p_up_s _ _ _ _
      obtain ⟨g', e2, A2, k1, k2⟩ := EMS.v (op := 13) (a := g1 8 4) (b := 0) (n := 2) (m := 0) (f := fun g => (g, ty, fn, on, pn, ln, (q.1, g1 8 4 + 1, 0, 0) :: l)) (k := fun g => gx_b (ce_vm true 12 (g1 8 4 + 1) 0 g) fun g => gx_b (ce_vm true 11 (g1 8 4) 0 g) fun g => .inr (g, ty, fn, on, pn, ln, (q.1, g1 8 4 + 1, 0, 0) :: l)) (g := am_up (am_up g1 8 4 (g1 8 4 + 1)) 8 4 (g1 8 4 + 1 + 1)) (((c1.lab _).lab _).le (by decide) (by decide)) (fun _ _ h3 => EMS.v (n := 1) (m := 0) h3 (fun _ _ h4 => EMS.v (n := 0) (m := 0) h4 (fun _ _ h5 => EMS.nil)))
      have A : AP [(13, g1 8 4, 0), (12, g1 8 4 + 1, 0), (11, g1 8 4, 0)] [(0, 0, 0), (8, 0, 0), (13, q.1, 0)] g g' := ((A1.trans (AP.lab _ g1) q1 q3).trans (AP.lab _ _) q1 q3).trans A2 q1 q3
      rw [p_up_s] at k1
      rw [p_up_n _ _ _ _ _ _ (Or.inl (by decide)), p_up_n _ _ _ _ _ _ (Or.inl (by decide))] at k2
      refine sta hc.1.1 (st' := (q.1, g1 8 4 + 1, 0, 0) :: l) A ?_ (Nat.le_of_ble_eq_true rfl) (Nat.le_of_ble_eq_true rfl) ⟨by omega, by rw [show (pw 4 25 : Int) = 3 from rfl]; omega⟩ ⟨by omega, by omega⟩ (by show l.length + 1 = p.2.1.tail.length + 1; rw [List.length_tail, ← q9]; rfl) rfl rfl rfl rfl (by rw [k1, k2, l2, l1, Int.add_assoc]; rfl)
      show gx_b (ce_unless true false q.1 g) _ = _
      rw [e1]
      show gx_b (ce_labq true g1) _ = _
      rw [ce_labq_t hl1]
      show gx_b (ce_labq true (am_up g1 8 4 (g1 8 4 + 1))) _ = _
      rw [ce_labq_t (by rw [hl2]; omega), hl2]
      exact e2
  case h_19 =>
    -- 26
    obtain ⟨hc, -, hp⟩ := pr_q_in h1
    subst hp
    cases hs : st with
    | nil => exfalso; have := hc.2.2.1; cases hq : p.2.1 with
      | nil => rw [hq] at this; cases this
      | cons a l => rw [hq, hs] at q9; cases q9
    | cons q l =>
      subst hs
      obtain ⟨g', e2, A2, k1, k2⟩ := EMS.v (op := 12) (a := g 8 4) (b := 0) (n := 1) (m := 2) (f := fun g' => (g', ty, fn, on, pn, ln, (q.1, q.2.1, g 8 4, 0) :: l)) (k := fun g1 => gx_b (ce_vm true 11 q.2.1 0 g1) fun g1 => gx_b (ce_li true false 12 (q.1 + 1) 0 g1) fun g1 => gx_b (ce_li true false 11 q.1 0 g1) fun g1 => .inr (g1, ty, fn, on, pn, ln, (q.1, q.2.1, g 8 4, 0) :: l)) (g := am_up g 8 4 (g 8 4 + 1)) ((cp.lab _).le (by decide) (by decide)) (fun _ _ h3 => EMS.v (n := 0) (m := 2) h3 (fun _ _ h4 => EMS.l (n := 0) (m := 1) h4 (fun _ _ h5 => EMS.l (n := 0) (m := 0) h5 (fun _ _ h6 => EMS.nil))))
      have A : AP [(12, g 8 4, 0), (11, q.2.1, 0)] [(12, q.1 + 1, 0), (11, q.1, 0)] g g' := (AP.lab _ g).trans A2 q1 q3
      rw [p_up_s] at k1
      rw [p_up_n _ _ _ _ _ _ (Or.inl (by decide))] at k2
      refine sta hc.1 (st' := (q.1, q.2.1, g 8 4, 0) :: l) A ?_ (Nat.le_of_ble_eq_true rfl) (Nat.le_of_ble_eq_true rfl) ⟨by omega, by rw [show (pw 4 26 : Int) = 2 from rfl]; omega⟩ ⟨by omega, by omega⟩ (by show l.length + 1 = p.2.1.tail.length + 1; rw [List.length_tail, ← q9]; rfl) rfl rfl rfl rfl (by rw [k1, k2]; rfl)
      show gx_b (ce_labq true g) _ = _
      rw [ce_labq_t (by omega)]
      exact e2
  case h_20 =>
    -- 27
    obtain ⟨hc, -, hp⟩ := pr_q_in h1
    subst hp
    cases hs : st with
    | nil => exfalso; have := hc.2.2.1; cases hq : p.2.1 with
      | nil => rw [hq] at this; cases this
      | cons a l => rw [hq, hs] at q9; cases q9
    | cons q l =>
      subst hs
      obtain ⟨g', e2, A, k1, k2⟩ := EMS.v (op := 11) (a := q.2.1) (b := 0) (n := 0) (m := 1) (f := fun g' => (g', ty, fn, on, pn, ln, l)) (k := fun g1 => gx_b (ce_li true false 11 q.1 0 g1) fun g1 => .inr (g1, ty, fn, on, pn, ln, l)) (g := g) (cp.le (by decide) (by decide)) (fun _ _ h3 => EMS.l (n := 0) (m := 0) h3 (fun _ _ h4 => EMS.nil))
      refine sta hc.1 A e2 (Nat.le_of_ble_eq_true rfl) (Nat.le_of_ble_eq_true rfl) ⟨by omega, by omega⟩ ⟨by omega, by omega⟩ (by show l.length = p.2.1.tail.length; rw [List.length_tail, ← q9]; rfl) rfl rfl rfl rfl (by rw [k1, k2]; rfl)
  case h_21 =>
    -- 28
    obtain ⟨hc, -, hp⟩ := pr_q_in h1
    subst hp
    cases hs : st with
    | nil => exfalso; have := hc.2.2.1; cases hq : p.2.1 with
      | nil => rw [hq] at this; cases this
      | cons a l => rw [hq, hs] at q9; cases q9
    | cons q l =>
      subst hs
      obtain ⟨g', e2, A, k1, k2⟩ := EMS.v (op := 11) (a := q.2.2.1) (b := 0) (n := 0) (m := 1) (f := fun g' => (g', ty, fn, on, pn, ln, l)) (k := fun g1 => gx_b (ce_li true false 11 (q.1 + 1) 0 g1) fun g1 => .inr (g1, ty, fn, on, pn, ln, l)) (g := g) (cp.le (by decide) (by decide)) (fun _ _ h3 => EMS.l (n := 0) (m := 0) h3 (fun _ _ h4 => EMS.nil))
      refine sta hc.1 A e2 (Nat.le_of_ble_eq_true rfl) (Nat.le_of_ble_eq_true rfl) ⟨by omega, by omega⟩ ⟨by omega, by omega⟩ (by show l.length = p.2.1.tail.length; rw [List.length_tail, ← q9]; rfl) rfl rfl rfl rfl (by rw [k1, k2]; rfl)
  case h_22 =>
    -- 30
    obtain ⟨hc, -, hp⟩ := pr_q_in h1
    subst hp
    have w5 := w235 hc.1.1
    have hl2 : am_up g 8 4 (g 8 4 + 1) 8 4 = g 8 4 + 1 := p_up_s _ _ _ _
    have ht : am_up (am_up g 8 4 (g 8 4 + 1)) 8 4 (g 8 4 + 1 + 1) 235 4 = g 235 4 := by rw [p_up_n _ _ _ _ _ _ (Or.inl (by decide)), p_up_n _ _ _ _ _ _ (Or.inl (by decide))]
    obtain ⟨g', e2, A2, k1, k2⟩ := EMS.v (op := 11) (a := g 8 4) (b := 0) (n := 1) (m := 1) (f := fun g' => (g', ty, fn, on, pn, ln, (g 235 4, g 8 4, g 8 4 + 1, 0) :: st)) (k := fun g1 => gx_b (ce_li true false 11 (g 235 4) 0 g1) fun g1 => gx_b (ce_vm true 20 (P x.toNat) 0 g1) fun g1 => .inr (g1, ty, fn, on, pn, ln, (g 235 4, g 8 4, g 8 4 + 1, 0) :: st)) (g := am_up (am_up (am_up g 8 4 (g 8 4 + 1)) 8 4 (g 8 4 + 1 + 1)) 235 4 (g 235 4 + 2)) ((((cp.lab _).lab _).lab2 _).le (by decide) (by decide)) (fun _ _ h3 => EMS.l (n := 1) (m := 0) h3 (fun _ _ h4 => EMS.v (n := 0) (m := 0) h4 (fun _ _ h5 => EMS.nil)))
    have A : AP [(11, g 8 4, 0), (20, P x.toNat, 0)] [(11, g 235 4, 0)] g g' := (((AP.lab _ g).trans (AP.lab _ _) q1 q3).trans (AP.lab2 _ _) q1 q3).trans A2 q1 q3
    rw [p_up_n _ _ _ _ _ _ (Or.inl (by decide)), p_up_s] at k1
    rw [p_up_s] at k2
    have hw3 : (pw 3 30 : Int) = 1 := rfl
    have hw4 : (pw 4 30 : Int) = 2 := rfl
    refine sta hc.1.1 (st' := (g 235 4, g 8 4, g 8 4 + 1, 0) :: st) A ?_ (Nat.le_of_ble_eq_true rfl) (Nat.le_of_ble_eq_true rfl) ⟨by omega, by omega⟩ ⟨by omega, by omega⟩ (by show st.length + 1 = p.2.1.length + 1; rw [q9]) rfl rfl rfl rfl (by rw [k1, k2, Int.add_assoc]; rfl)
    show gx_b (ce_labq true g) _ = _
    rw [ce_labq_t (by omega)]
    show gx_b (ce_labq true (am_up g 8 4 (g 8 4 + 1))) _ = _
    rw [ce_labq_t (by rw [hl2]; omega), hl2]
    show gx_b (ce_told (am_up (am_up g 8 4 (g 8 4 + 1)) 8 4 (g 8 4 + 1 + 1))) _ = _
    unfold ce_told ce_q
    rw [ht, if_pos (by omega)]
    exact e2
  case h_23 =>
    -- 31
    obtain ⟨hc, -, hp⟩ := pr_q_in h1
    subst hp
    cases hs : st with
    | nil => exfalso; have := hc.2.2.1; cases hq : p.2.1 with
      | nil => rw [hq] at this; cases this
      | cons a l => rw [hq, hs] at q9; cases q9
    | cons q l =>
      subst hs
      obtain ⟨g1, e1, A1, l1, l2⟩ := EM.unless (g := g) (l := q.1 + 1) (cp.le (by decide) (by decide))
      have c1 : cap g1 197 190 := cap.ap (vs := []) (ls := [(0, 0, 0), (8, 0, 0), (13, q.1 + 1, 0)]) (cp.le (by decide) (Nat.le_of_ble_eq_true rfl)) A1
      obtain ⟨g', e2, A2, k1, k2⟩ := EM.v (op := 13) (a := g1 8 4) (b := 0) (n := 2) (m := 0) (f := fun g => gx_b (ce_vm true 12 q.2.2.1 0 g) fun g => ce_vm true 11 (g1 8 4) 0 g) (g := am_up g1 8 4 (g1 8 4 + 1)) ((c1.lab _).le (by decide) (by decide)) (fun _ _ h3 => EM.v (n := 1) (m := 0) h3 (fun _ _ h4 => EM.v1 h4))
      have A : AP [(13, g1 8 4, 0), (12, q.2.2.1, 0), (11, g1 8 4, 0)] [(0, 0, 0), (8, 0, 0), (13, q.1 + 1, 0)] g g' := (A1.trans (AP.lab _ g1) q1 q3).trans A2 q1 q3
      rw [p_up_s] at k1
      rw [p_up_n _ _ _ _ _ _ (Or.inl (by decide))] at k2
      have hw4 : (pw 4 31 : Int) = 3 := rfl
      refine sta hc.1.1 (st' := q :: l) A ?_ (Nat.le_of_ble_eq_true rfl) (Nat.le_of_ble_eq_true rfl) ⟨by omega, by omega⟩ ⟨by omega, by omega⟩ (by show l.length + 1 = p.2.1.tail.length + 1; rw [List.length_tail, ← q9]; rfl) rfl rfl rfl rfl (by rw [k1, k2, l1, l2]; rfl)
      show ce_h _ (gx_b (ce_unless true false (q.1 + 1) g) _) = _
      rw [e1]
      show ce_h _ (gx_b (ce_labq true g1) _) = _
      rw [ce_labq_t (by omega)]
      show ce_h _ (gx_b (ce_vm true 13 (g1 8 4) 0 (am_up g1 8 4 (g1 8 4 + 1))) _) = _
      rw [e2]
      rfl
  case h_24 =>
    -- 32
    obtain ⟨hc, -, hp⟩ := pr_q_in h1
    subst hp
    cases hs : st with
    | nil => exfalso; have := hc.2.2.1; cases hq : p.2.1 with
      | nil => rw [hq] at this; cases this
      | cons a l => rw [hq, hs] at q9; cases q9
    | cons q l =>
      subst hs
      obtain ⟨g', e2, A, k1, k2⟩ := EMS.v (op := 12) (a := q.2.1) (b := 0) (n := 1) (m := 2) (f := fun g' => (g', ty, fn, on, pn, ln, l)) (k := fun g1 => gx_b (ce_vm true 11 q.2.2.1 0 g1) fun g1 => gx_b (ce_li true false 12 q.1 0 g1) fun g1 => gx_b (ce_li true false 11 (q.1 + 1) 0 g1) fun g1 => .inr (g1, ty, fn, on, pn, ln, l)) (g := g) (cp.le (by decide) (by decide)) (fun _ _ h3 => EMS.v (n := 0) (m := 2) h3 (fun _ _ h4 => EMS.l (n := 0) (m := 1) h4 (fun _ _ h5 => EMS.l (n := 0) (m := 0) h5 (fun _ _ h6 => EMS.nil))))
      refine sta hc.1 A e2 (Nat.le_of_ble_eq_true rfl) (Nat.le_of_ble_eq_true rfl) ⟨by omega, by omega⟩ ⟨by omega, by omega⟩ (by show l.length = p.2.1.tail.length; rw [List.length_tail, ← q9]; rfl) rfl rfl rfl rfl (by rw [k1, k2]; rfl)
  case h_25 =>
    obtain ⟨hc, -, hp⟩ := pr_q_in h1
    subst hp
    exact sim hc.1.1 (EM.both (cp.le (by decide) (by decide))) rfl (by decide) (by decide) rfl rfl rfl rfl rfl rfl
  case h_26 =>
    obtain ⟨hc, -, hp⟩ := pr_q_in h1
    subst hp
    exact sim hc.1.1 (EM.v (n := 0) (m := 1) (cp.le (by decide) (by decide)) (fun _ _ hc => EM.l1 hc)) rfl (by decide) (by decide) rfl rfl rfl rfl rfl rfl
  case h_11 =>
    obtain ⟨hc, -, hp⟩ := pr_q_in h1
    subst hp
    have h6 := hc.1.1
    obtain ⟨own1, own2, own3⟩ := own h6
    obtain ⟨k17, k18⟩ := sub1 (by omega)
    have e14 : g 212 14 = h 264 ((p.1 3 : Int) - 1).toNat := by rw [k14 (Q.2.2.2.2.1 (by omega)), k17, (k4 (by omega)).1]
    have x0 : 0 ≤ x := hc.2.1.1
    have y0 : 0 ≤ y := hc.2.2.1.1
    have hz : z = 1 ∧ y = x + 2 ∨ z = 0 ∧ y = x := hc.2.2.2.1
    have p39 := pos 39 (by unfold mx_k; omega)
    have hs : s'.1 = mi_put 9 (s.1 254 39) 0 0 (mi_call (if z = 1 then x else -1) y s.1) := by
      have hm := ce_q_in (show ce_q (s.1 254 39 < 990) (gx_b (mi_add 9 (s.1 254 39) 0 0 (mi_call (if z = 1 then x else -1) y s.1)) fun g1 => (.inr (g1, s.2.1, s.2.2.1, s.2.2.2.1, s.1 254 39 :: s.2.2.2.2) : gx_R mi_S)) = .inr s' from m1)
      obtain ⟨g1, a1, a2⟩ := gx_b_ok hm
      cases a2
      exact mi_add_in a1
    have e39 : s'.1 254 39 = s.1 254 39 + 1 := by
      rw [hs, mi_put_f _ _ _ _ _ _ (by decide)]
      unfold mi_call
      rw [p_up_c _ _ _ _ _ (by decide), p_up_c _ _ _ _ _ (by decide), p_up_c _ _ _ _ _ (by decide), p_up_c _ _ _ _ _ (by decide), p_up_s]
    obtain ⟨k, hk⟩ : ∃ k : Nat, (s.1 254 39).toNat = k := ⟨_, rfl⟩
    have k39 : (k : Int) < s'.1 254 39 := by omega
    have r282 : h 282 k = if z = 1 then x else -1 := by
      rw [M.2 282 39 rfl k k39, hs, mi_put_c _ _ _ _ _ _ (by decide)]
      unfold mi_call
      rw [p_up_c _ _ _ _ _ (by decide), p_up_c _ _ _ _ _ (by decide), p_up_c _ _ _ _ _ (by decide), ← hk, p_up_s]
    have r283 : h 283 k = y := by
      rw [M.2 283 39 rfl k k39, hs, mi_put_c _ _ _ _ _ _ (by decide)]
      unfold mi_call
      rw [p_up_c _ _ _ _ _ (by decide), p_up_c _ _ _ _ _ (by decide), ← hk, p_up_s]
    have r289 : h 289 k = (p.1 3 : Int) - 1 := by
      rw [M.2 289 39 rfl k k39, hs, mi_put_c _ _ _ _ _ _ (by decide)]
      unfold mi_call
      rw [← hk, p_up_s, Rv.2.1.2.1]
    have kh : (k : Int) < h 254 39 := by have := M.1 39 (by unfold mx_k; omega); omega
    have cnt : gx_count K V (y.toNat + 1) 4500 (y.toNat + 1) 0 0 false = some (h 284 k) := by
      have := HK k kh K T.1
      rw [r283] at this
      exact this
    have en : nE K' P V sc ss h s.1 11 = nt_k K' P V sc ss h k := by show nt_k K' P V sc ss h (s.1 254 39).toNat = _; rw [hk]
    have ekc : m_kc K' V sc h k = kcE K' V sc h ((p.1 3 : Int) - 1) x.toNat y.toNat := by
      unfold m_kc kcE
      rw [r289, r282]
      rcases hz with ⟨z1, z2⟩ | ⟨z1, z2⟩
      · rw [if_pos z1, if_neg (c := x = -1) (by omega), if_neg (c := x.toNat = y.toNat) (by omega)]
      · rw [if_neg (c := z = 1) (by omega), if_pos rfl, if_pos (c := x.toNat = y.toNat) (by omega)]
    have eko : (m_ko V h k = 2 ↔ x.toNat = y.toNat) ∧ ((if 0 < m_ko V h k then (1 : Int) else 0) = if decide (x.toNat = y.toNat ∨ m_var V h ((p.1 3 : Int) - 1) x.toNat ≠ -1) = true then 1 else 0) := by
      unfold m_ko
      rw [r289, r282]
      rcases hz with ⟨z1, z2⟩ | ⟨z1, z2⟩
      · rw [if_pos z1, if_neg (by omega)]
        by_cases d : m_var V h ((p.1 3 : Int) - 1) x.toNat = -1
        · rw [if_pos d, if_neg (by decide), if_neg (by rw [decide_eq_true_iff]; omega)]
          exact ⟨⟨fun z => (by cases z), fun z => by omega⟩, rfl⟩
        · rw [if_neg d, if_pos (by decide), if_pos (by rw [decide_eq_true_iff]; exact Or.inr d)]
          exact ⟨⟨fun z => (by cases z), fun z => by omega⟩, rfl⟩
      · rw [if_neg (c := z = 1) (by omega), if_pos rfl, if_pos (by decide), if_pos (by rw [decide_eq_true_iff]; omega)]
        exact ⟨⟨fun _ => by omega, fun _ => rfl⟩, rfl⟩
    have hq : ce_nm g (V x.toNat) ∧ ce_nm g (V y.toNat) ∧ (0 ≤ g 212 20 ∧ g 212 20 ≤ g 213 3) := by
      refine ⟨T.nm (by rw [f1 6 (by omega)]; exact hn6) hc.2.1, T.nm (by rw [f1 6 (by omega)]; exact hn6) hc.2.2.1, ?_⟩
      rw [f2 20 (by omega), f1 213 (by omega), F.1.2.2.2.2.1, F.1.2.2.1]
      omega
    -- behind the object
    have finish : ∀ {vs ls : List (Int × Int × Int)} {fst : gx_R am_H}, EM vs ls g fst → ce true false K V P (11, x, y, z) (g, ty, fn, on, pn, ln, st) = ce_h (g, ty, fn, on, pn, ln, st) (gx_b fst (ce_rst K V P x.toNat y.toNat)) → nt_k K' P V sc ss h k = (if kcE K' V sc h ((p.1 3 : Int) - 1) x.toNat y.toNat = -1 then [(4, P y.toNat)] else nt_k2 P V ss h k (kcE K' V sc h ((p.1 3 : Int) - 1) x.toNat y.toNat)) → vs.length ≤ 2 → ls.length ≤ 1 → oE K' P V sc ss cs b21 b15 h c0 (11, x, y, z) p (g 8 4) (g 235 4) st = (vs, ls, st, g 8 4, g 235 4) → c2o K K' P V sc ss cc cs b20 b21 b15 bv bl h c0 (11, x, y, z) p (pu p.1 10 (y.toNat + 1), p.2.1, (x, y, p.1 6) :: p.2.2.1, fun k => p.2.2.2 k + pw k 11) s s' (g, ty, fn, on, pn, ln, st) := by
      intro vs ls fst E hce hnk hvs hls ho
      obtain ⟨g1, e1, A, l1, l2⟩ := E
      have hr := ce_rest (K := K) (P := P) F Sy (fA A).1 (fA A).2 (hkr h6 x.toNat y.toNat) (hcc h6 A x.toNat y.toNat) (ob := decide (x.toNat = y.toNat ∨ m_var V h ((p.1 3 : Int) - 1) x.toNat ≠ -1)) (by rw [hobj h6 A, decide_eq_true_iff]) cnt
      rw [e1] at hce
      have hce := hce.trans (congrArg (ce_h (g, ty, fn, on, pn, ln, st)) hr)
      rw [A.fr 212 (by decide) (by decide) (by decide), e14, ← eko.2] at hce
      have e2 : nt_k2 P V ss h k (kcE K' V sc h ((p.1 3 : Int) - 1) x.toNat y.toNat) = _ := rfl
      conv at e2 => rhs; unfold nt_k2
      rw [r283, r289] at e2
      by_cases d1 : kcE K' V sc h ((p.1 3 : Int) - 1) x.toNat y.toNat = -1 ∨ m_sof V ss h (kcE K' V sc h ((p.1 3 : Int) - 1) x.toNat y.toNat) y.toNat = -1
      · rw [if_pos d1] at hce
        have el : nE K' P V sc ss h s.1 11 = [(4, P y.toNat)] := by
          rw [en, hnk]
          by_cases d2 : kcE K' V sc h ((p.1 3 : Int) - 1) x.toNat y.toNat = -1
          · rw [if_pos d2]
          · rw [if_neg d2, e2, if_pos (d1.resolve_left d2)]
        exact flt (x0 := (4, P y.toNat)) (t := y.toNat) hce (by rw [el]; exact List.mem_singleton_self _) (fun q hq => by rw [el, List.mem_singleton] at hq; rw [hq]; exact nle_refl _) rfl (by show y.toNat < y.toNat + 1; omega) rfl
      have d2 : kcE K' V sc h ((p.1 3 : Int) - 1) x.toNat y.toNat ≠ -1 := fun z => d1 (Or.inl z)
      have d3 : m_sof V ss h (kcE K' V sc h ((p.1 3 : Int) - 1) x.toNat y.toNat) y.toNat ≠ -1 := fun z => d1 (Or.inr z)
      rw [if_neg d1] at hce
      have el : nE K' P V sc ss h s.1 11 = _ := (en.trans hnk).trans ((if_neg d2).trans e2)
      rw [if_neg d3] at el
      -- a wrong sort or number
      have f5 : ¬ (m_me h (kcE K' V sc h ((p.1 3 : Int) - 1) x.toNat y.toNat) (m_sof V ss h (kcE K' V sc h ((p.1 3 : Int) - 1) x.toNat y.toNat) y.toNat) = (if 0 < m_ko V h k then 1 else 0) ∧ m_mo h (kcE K' V sc h ((p.1 3 : Int) - 1) x.toNat y.toNat) (m_sof V ss h (kcE K' V sc h ((p.1 3 : Int) - 1) x.toNat y.toNat) y.toNat) = h 284 k) → ce true false K V P (11, x, y, z) (g, ty, fn, on, pn, ln, st) = .inl (5, P y.toNat) → c2o K K' P V sc ss cc cs b20 b21 b15 bv bl h c0 (11, x, y, z) p (pu p.1 10 (y.toNat + 1), p.2.1, (x, y, p.1 6) :: p.2.2.1, fun k => p.2.2.2 k + pw k 11) s s' (g, ty, fn, on, pn, ln, st) := by
        intro d4 hce
        rw [if_neg d4] at el
        refine flt (x0 := (5, P y.toNat)) (t := y.toNat) hce (by rw [el]; exact List.mem_append_left _ (List.mem_singleton_self _)) (fun q hq => ?_) rfl (by show y.toNat < y.toNat + 1; omega) rfl
        rw [el] at hq
        rcases List.mem_append.1 hq with hq | hq
        · rw [List.mem_singleton.1 hq]; exact nle_refl _
        · split at hq
          · rw [List.mem_singleton.1 hq]; exact Or.inr ⟨rfl, by show (5 : Int) ≤ 6; decide⟩
          · cases hq
      by_cases d4 : m_me h (kcE K' V sc h ((p.1 3 : Int) - 1) x.toNat y.toNat) (m_sof V ss h (kcE K' V sc h ((p.1 3 : Int) - 1) x.toNat y.toNat) y.toNat) = (if 0 < m_ko V h k then 1 else 0)
      · rw [if_neg (fun z => z d4)] at hce
        by_cases d5 : m_mo h (kcE K' V sc h ((p.1 3 : Int) - 1) x.toNat y.toNat) (m_sof V ss h (kcE K' V sc h ((p.1 3 : Int) - 1) x.toNat y.toNat) y.toNat) = h 284 k
        · rw [if_neg (fun z => z d5)] at hce
          rw [if_pos ⟨d4, d5⟩, List.nil_append] at el
          by_cases d6 : x.toNat = y.toNat ∧ h 264 ((p.1 3 : Int) - 1).toNat = 2
          · rw [if_pos d6] at hce
            rw [if_pos ⟨eko.1.2 d6.1, d6.2⟩] at el
            exact flt (x0 := (6, P x.toNat)) (t := y.toNat) hce (by rw [el, d6.1]; exact List.mem_singleton_self _) (fun q hq => by rw [el, List.mem_singleton] at hq; rw [hq, d6.1]; exact nle_refl _) (by rw [d6.1]) (by show y.toNat < y.toNat + 1; omega) rfl
          · rw [if_neg d6] at hce
            rw [if_neg (fun z => d6 ⟨eko.1.1 z.1, z.2⟩)] at el
            refine Or.inl ⟨(g1, ty, fn, on, pn, ln, st), hce, ok h6 A (by show vs.length + 2 * p.1 8 ≤ 2 + 2 * p.1 8; omega) (by show ls.length + 2 * p.1 8 ≤ 1 + 2 * p.1 8; omega) ⟨by omega, by omega⟩ ⟨by omega, by omega⟩ q9 q10 el t3 ⟨fun z => absurd h6 z, fun q hq => ?_⟩, ?_⟩
            · rcases List.mem_cons.1 hq with e | e
              · rw [e]; exact ⟨d2, d3⟩
              · exact o2 q e
            · dsimp only
              rw [ho]
              exact ⟨A.xp, rfl, l1, l2⟩
        · rw [if_pos d5] at hce
          exact f5 (fun z => d5 z.2) hce
      · rw [if_pos d4] at hce
        exact f5 (fun z => d4 z.1) hce
    have hbeg : ∀ fst, ce_fst V P x.toNat y.toNat g = fst → ce true false K V P (11, x, y, z) (g, ty, fn, on, pn, ln, st) = ce_h (g, ty, fn, on, pn, ln, st) (gx_b fst (ce_rst K V P x.toNat y.toNat)) := by
      intro fst hf
      show ce_h _ (ce_begin true false K V P x.toNat y.toNat g) = _
      rw [ce_beg_eq]
      unfold ce_q
      rw [if_pos hq, hf]
    have fail : ∀ x0 : Int × Int, ce_fst V P x.toNat y.toNat g = .inl x0 → ce true false K V P (11, x, y, z) (g, ty, fn, on, pn, ln, st) = .inl x0 := fun x0 hf => by rw [hbeg _ hf]; rfl
    have o11 : oE K' P V sc ss cs b21 b15 h c0 (11, x, y, z) p (g 8 4) (g 235 4) st = (if x.toNat = y.toNat then ([(0, 4, 0)], [(0, 6, 0)], st, g 8 4, g 235 4) else if m_var V h ((p.1 3 : Int) - 1) x.toNat = -1 then ([], [], st, g 8 4, g 235 4) else (ldk (kdv h (m_var V h ((p.1 3 : Int) - 1) x.toNat).toNat) (plv b15 h (m_var V h ((p.1 3 : Int) - 1) x.toNat).toNat), [(0, ce_lseg (kdv h (m_var V h ((p.1 3 : Int) - 1) x.toNat).toNat), nov h (m_var V h ((p.1 3 : Int) - 1) x.toNat).toNat)], st, g 8 4, g 235 4)) := rfl
    have enk : nt_k K' P V sc ss h k = _ := rfl
    conv at enk => rhs; unfold nt_k
    rw [ekc, r282, r283, r289] at enk
    by_cases c1 : x.toNat = y.toNat
    · -- a call without an object's name
      have z0 : z ≠ 1 := by omega
      have kq := (hkr h6 x.toNat y.toNat)
      have ekv : kcE K' V sc h ((p.1 3 : Int) - 1) x.toNat y.toNat = 8 + ((p.1 0 : Int) - 1) := by unfold kcE; rw [if_pos c1, k17, (k4 (by omega)).2]
      have kq2 : 0 ≤ kcE K' V sc h ((p.1 3 : Int) - 1) x.toNat y.toNat ∧ kcE K' V sc h ((p.1 3 : Int) - 1) x.toNat y.toNat < 8 + (n0 : Int) := by omega
      have kne : kcE K' V sc h ((p.1 3 : Int) - 1) x.toNat y.toNat ≠ -1 := by omega
      rw [if_neg z0, if_pos rfl, List.nil_append] at enk
      have hnk : nt_k K' P V sc ss h k = nt_k2 P V ss h k (kcE K' V sc h ((p.1 3 : Int) - 1) x.toNat y.toNat) := by rw [enk, if_neg kne]
      have e13 : g 212 13 = cm b20 cc (kcE K' V sc h ((p.1 3 : Int) - 1) x.toNat y.toNat) := by
        rw [own1.2, ekv]; unfold cm; rw [if_neg (by omega), if_neg (by omega)]; omega
      have esof : ce_sof false g (g 212 13) (V x.toNat) = sm b21 cs (kcE K' V sc h ((p.1 3 : Int) - 1) x.toNat y.toNat) (m_sof V ss h (kcE K' V sc h ((p.1 3 : Int) - 1) x.toNat y.toNat) y.toNat) := by
        rw [e13, (tab _).2.2.2, n_sof F Sy x.toNat kq2, c1]
      by_cases d1 : m_sof V ss h (kcE K' V sc h ((p.1 3 : Int) - 1) x.toNat y.toNat) y.toNat = -1
      · have el : nE K' P V sc ss h s.1 11 = [(4, P y.toNat)] := by rw [en, hnk]; unfold nt_k2; rw [r283, if_pos d1]
        refine flt (x0 := (4, P x.toNat)) (t := y.toNat) (fail _ ?_) (by rw [el, c1]; exact List.mem_singleton_self _) (fun q hq => by rw [el, List.mem_singleton] at hq; rw [hq, c1]; exact nle_refl _) (by rw [c1]) (by show y.toNat < y.toNat + 1; omega) rfl
        unfold ce_fst
        rw [if_pos c1, esof]
        unfold ce_chk
        rw [if_pos ⟨rfl, fun z => z (by rw [d1]; rfl)⟩]
      · obtain ⟨n1, n2, n3', n4, n5⟩ := n_row F Sy y.toNat kq2 d1
        have e220 : (if ce_sof false g (g 212 13) (V x.toNat) ≤ 0 then 0 else ce_sof false g (g 212 13) (V x.toNat)).toNat = (sm b21 cs (kcE K' V sc h ((p.1 3 : Int) - 1) x.toNat y.toNat) (m_sof V ss h (kcE K' V sc h ((p.1 3 : Int) - 1) x.toNat y.toNat) y.toNat)).toNat := by
          rw [esof]; split
          · omega
          · rfl
        by_cases d2 : m_me h (kcE K' V sc h ((p.1 3 : Int) - 1) x.toNat y.toNat) (m_sof V ss h (kcE K' V sc h ((p.1 3 : Int) - 1) x.toNat y.toNat) y.toNat) = 1
        · refine finish (vs := [(0, 4, 0)]) (ls := [(0, 6, 0)]) (EM.v (n := 0) (m := 1) (cp.le (by decide) (by decide)) (fun _ _ hc => EM.l1 hc)) (hbeg _ ?_) (by rw [hnk, if_neg kne]) (by decide) (by decide) (by rw [o11, if_pos c1])
          unfold ce_fst
          rw [if_pos c1, e220]
          unfold ce_chk
          rw [if_neg (fun z => z.2 (by rw [esof]; omega)), if_neg (fun z => z.2 (by rw [f1 220 (by omega)]; exact n3'.2 d2))]
        · have el : nE K' P V sc ss h s.1 11 = [(5, P y.toNat)] ++ (if m_ko V h k = 2 ∧ h 264 (h 289 k).toNat = 2 then [(6, P y.toNat)] else []) := by
            rw [en, hnk]; unfold nt_k2; rw [r283, if_neg d1, if_neg (fun z => d2 (by rw [z.1, eko.2, if_pos (by rw [decide_eq_true_iff]; exact Or.inl c1)]))]
          refine flt (x0 := (5, P x.toNat)) (t := y.toNat) (fail _ ?_) (by rw [el, c1]; exact List.mem_append_left _ (List.mem_singleton_self _)) (fun q hq => ?_) (by rw [c1]) (by show y.toNat < y.toNat + 1; omega) rfl
          · unfold ce_fst
            rw [if_pos c1, e220]
            unfold ce_chk
            rw [if_neg (fun z => z.2 (by rw [esof]; omega)), if_pos ⟨rfl, fun z => d2 (n3'.1 (by rw [f1 220 (by omega)] at z; exact z))⟩]
          · rw [el] at hq
            rcases List.mem_append.1 hq with hq | hq
            · rw [List.mem_singleton.1 hq, c1]; exact nle_refl _
            · split at hq
              · rw [List.mem_singleton.1 hq, c1]; exact Or.inr ⟨rfl, by show (5 : Int) ≤ 6; decide⟩
              · cases hq
    · have z1 : z = 1 := by omega
      rw [if_pos z1, if_neg (show ¬ x = -1 by omega)] at enk
      obtain ⟨va, vb⟩ := r.var h6 Q hS L M0 H0 x.toNat
      have va := va x.toNat rfl
      dsimp only at va vb
      by_cases d1 : m_var V h ((p.1 3 : Int) - 1) x.toNat = -1
      · have ecv : nt_cv P h ((p.1 3 : Int) - 1) (m_var V h ((p.1 3 : Int) - 1) x.toNat) x.toNat = [] := by unfold nt_cv; rw [if_neg (fun z => z.1 d1)]
        rw [ecv, List.nil_append, if_pos d1] at enk
        have ekv : kcE K' V sc h ((p.1 3 : Int) - 1) x.toNat y.toNat = m_cof V sc h x.toNat := by unfold kcE; rw [if_neg c1, if_pos d1]
        have nv : ¬ ce_var g (V x.toNat) := fun z => va.1 z d1
        have ecof : ce_cof false g (V x.toNat) = cm b20 cc (m_cof V sc h x.toNat) := by rw [(tab _).2.2.1]; exact n_cof F Sy _
        by_cases d2 : m_cof V sc h x.toNat = -1
        · have el : nE K' P V sc ss h s.1 11 = [(4, P x.toNat)] := by rw [en, enk, ekv, if_pos d2]
          refine flt (x0 := (4, P x.toNat)) (t := x.toNat) (fail _ ?_) (by rw [el]; exact List.mem_singleton_self _) (fun q hq => by rw [el, List.mem_singleton] at hq; rw [hq]; exact nle_refl _) rfl (by show x.toNat < y.toNat + 1; omega) rfl
          unfold ce_fst
          rw [if_neg c1]
          unfold ce_chk
          rw [if_pos ⟨rfl, fun z => by
            rcases z with z | z
            · exact nv z
            · exact z (by rw [ecof, d2]; rfl)⟩]
        · refine finish (vs := []) (ls := []) (EM.nil g) (hbeg _ ?_) (by rw [enk, ekv, if_neg d2, if_neg d2]) (by decide) (by decide) (by rw [o11, if_neg c1, if_pos d1])
          unfold ce_fst
          rw [if_neg c1]
          unfold ce_chk
          rw [if_neg (fun z => z.2 (Or.inr (by rw [ecof]; exact (cm_ne ((hcof x.toNat).resolve_left d2).1).1))), if_neg nv]
      · obtain ⟨-, -, b3, b4, -, b6, b7⟩ := vb d1
        rw [if_neg d1] at enk
        have hv := va.2 d1
        have hchk : ∀ X : gx_R am_H, ce_chk true (ce_var g (V x.toNat) ∨ ce_cof false g (V x.toNat) ≠ -1) (4, P x.toNat) X = X := fun X => by
          unfold ce_chk; rw [if_neg (fun z => z.2 (Or.inl hv))]
        have pxy : P x.toNat < P y.toNat := tp x.toNat y.toNat (by omega) hc.2.2.1.2.2.1 (by rw [hc.2.2.1.2.2.2]; decide)
        by_cases d2 : h 271 (m_var V h ((p.1 3 : Int) - 1) x.toNat).toNat = -1 ∧ h 272 (m_var V h ((p.1 3 : Int) - 1) x.toNat).toNat = 1 ∧ h 264 ((p.1 3 : Int) - 1).toNat = 2
        · have ecv : nt_cv P h ((p.1 3 : Int) - 1) (m_var V h ((p.1 3 : Int) - 1) x.toNat) x.toNat = [(6, P x.toNat)] := by unfold nt_cv; rw [if_pos ⟨d1, d2⟩]
          rw [ecv] at enk
          refine flt (x0 := (6, P x.toNat)) (t := x.toNat) (fail _ ?_) (by rw [en, enk]; exact List.mem_append_left _ (List.mem_singleton_self _)) (fun q hq => ?_) rfl (by show x.toNat < y.toNat + 1; omega) rfl
          · unfold ce_fst
            rw [if_neg c1, hchk, if_pos hv]
            unfold ce_load ce_chk
            rw [if_neg (fun z => z.2 hv), if_neg (by decide), if_pos ⟨rfl, fun z => by
              rcases z with z | z
              · exact z (by rw [e14]; exact d2.2.2)
              · exact z (by rw [b3]; exact kdv_4.2 d2.2.1)⟩]
          · rw [en, enk] at hq
            rcases List.mem_append.1 hq with hq | hq
            · rw [List.mem_singleton.1 hq]; exact nle_refl _
            · left
              show P x.toNat < q.2
              split at hq
              · rw [List.mem_singleton.1 hq]; exact pxy
              · have : q.2 = P (h 283 k).toNat := by
                  unfold nt_k2 at hq
                  split at hq
                  · rw [List.mem_singleton.1 hq]
                  · rcases List.mem_append.1 hq with hq | hq
                    · repeat' split at hq
                      all_goals first
                        | (cases hq; done)
                        | (rw [List.mem_singleton.1 hq])
                    · split at hq
                      · rw [List.mem_singleton.1 hq]
                      · cases hq
                rw [this, r283]; exact pxy
        · have ecv : nt_cv P h ((p.1 3 : Int) - 1) (m_var V h ((p.1 3 : Int) - 1) x.toNat) x.toNat = [] := by unfold nt_cv; rw [if_neg (fun z => d2 z.2)]
          rw [ecv, List.nil_append] at enk
          have E := EM.load (g := g) (x := V x.toNat) (wh := P x.toNat) (cp.le (by decide) (by decide)) hv (by
            by_cases d3 : g 212 14 = 2
            · right; rw [b3]; intro d4
              refine d2 ⟨?_, kdv_4.1 d4, by rw [← e14]; exact d3⟩
              have := kdv_4.1 d4
              omega
            · exact Or.inl d3) own2 own3
          rw [b3, b4, b6] at E
          refine finish E (hbeg _ ?_) enk ?_ (Nat.le_refl _) (by rw [o11, if_neg c1, if_neg d1])
          · unfold ce_fst
            rw [if_neg c1, hchk, if_pos hv]
          · unfold ldk; split <;> exact (Nat.le_of_ble_eq_true rfl)
  all_goals (exfalso; revert he; decide)
end
