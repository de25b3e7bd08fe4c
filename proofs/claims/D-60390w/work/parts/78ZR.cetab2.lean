/-! PURE LAYER, 97: the tables after the component's first reading -/
theorem m_fst_no (h : am_H) (s : Nat) : ∀ (m : Nat) (f : Int), (∀ k, k < m → h 263 k ≠ h 263 s) → m_fst h s m f = f
  | 0, f, _ => rfl
  | m + 1, f, hk => by
    unfold m_fst
    rw [if_neg (hk m (by omega))]
    exact m_fst_no h s m f (fun k h1 => hk k (by omega))
theorem m_fst_eq (h : am_H) (s fs : Nat) : ∀ m : Nat, fs ≤ m → (∀ k, k < m → (h 263 k = h 263 s ↔ fs ≤ k)) → m_fst h s m (m : Int) = fs
  | 0, h1, _ => by
    have : fs = 0 := by omega
    rw [this]; rfl
  | m + 1, h1, hk => by
    unfold m_fst
    by_cases c : fs ≤ m
    · rw [if_pos ((hk m (by omega)).2 c)]
      exact m_fst_eq h s fs m c (fun k h2 => hk k (by omega))
    · rw [if_neg (fun z => c ((hk m (by omega)).1 z)), m_fst_no h s m _ (fun k h2 z => by have := (hk k (by omega)).1 z; omega)]
      omega
theorem m_fst_same {h h' : am_H} {s : Nat} (hs : h' 263 s = h 263 s) : ∀ (m : Nat) (f : Int), (∀ k, k < m → h' 263 k = h 263 k) → m_fst h' s m f = m_fst h s m f
  | 0, f, _ => rfl
  | m + 1, f, hk => by
    unfold m_fst
    rw [hs, hk m (by omega)]
    exact m_fst_same hs m _ (fun k h1 => hk k (by omega))
/-- a sub's row -/
def rTs (b20 b21 : Nat) (V : Nat → Int) (g c : am_H) (k : Nat) : Prop := c 218 (b21 + k) = (b20 : Int) + g 263 k ∧ c 219 (b21 + k) = V (g 265 k).toNat ∧ c 220 (b21 + k) = g 264 k ∧ c 222 (b21 + k) = 100 * (8 + g 263 k) + ((k : Int) - m_fst g k k k)
/-- tables of the first reading beside the model's -/
def rT (b20 b21 : Nat) (V : Nat → Int) (p : pr_S) (s : mi_S) (c : ce_S) : Prop :=
  (∀ k, k < p.1 0 → c.1 214 (b20 + k) = V (s.1 261 k).toNat ∧ c.1 215 (b20 + k) = 1 ∧ (k + 1 < p.1 0 ∨ p.1 9 ≠ 2 → c.1 216 (b20 + k) = s.1 262 k)) ∧
  (∀ k, k < p.1 3 → rTs b20 b21 V s.1 c.1 k ∧ (k + 1 < p.1 3 ∨ p.1 9 ≠ 4 → c.1 221 (b21 + k) = s.1 267 k)) ∧
  (p.1 9 = 2 → p.1 12 = 1 → c.2.2.1 = (p.1 2 : Int)) ∧ (p.1 9 = 4 → p.1 13 = 1 → c.2.2.2.2.1 = (p.1 4 : Int)) ∧
  (p.1 17 = 1 → c.1 212 14 = s.2.2.1) ∧
  (p.1 9 = 2 → ∀ k, k < p.1 3 → s.1 263 k < (p.1 0 : Int) - 1) ∧
  (2 ≤ p.1 9 → p.1 12 = 1 → ∃ fs : Nat, fs ≤ p.1 3 ∧ c.1 212 18 = (b21 : Int) + fs ∧ ∀ k, k < p.1 3 → (s.1 263 k = (p.1 0 : Int) - 1 ↔ fs ≤ k))
/-- rows of the system, and what else the first reading keeps -/
def rU (b20 b21 : Nat) (c0 c : am_H) : Prop := (∀ k, k < b20 → c 214 k = c0 214 k ∧ c 215 k = c0 215 k ∧ c 216 k = c0 216 k) ∧ (∀ k, k < b21 → c 218 k = c0 218 k ∧ c 219 k = c0 219 k ∧ c 220 k = c0 220 k ∧ c 221 k = c0 221 k ∧ c 222 k = c0 222 k) ∧ (∀ a, a = 3 ∨ a = 4 ∨ a = 5 ∨ a = 6 ∨ a = 7 → c a = c0 a) ∧ (∀ k, 19 ≤ k → c 212 k = c0 212 k)
section
variable {K K' V P n6 : Nat → Int} {b20 b21 : Nat} {p p' : pr_S} {s s' : mi_S} {c c' : ce_S}
theorem rTs.fr {g g' x x' : am_H} {k : Nat} (R : rTs b20 b21 V g x k) (h : ∀ j, j ≤ k → g' 263 j = g 263 j ∧ g' 265 j = g 265 j ∧ g' 264 j = g 264 j) (hc : x' 218 (b21 + k) = x 218 (b21 + k) ∧ x' 219 (b21 + k) = x 219 (b21 + k) ∧ x' 220 (b21 + k) = x 220 (b21 + k) ∧ x' 222 (b21 + k) = x 222 (b21 + k)) : rTs b20 b21 V g' x' k := by
  obtain ⟨r1, r2, r3, r4⟩ := R
  unfold rTs
  rw [hc.1, hc.2.1, hc.2.2.1, hc.2.2.2, (h k (Nat.le_refl _)).1, (h k (Nat.le_refl _)).2.1, (h k (Nat.le_refl _)).2.2, m_fst_same (h k (Nat.le_refl _)).1 k k (fun j hj => (h j (by omega)).1)]
  exact ⟨r1, r2, r3, r4⟩
/-- rows of the model stay -/
theorem rT_rows {c0 c3 : Nat} (m : mx s.1 s'.1) (h0 : s.1 254 14 = (c0 : Int)) (h3 : s.1 254 17 = (c3 : Int)) : (∀ k, k < c0 → s'.1 261 k = s.1 261 k) ∧ (∀ k, k < c3 → s'.1 263 k = s.1 263 k ∧ s'.1 265 k = s.1 265 k ∧ s'.1 264 k = s.1 264 k) :=
  ⟨fun k hk => m.2 261 14 rfl k (by omega), fun k hk => ⟨m.2 263 17 rfl k (by omega), m.2 265 17 rfl k (by omega), m.2 264 17 rfl k (by omega)⟩⟩
/-- tables are left alone on both sides -/
theorem rT.b (R : rT b20 b21 V p s c) (O : rv K' p s) (m : mx s.1 s'.1) (h262 : s'.1 262 = s.1 262) (h267 : s'.1 267 = s.1 267) (hso : s'.2.2.1 = s.2.2.1) (hc : ∀ a, 212 ≤ a → a ≤ 222 → c'.1 a = c.1 a) (h2 : c'.2.2.1 = c.2.2.1) (h4 : c'.2.2.2.2.1 = c.2.2.2.2.1) (hp : ∀ n, pz n → p'.1 n = p.1 n) : rT b20 b21 V p' s' c' := by
  obtain ⟨r1, r2, r3, r4, r5, r6, r7⟩ := R
  obtain ⟨m1, m2⟩ := rT_rows m O.2.1.1 O.2.1.2.1
  unfold rT
  rw [hp 0 (by decide), hp 2 (by decide), hp 3 (by decide), hp 4 (by decide), hp 9 (by decide), hp 12 (by decide), hp 13 (by decide), hp 17 (by decide), h262, h267, hso, h2, h4, hc 212 (by decide) (by decide), hc 214 (by decide) (by decide), hc 215 (by decide) (by decide), hc 216 (by decide) (by decide), hc 221 (by decide) (by decide)]
  refine ⟨fun k hk => by rw [m1 k hk]; exact r1 k hk, fun k hk => ⟨(r2 k hk).1.fr (fun j hj => m2 j (by omega)) ⟨by rw [hc 218 (by decide) (by decide)], by rw [hc 219 (by decide) (by decide)], by rw [hc 220 (by decide) (by decide)], by rw [hc 222 (by decide) (by decide)]⟩, (r2 k hk).2⟩, r3, r4, r5, fun z k hk => by rw [(m2 k hk).1]; exact r6 z k hk, fun z1 z2 => ?_⟩
  obtain ⟨fs, f1, f2, f3⟩ := r7 z1 z2
  exact ⟨fs, f1, f2, fun k hk => by rw [(m2 k hk).1]; exact f3 k hk⟩
theorem rU.b {c0 x x' : am_H} (R : rU b20 b21 c0 x) (h : ce_same x x') : rU b20 b21 c0 x' := by
  obtain ⟨r1, r2, r3, r4⟩ := R
  refine ⟨fun k hk => ?_, fun k hk => ?_, fun a ha => ?_, fun k hk => ?_⟩
  · rw [h 214 (by simp), h 215 (by simp), h 216 (by simp)]; exact r1 k hk
  · rw [h 218 (by simp), h 219 (by simp), h 220 (by simp), h 221 (by simp), h 222 (by simp)]; exact r2 k hk
  · rw [h a (by omega)]; exact r3 a ha
  · rw [h 212 (by simp)]; exact r4 k hk
theorem pz_ev {w : Nat → Nat → Nat} {e : gx_V} (he : e.1 ≤ 34) (h : pr w K V e p = .inr p') : ∀ n, pz n → p'.1 n = p.1 n := by
  obtain ⟨n, x, y, z⟩ := e
  have he : n ≤ 34 := he
  unfold pr at h
  split at h
  all_goals first
    | (cases h; done)
    | (rename_i hn; have hn : n = _ := hn; omega)
    | (obtain ⟨hc, hb, hp⟩ := pr_q_in h; subst hp; intro m hm; dsimp only; first | rfl | (repeat rw [pu_n _ _ _ _ (by omega)]))
    | skip
  · split at h
    · cases h
    · obtain ⟨hc, hb, hp⟩ := pr_q_in h
      subst hp
      intro m hm
      exact pu_n _ _ _ _ (by omega)
/-- no row comes -/
theorem rT.m (R : rT b20 b21 V p s c) (O : rv K' p s) (m : mx s.1 s'.1) (hp0 : p'.1 0 = p.1 0) (hp3 : p'.1 3 = p.1 3) (hc : ∀ a, (214 ≤ a ∧ a ≤ 215 ∨ 218 ≤ a ∧ a ≤ 220 ∨ a = 222) → c'.1 a = c.1 a) (h216 : ∀ k, k < p.1 0 → (k + 1 < p.1 0 ∨ p'.1 9 ≠ 2) → c'.1 216 (b20 + k) = s'.1 262 k) (h221 : ∀ k, k < p.1 3 → (k + 1 < p.1 3 ∨ p'.1 9 ≠ 4) → c'.1 221 (b21 + k) = s'.1 267 k) (h2 : p'.1 9 = 2 → p'.1 12 = 1 → c'.2.2.1 = (p'.1 2 : Int)) (h4 : p'.1 9 = 4 → p'.1 13 = 1 → c'.2.2.2.2.1 = (p'.1 4 : Int)) (h17 : p'.1 17 = 1 → c'.1 212 14 = s'.2.2.1) (h9 : p'.1 9 = 2 → p.1 9 = 2) (h18 : 2 ≤ p'.1 9 → p'.1 12 = 1 → ∃ fs : Nat, fs ≤ p.1 3 ∧ c'.1 212 18 = (b21 : Int) + fs ∧ ∀ k, k < p.1 3 → (s.1 263 k = (p.1 0 : Int) - 1 ↔ fs ≤ k)) : rT b20 b21 V p' s' c' := by
  obtain ⟨r1, r2, r3, r4, r5, r6, r7⟩ := R
  obtain ⟨m1, m2⟩ := rT_rows m O.2.1.1 O.2.1.2.1
  unfold rT
  rw [hp0, hp3]
  refine ⟨fun k hk => ⟨by rw [hc 214 (by decide), m1 k hk]; exact (r1 k hk).1, by rw [hc 215 (by decide)]; exact (r1 k hk).2.1, h216 k hk⟩, fun k hk => ⟨(r2 k hk).1.fr (fun j hj => m2 j (by omega)) ⟨by rw [hc 218 (by decide)], by rw [hc 219 (by decide)], by rw [hc 220 (by decide)], by rw [hc 222 (by decide)]⟩, h221 k hk⟩, h2, h4, h17, fun z k hk => by rw [(m2 k hk).1]; exact r6 (h9 z) k hk, fun z1 z2 => ?_⟩
  obtain ⟨fs, f1, f2, f3⟩ := h18 z1 z2
  exact ⟨fs, f1, f2, fun k hk => by rw [(m2 k hk).1]; exact f3 k hk⟩
theorem rT_ev {c0 : am_H} {e : gx_V} (h : pr pw K' V e p = .inr p') (hm : mi V e s = .inr s') (hcc : ce false false K V P e c = .inr c') (O : rv K' p s) (C : rc b20 b21 n6 p c) (Q : pq p) (R : rT b20 b21 V p s c) (U : rU b20 b21 c0 c.1) : rT b20 b21 V p' s' c' ∧ rU b20 b21 c0 c'.1 := by
  have M := mx_ev V e s s' hm
  by_cases he : e.1 ≤ 34
  · obtain ⟨b1, b2, b3⟩ := mi_body e s s' he hm
    have sm := ce_ev2_sm e c c' he hcc
    have q := ce_ev2_q e c c' he hcc
    have q2 : c'.2.2.1 = c.2.2.1 := congrArg (fun t => t.2.1) q
    have q4 : c'.2.2.2.2.1 = c.2.2.2.2.1 := congrArg (fun t => t.2.2.2.1) q
    exact ⟨R.b O M b1.2.2.2.1 b1.2.2.2.2.1 b3 (fun a h1 h2 => sm a (by omega)) q2 q4 (pz_ev he h), U.b sm⟩
  · obtain ⟨n, x, y, z⟩ := e
    obtain ⟨g, ty, so, bs, oc⟩ := s
    obtain ⟨d, cty, fn, on, pn, ln, st⟩ := c
    have R0 := R
    have O0 := O
    obtain ⟨r1, r2, r3, r4, r5, r6, r7⟩ := R
    obtain ⟨u1, u2, u3, u4⟩ := U
    obtain ⟨o1, ⟨o2, o3, o4, o5, o6, o7⟩, o8, o9, o10, o11⟩ := O
    obtain ⟨⟨b1, b2, b3, b4, b5⟩, ⟨d1, d2⟩, ⟨f1, f2, f3, f4, f5, f6, f7⟩, ⟨k1, k2, k3⟩, ⟨m1, m2⟩, -⟩ := C
    dsimp only at b1 b2 b3 d1 d2 k1 k2 k3 m1 m2 r1 r2 r3 r4 r5 r6 r7 o2 o3 o4 o10 o11 u1 u2 u3 u4
    have un : ∀ {a b : Nat} {v : Int}, (∀ k, k < b20 → (a = 214 ∨ a = 215 ∨ a = 216) → b ≠ k) → (∀ k, k < b21 → 218 ≤ a ∧ a ≤ 222 → b ≠ k) → ¬ (3 ≤ a ∧ a ≤ 7) → (a = 212 → b < 19) → ∀ {x : am_H}, rU b20 b21 c0 x → rU b20 b21 c0 (am_up x a b v) := by
      intro a b v h1 h2 h3 h4 x X
      obtain ⟨x1, x2, x3, x4⟩ := X
      refine ⟨fun k hk => ?_, fun k hk => ?_, fun j hj => ?_, fun k hk => ?_⟩
      · have t := x1 k hk
        refine ⟨?_, ?_, ?_⟩
        · by_cases ca : a = 214
          · rw [p_up_n _ _ _ _ _ _ (Or.inr (fun e => h1 k hk (by omega) e.symm))]; exact t.1
          · rw [p_up_c _ _ _ _ _ (fun e => ca e.symm)]; exact t.1
        · by_cases ca : a = 215
          · rw [p_up_n _ _ _ _ _ _ (Or.inr (fun e => h1 k hk (by omega) e.symm))]; exact t.2.1
          · rw [p_up_c _ _ _ _ _ (fun e => ca e.symm)]; exact t.2.1
        · by_cases ca : a = 216
          · rw [p_up_n _ _ _ _ _ _ (Or.inr (fun e => h1 k hk (by omega) e.symm))]; exact t.2.2
          · rw [p_up_c _ _ _ _ _ (fun e => ca e.symm)]; exact t.2.2
      · have t := x2 k hk
        have w : ∀ j, 218 ≤ j ∧ j ≤ 222 → am_up x a b v j k = x j k := by
          intro j hj
          by_cases ca : a = j
          · rw [p_up_n _ _ _ _ _ _ (Or.inr (fun e => h2 k hk (by omega) e.symm))]
          · rw [p_up_c _ _ _ _ _ (fun e => ca e.symm)]
        rw [w 218 (by decide), w 219 (by decide), w 220 (by decide), w 221 (by decide), w 222 (by decide)]
        exact t
      · rw [p_up_c _ _ _ _ _ (by omega)]; exact x3 j hj
      · rw [p_up_n _ _ _ _ _ _ (by omega)]; exact x4 k hk
    have U0 : rU b20 b21 c0 d := ⟨u1, u2, u3, u4⟩
    unfold pr at h
    split at h
    all_goals first
      | (cases h; done)
      | (rename_i hn; have hn : n = _ := hn; have he : ¬ n ≤ 34 := he; omega)
      | (rename_i hn; have hn : n = _ := hn; subst hn)
    · -- 39
      obtain ⟨hc, hb, hp⟩ := pr_q_in h
      cases hm
      obtain ⟨c1, hcc, e1⟩ := gx_b_ok hcc
      have hcc := ce_q_in hcc
      cases hcc
      cases e1
      subst hp
      refine ⟨R0.m O0 M rfl rfl (fun a ha => by dsimp only; rw [p_up_c _ _ _ _ _ (by omega), p_up_c _ _ _ _ _ (by omega)]) (fun k hk z => ?_) (fun k hk z => ?_) (fun z => absurd (show (1 : Nat) = 2 from z) (by decide)) (fun z => absurd (show (1 : Nat) = 4 from z) (by decide)) (fun z => ?_) (fun z => absurd (show (1 : Nat) = 2 from z) (by decide)) (fun z => absurd (show (2 : Nat) ≤ 1 from z) (by decide)), un (by omega) (by omega) (by omega) (by omega) (un (by omega) (by omega) (by omega) (by omega) U0)⟩
      · dsimp only; rw [p_up_c _ _ _ _ _ (by decide), p_up_c _ _ _ _ _ (by decide)]; exact (r1 k hk).2.2 (Or.inr (by omega))
      · dsimp only; rw [p_up_c _ _ _ _ _ (by decide), p_up_c _ _ _ _ _ (by decide)]; exact (r2 k hk).2 (Or.inr (by omega))
      · simp [p_up]; exact r5 z
    · -- 40
      obtain ⟨hc, hb, hp⟩ := pr_q_in h
      have hm : (.inr (mi_cls x g, ty, so, bs, oc) : gx_R mi_S) = .inr s' := hm
      cases hm
      obtain ⟨c1, hcc, e1⟩ := gx_b_ok hcc
      have hcc := ce_q_in hcc
      have hcc := ce_q_in (show ce_q _ (.inr _) = .inr c1 from hcc)
      cases hcc
      cases e1
      have e13 : (d 212 13).toNat = b20 + p.1 0 := by have := k2 hc.1; omega
      have e3 : (d 213 3).toNat = b20 + p.1 0 := by omega
      have n14 : (g 254 14).toNat = p.1 0 := by omega
      dsimp only at M
      obtain ⟨q1, q2⟩ := rT_rows (s := (g, ty, so, bs, oc)) (s' := (mi_cls x g, ty, so, bs, oc)) M o2 o3
      dsimp only at q1 q2
      subst hp
      rw [e13, e3]
      have cx : ∀ a, 217 ≤ a ∧ a ≤ 222 → ∀ v1 v2 v3 v4 v5, am_up (am_up (am_up (am_up (am_up d 214 (b20 + p.1 0) v1) 215 (b20 + p.1 0) v2) 216 (b20 + p.1 0) v3) 213 3 v4) 215 (b20 + p.1 0) v5 a = d a := fun a ha _ _ _ _ _ => by
        rw [p_up_c _ _ _ _ _ (by omega), p_up_c _ _ _ _ _ (by omega), p_up_c _ _ _ _ _ (by omega), p_up_c _ _ _ _ _ (by omega), p_up_c _ _ _ _ _ (by omega)]
      refine ⟨⟨fun k hk => ?_, fun k hk => ?_, fun _ z => absurd (show (0 : Nat) = 1 from z) (by decide), fun z => absurd (show (2 : Nat) = 4 from z) (by decide), fun z => ?_, fun _ k hk => ?_, fun _ z => absurd (show (0 : Nat) = 1 from z) (by decide)⟩, un (by omega) (by omega) (by omega) (by omega) (un (by omega) (by omega) (by omega) (by omega) (un (by omega) (by omega) (by omega) (by omega) (un (by omega) (by omega) (by omega) (by omega) (un (by omega) (by omega) (by omega) (by omega) U0))))⟩
      · have hk : k < p.1 0 + 1 := hk
        by_cases ck : k = p.1 0
        · subst ck
          refine ⟨?_, ?_, fun z => ?_⟩
          · simp [p_up]; simp [mi_cls, p_up, n14]
          · simp [p_up]
          · exfalso
            have z : p.1 0 + 1 < p.1 0 + 1 ∨ (2 : Nat) ≠ 2 := z
            omega
        · have t := r1 k (by omega)
          have hne : ¬ b20 + k = b20 + p.1 0 := by omega
          refine ⟨?_, ?_, fun _ => ?_⟩
          · dsimp only; rw [q1 k (by omega)]; simp [p_up, ck]; exact t.1
          · simp [p_up, ck]; exact t.2.1
          · simp [p_up, ck]; rw [t.2.2 (Or.inr (by omega))]; simp [mi_cls, p_up, n14, ck]
      · have hk : k < p.1 3 := hk
        have t := r2 k hk
        refine ⟨t.1.fr (fun j hj => q2 j (by omega)) ⟨?_, ?_, ?_, ?_⟩, fun _ => ?_⟩
        · dsimp only; rw [cx 218 (by decide)]
        · dsimp only; rw [cx 219 (by decide)]
        · dsimp only; rw [cx 220 (by decide)]
        · dsimp only; rw [cx 222 (by decide)]
        · dsimp only; rw [cx 221 (by decide), t.2 (Or.inr (by omega))]; simp [mi_cls, p_up]
      · have z : p.1 17 = 1 := z
        simp [p_up]; exact r5 z
      · have hk : k < p.1 3 := hk
        have t := (o1.2.1.2 k (by show (k : Int) < g 254 17; omega)).2.1
        dsimp only
        rw [(q2 k hk).1]
        show g 263 k < ((p.1 0 + 1 : Nat) : Int) - 1
        have t : 0 ≤ g 263 k ∧ g 263 k < g 254 14 := t
        omega
    · -- 38
      obtain ⟨hc, hb, hp⟩ := pr_q_in h
      cases hm
      cases hcc
      have hm16 := m1 (by omega)
      subst hp
      refine ⟨R0.m O0 M rfl rfl (fun a ha => by dsimp only; rw [p_up_c _ _ _ _ _ (by omega), p_up_c _ _ _ _ _ (by omega)]) (fun k hk z => ?_) (fun k hk z => ?_) (fun _ _ => ?_) (fun z => ?_) (fun z => ?_) (fun _ => hc.1) (fun _ _ => ⟨p.1 3, Nat.le_refl _, ?_, fun k hk => ?_⟩), un (by omega) (by omega) (by omega) (by omega) (un (by omega) (by omega) (by omega) (by omega) U0)⟩
      · dsimp only; rw [p_up_c _ _ _ _ _ (by decide), p_up_c _ _ _ _ _ (by decide)]; exact (r1 k hk).2.2 (by have z : k + 1 < p.1 0 ∨ p.1 9 ≠ 2 := z; exact z)
      · dsimp only; rw [p_up_c _ _ _ _ _ (by decide), p_up_c _ _ _ _ _ (by decide)]; exact (r2 k hk).2 (Or.inr (by omega))
      · show (0 : Int) = (p.1 2 : Int); have := hc.2.1; omega
      · exfalso; have z : p.1 9 = 4 := z; omega
      · simp [p_up]; exact r5 z
      · simp [p_up]; omega
      · have := r6 hc.1 k hk
        dsimp only
        omega
    · -- 41
      obtain ⟨hc, hb, hp⟩ := pr_q_in h
      cases hm
      have ec : c'.1 = d ∧ c'.2.2 = (fn, on, pn, ln, st) := by
        by_cases ck : K x.toNat = 1
        · have hcc : (if K x.toNat = 1 then (.inr (d, -1, fn, on, pn, ln, st) : gx_R ce_S) else _) = .inr c' := hcc
          rw [if_pos ck] at hcc; cases hcc; exact ⟨rfl, rfl⟩
        · have hcc : (if K x.toNat = 1 then (.inr (d, -1, fn, on, pn, ln, st) : gx_R ce_S) else ce_q _ (ce_chk false _ _ (.inr (d, ce_cof false d (V x.toNat), fn, on, pn, ln, st)))) = .inr c' := hcc
          rw [if_neg ck] at hcc
          have hcc := ce_q_in hcc
          unfold ce_chk at hcc
          rw [if_neg (by simp)] at hcc
          cases hcc; exact ⟨rfl, rfl⟩
      obtain ⟨ec1, ec2⟩ := ec
      subst hp
      refine ⟨R0.m O0 M rfl rfl (fun a ha => by rw [ec1]) (fun k hk z => ?_) (fun k hk z => ?_) (fun z1 z2 => ?_) (fun z1 z2 => ?_) (fun z => ?_) (fun z => z) (fun z1 z2 => ?_), by rw [ec1]; exact U0⟩
      · rw [ec1]; exact (r1 k hk).2.2 z
      · rw [ec1]; exact (r2 k hk).2 z
      · rw [ec2]; exact r3 z1 z2
      · rw [ec2]; exact r4 z1 z2
      · rw [ec1]; exact r5 z
      · rw [ec1]; exact r7 z1 z2
    · -- 42
      obtain ⟨hc, hb, hp⟩ := pr_q_in h
      have hm := ce_q_in hm
      have hcc : ce_chk false (ce_vc d (V x.toNat) = -1) (3, P x.toNat) (ce_q (d 223 5 < 50 ∧ d 212 15 < 100000) (if y = 1 then (.inr (ce_var1 4 fn cty fn (V x.toNat) d, cty, fn + 1, on, pn, ln, st) : gx_R ce_S) else .inr (am_up (ce_var1 3 (d 212 15) cty on (V x.toNat) d) 212 15 (d 212 15 + 1), cty, fn, on + 1, pn, ln, st))) = .inr c' := hcc
      unfold ce_chk at hcc
      rw [if_neg (by simp)] at hcc
      have hcc := ce_q_in hcc
      have v1 : ∀ k1 k2 k3 k4 a, a < 223 → ce_var1 k1 k2 k3 k4 (V x.toNat) d a = d a := fun k1 k2 k3 k4 a ha => by
        unfold ce_var1
        rw [p_up_c _ _ _ _ _ (by omega), p_up_c _ _ _ _ _ (by omega), p_up_c _ _ _ _ _ (by omega), p_up_c _ _ _ _ _ (by omega), p_up_c _ _ _ _ _ (by omega), p_up_c _ _ _ _ _ (by omega)]
      have vU : ∀ k1 k2 k3 k4, rU b20 b21 c0 (ce_var1 k1 k2 k3 k4 (V x.toNat) d) := fun k1 k2 k3 k4 => un (by omega) (by omega) (by omega) (by omega) (un (by omega) (by omega) (by omega) (by omega) (un (by omega) (by omega) (by omega) (by omega) (un (by omega) (by omega) (by omega) (by omega) (un (by omega) (by omega) (by omega) (by omega) (un (by omega) (by omega) (by omega) (by omega) U0)))))
      have c0' : 1 ≤ p.1 0 := o8.1 (by omega)
      have n14 : (g 254 14 - 1).toNat = p.1 0 - 1 := by omega
      by_cases cy : y = 1
      · rw [if_pos (show (42, x, y, z).2.2.1 = 1 from cy)] at hm
        rw [if_pos cy] at hcc
        cases hm
        cases hcc
        subst cy
        subst hp
        refine ⟨R0.m O0 M rfl rfl (fun a ha => v1 _ _ _ _ a (by omega)) (fun k hk z => ?_) (fun k hk z => ?_) (fun _ z2 => ?_) (fun z => ?_) (fun z => ?_) (fun _ => hc.1) (fun z1 z2 => ?_), vU _ _ _ _⟩
        · have z : k + 1 < p.1 0 ∨ p.1 9 ≠ 2 := z
          dsimp only; rw [v1 _ _ _ _ 216 (by decide), (r1 k hk).2.2 (by omega), n14]
          simp [mi_dec, p_up]
          intro z; omega
        · dsimp only; rw [v1 _ _ _ _ 221 (by decide), (r2 k hk).2 (Or.inr (by omega))]
          simp [mi_dec, p_up]
        · show fn + 1 = ((p.1 2 + 1 : Nat) : Int)
          have := r3 hc.1 hc.2.2.2.2; omega
        · exfalso; have z : p.1 9 = 4 := z; omega
        · dsimp only; rw [v1 _ _ _ _ 212 (by decide)]; exact r5 z
        · dsimp only; rw [v1 _ _ _ _ 212 (by decide)]; exact r7 (by omega) hc.2.2.2.2
      · rw [if_neg (show ¬ (42, x, y, z).2.2.1 = 1 from cy)] at hm
        rw [if_neg cy] at hcc
        cases hm
        cases hcc
        have hp' : p' = (pu (pu (pu p.1 1 (p.1 1 + 1)) 10 (x.toNat + 1)) 14 0, p.2.1, p.2.2.1, fun k => p.2.2.2 k + pw k 42) := by
          rw [hp, if_neg (show ¬ (42, x, y, z).2.2.1 = 1 from cy)]
        subst hp'
        refine ⟨R0.m O0 M rfl rfl (fun a ha => by dsimp only; rw [p_up_c _ _ _ _ _ (by omega)]; exact v1 _ _ _ _ a (by omega)) (fun k hk z => ?_) (fun k hk z => ?_) (fun _ z2 => ?_) (fun z => ?_) (fun z => ?_) (fun _ => hc.1) (fun z1 z2 => ?_), un (by omega) (by omega) (by omega) (by omega) (vU _ _ _ _)⟩
        · have z : k + 1 < p.1 0 ∨ p.1 9 ≠ 2 := z
          dsimp only; rw [p_up_c _ _ _ _ _ (by decide), v1 _ _ _ _ 216 (by decide), (r1 k hk).2.2 (by omega)]
          simp [mi_dec, p_up]
        · dsimp only; rw [p_up_c _ _ _ _ _ (by decide), v1 _ _ _ _ 221 (by decide), (r2 k hk).2 (Or.inr (by omega))]
          simp [mi_dec, p_up]
        · exact r3 hc.1 hc.2.2.2.2
        · exfalso; have z : p.1 9 = 4 := z; omega
        · dsimp only; rw [p_up_n _ _ _ _ _ _ (Or.inr (by decide)), v1 _ _ _ _ 212 (by decide)]; exact r5 z
        · dsimp only; rw [p_up_n _ _ _ _ _ _ (Or.inr (by decide)), v1 _ _ _ _ 212 (by decide)]; exact r7 (by omega) hc.2.2.2.2
    · -- 43
      obtain ⟨hc, hb, hp⟩ := pr_q_in h
      cases hm
      obtain ⟨c1, hcc, e1⟩ := gx_b_ok hcc
      have hcc := ce_q_in hcc
      cases hcc
      cases e1
      have k3' := k3 (by omega)
      have e13 : (d 212 13).toNat = b20 + (p.1 0 - 1) := by omega
      have hfn := r3 hc.1 hc.2.2
      have h262 := o10 k3'.1
      subst hp
      dsimp only
      rw [e13]
      refine ⟨R0.m O0 M rfl rfl (fun a ha => by dsimp only; rw [p_up_c _ _ _ _ _ (by omega)]) (fun k hk z => ?_) (fun k hk z => ?_) (fun z => absurd (show (3 : Nat) = 2 from z) (by decide)) (fun z => absurd (show (3 : Nat) = 4 from z) (by decide)) (fun z => ?_) (fun z => absurd (show (3 : Nat) = 2 from z) (by decide)) (fun _ z2 => ?_), un (by omega) (by omega) (by omega) (by omega) U0⟩
      · by_cases ck : k = p.1 0 - 1
        · subst ck
          simp [p_up]
          rw [hfn, h262]
        · simp [p_up]
          rw [if_neg (by omega)]
          exact (r1 k hk).2.2 (Or.inl (by omega))
      · dsimp only; rw [p_up_c _ _ _ _ _ (by decide)]; exact (r2 k hk).2 (Or.inr (by omega))
      · simp [p_up]; exact r5 z
      · have t := r7 (by omega) hc.2.2
        dsimp only
        rw [p_up_c _ _ _ _ _ (by decide)]; exact t
    · -- 44
      obtain ⟨hc, hb, hp⟩ := pr_q_in h
      cases hm
      cases hcc
      have p12 : p.1 12 = 1 := Q.2.2.1 (by omega)
      subst hp
      refine ⟨R0.m O0 M rfl rfl (fun a ha => by dsimp only; rw [p_up_c _ _ _ _ _ (by omega)]) (fun k hk z => ?_) (fun k hk z => ?_) (fun z => ?_) (fun z => ?_) (fun z => ?_) (fun z => ?_) (fun _ z2 => ?_), un (by omega) (by omega) (by omega) (by omega) U0⟩
      · dsimp only; rw [p_up_c _ _ _ _ _ (by decide)]; exact (r1 k hk).2.2 (Or.inr (by omega))
      · dsimp only; rw [p_up_c _ _ _ _ _ (by decide)]; exact (r2 k hk).2 (Or.inr (by omega))
      · exfalso; have z : p.1 9 = 2 := z; omega
      · exfalso; have z : p.1 9 = 4 := z; omega
      · simp [p_up]
      · exfalso; have z : p.1 9 = 2 := z; omega
      · simp [p_up]; exact r7 (by omega) p12
    · -- 45
      obtain ⟨hc, hb, hp⟩ := pr_q_in h
      have hm : (.inr (mi_sub so x ty g, ty, so, bs, oc) : gx_R mi_S) = .inr s' := hm
      cases hm
      obtain ⟨c1, hcc, e1⟩ := gx_b_ok hcc
      have hcc : ce_chk false _ _ (ce_q _ (.inr _)) = .inr c1 := hcc
      unfold ce_chk at hcc
      rw [if_neg (by simp)] at hcc
      have hcc := ce_q_in hcc
      cases hcc
      cases e1
      have p12 : p.1 12 = 1 := Q.2.2.1 (by omega)
      have k3' := k3 (by omega)
      have m1' := m1 (by omega)
      have e16 : (d 212 16).toNat = b21 + p.1 3 := by omega
      have e5 : (d 217 5).toNat = b21 + p.1 3 := by omega
      have n17 : (g 254 17).toNat = p.1 3 := by omega
      obtain ⟨fs, fs1, fs2, fs3⟩ := r7 (by omega) p12
      dsimp only at M
      obtain ⟨q1, q2⟩ := rT_rows (s := (g, ty, so, bs, oc)) (s' := (mi_sub so x ty g, ty, so, bs, oc)) M o2 o3
      dsimp only at q1 q2
      have w : am_w (am_w (am_w (100 * am_w (am_w (8 + d 212 13) - d 212 20)) + d 212 16) - d 212 18) = 100 * (8 + ((p.1 0 : Int) - 1)) + ((p.1 3 : Int) - fs) := by
        have w1 : am_w (8 + d 212 13) = 8 + d 212 13 := p_w (by omega) (by omega)
        have w2 : am_w (8 + d 212 13 - d 212 20) = 8 + d 212 13 - d 212 20 := p_w (by omega) (by omega)
        have w3 : am_w (100 * (8 + d 212 13 - d 212 20)) = 100 * (8 + d 212 13 - d 212 20) := p_w (by omega) (by omega)
        have w4 : am_w (100 * (8 + d 212 13 - d 212 20) + d 212 16) = 100 * (8 + d 212 13 - d 212 20) + d 212 16 := p_w (by omega) (by omega)
        have w5 : am_w (100 * (8 + d 212 13 - d 212 20) + d 212 16 - d 212 18) = 100 * (8 + d 212 13 - d 212 20) + d 212 16 - d 212 18 := p_w (by omega) (by omega)
        rw [w1, w2, w3, w4, w5]
        omega
      subst hp
      dsimp only
      rw [e16, e5, if_neg (show ¬ (false = true) by decide), w]
      have cx : ∀ a, a ≤ 216 → ∀ v1 v2 v3 v4 v5 v6, am_up (am_up (am_up (am_up (am_up (am_up d 218 (b21 + p.1 3) v1) 219 (b21 + p.1 3) v2) 220 (b21 + p.1 3) v3) 221 (b21 + p.1 3) v4) 217 5 v5) 222 (b21 + p.1 3) v6 a = d a := fun a ha _ _ _ _ _ _ => by
        rw [p_up_c _ _ _ _ _ (by omega), p_up_c _ _ _ _ _ (by omega), p_up_c _ _ _ _ _ (by omega), p_up_c _ _ _ _ _ (by omega), p_up_c _ _ _ _ _ (by omega), p_up_c _ _ _ _ _ (by omega)]
      have new : ∀ k, k < p.1 3 + 1 → (mi_sub so x ty g 263 k = (p.1 0 : Int) - 1 ↔ fs ≤ k) := by
        intro k hk
        by_cases ck : k = p.1 3
        · subst ck
          simp [mi_sub, p_up, n17]
          omega
        · rw [(q2 k (by omega)).1]; exact fs3 k (by omega)
      have e263 : mi_sub so x ty g 263 (p.1 3) = (p.1 0 : Int) - 1 := (new (p.1 3) (by omega)).2 (by omega)
      refine ⟨⟨fun k hk => ?_, fun k hk => ?_, fun z => absurd (show (4 : Nat) = 2 from z) (by decide), fun _ z => absurd (show (0 : Nat) = 1 from z) (by decide), fun z => ?_, fun z => absurd (show (4 : Nat) = 2 from z) (by decide), fun _ _ => ⟨fs, by show fs ≤ p.1 3 + 1; omega, ?_, new⟩⟩, un (by omega) (by omega) (by omega) (by omega) (un (by omega) (by omega) (by omega) (by omega) (un (by omega) (by omega) (by omega) (by omega) (un (by omega) (by omega) (by omega) (by omega) (un (by omega) (by omega) (by omega) (by omega) (un (by omega) (by omega) (by omega) (by omega) U0)))))⟩
      · have hk : k < p.1 0 := hk
        have t := r1 k hk
        dsimp only
        rw [cx 214 (by decide), cx 215 (by decide), cx 216 (by decide), q1 k hk]
        exact ⟨t.1, t.2.1, fun _ => by rw [t.2.2 (Or.inr (by omega))]; simp [mi_sub, p_up]⟩
      · have hk : k < p.1 3 + 1 := hk
        by_cases ck : k = p.1 3
        · subst ck
          refine ⟨⟨?_, ?_, ?_, ?_⟩, fun z => ?_⟩
          · dsimp only; rw [e263]; simp [p_up]; omega
          · simp [p_up]; simp [mi_sub, p_up, n17]
          · simp [p_up]; rw [r5 hc.1.2]; simp [mi_sub, p_up, n17]
          · dsimp only
            rw [m_fst_eq (mi_sub so x ty g) (p.1 3) fs (p.1 3) (by omega) (fun j hj => by rw [e263]; exact new j (by omega)), e263]
            simp [p_up]
          · exfalso
            have z : p.1 3 + 1 < p.1 3 + 1 ∨ (4 : Nat) ≠ 4 := z
            omega
        · have t := r2 k (by omega)
          refine ⟨t.1.fr (fun j hj => q2 j (by omega)) ⟨?_, ?_, ?_, ?_⟩, fun z => ?_⟩
          · simp [p_up]; intro z; omega
          · simp [p_up]; intro z; omega
          · simp [p_up]; intro z; omega
          · simp [p_up]; intro z; omega
          · simp [p_up, ck]; rw [t.2 (Or.inr (by omega))]; simp [mi_sub, p_up, n17, ck]
      · simp [p_up]; exact r5 z
      · dsimp only; rw [cx 212 (by decide)]; exact fs2
    · -- 51
      obtain ⟨hc, hb, hp⟩ := pr_q_in h
      cases hm
      cases hcc
      have p12 : p.1 12 = 1 := Q.2.2.1 (by omega)
      subst hp
      refine ⟨R0.m O0 M rfl rfl (fun a ha => by dsimp only; rw [p_up_c _ _ _ _ _ (by omega)]) (fun k hk z => ?_) (fun k hk z => ?_) (fun z => ?_) (fun z _ => ?_) (fun z => ?_) (fun z => ?_) (fun _ z2 => ?_), un (by omega) (by omega) (by omega) (by omega) U0⟩
      · dsimp only; rw [p_up_c _ _ _ _ _ (by decide)]; exact (r1 k hk).2.2 (Or.inr (by omega))
      · dsimp only; rw [p_up_c _ _ _ _ _ (by decide)]; exact (r2 k hk).2 z
      · exfalso; have z : p.1 9 = 2 := z; omega
      · show (0 : Int) = (p.1 4 : Int); omega
      · simp [p_up]; exact r5 z
      · exfalso; have z : p.1 9 = 2 := z; omega
      · simp [p_up]; exact r7 (by omega) p12
    · -- 46
      obtain ⟨hc, hb, hp⟩ := pr_q_in h
      have hm := ce_q_in hm
      have hcc : ce_chk false _ _ (ce_q _ (.inr (ce_var2 1 (if d 212 14 = 3 then pn + 1 else pn) cty (if d 212 14 = 3 then pn + 1 else pn) (V x.toNat) d, cty, fn, on, pn + 1, ln, st))) = .inr c' := hcc
      unfold ce_chk at hcc
      rw [if_neg (by simp)] at hcc
      have hcc := ce_q_in hcc
      have v1 : ∀ k1 k2 k3 k4 a, a < 229 → ce_var2 k1 k2 k3 k4 (V x.toNat) d a = d a := fun k1 k2 k3 k4 a ha => by
        unfold ce_var2
        rw [p_up_c _ _ _ _ _ (by omega), p_up_c _ _ _ _ _ (by omega), p_up_c _ _ _ _ _ (by omega), p_up_c _ _ _ _ _ (by omega), p_up_c _ _ _ _ _ (by omega), p_up_c _ _ _ _ _ (by omega)]
      have vU : ∀ k1 k2 k3 k4, rU b20 b21 c0 (ce_var2 k1 k2 k3 k4 (V x.toNat) d) := fun k1 k2 k3 k4 => un (by omega) (by omega) (by omega) (by omega) (un (by omega) (by omega) (by omega) (by omega) (un (by omega) (by omega) (by omega) (by omega) (un (by omega) (by omega) (by omega) (by omega) (un (by omega) (by omega) (by omega) (by omega) (un (by omega) (by omega) (by omega) (by omega) U0)))))
      have c3' : 1 ≤ p.1 3 := o8.2 (by omega)
      have n17 : (g 254 17 - 1).toNat = p.1 3 - 1 := by omega
      have p12 : p.1 12 = 1 := Q.2.2.1 (by omega)
      cases hm
      cases hcc
      subst hp
      refine ⟨R0.m O0 M rfl rfl (fun a ha => v1 _ _ _ _ a (by omega)) (fun k hk z => ?_) (fun k hk z => ?_) (fun z => ?_) (fun _ _ => ?_) (fun z => ?_) (fun z => ?_) (fun z1 z2 => ?_), vU _ _ _ _⟩
      · dsimp only; rw [v1 _ _ _ _ 216 (by decide), (r1 k hk).2.2 (Or.inr (by omega))]
        simp [mi_dec, p_up]
      · have z : k + 1 < p.1 3 ∨ p.1 9 ≠ 4 := z
        dsimp only; rw [v1 _ _ _ _ 221 (by decide), (r2 k hk).2 (by omega), n17]
        simp [mi_dec, p_up]
        intro z; omega
      · exfalso; have z : p.1 9 = 2 := z; omega
      · show pn + 1 = ((p.1 4 + 1 : Nat) : Int)
        have := r4 hc.1 hc.2.2.2.2; omega
      · dsimp only; rw [v1 _ _ _ _ 212 (by decide)]; exact r5 z
      · exfalso; have z : p.1 9 = 2 := z; omega
      · dsimp only; rw [v1 _ _ _ _ 212 (by decide)]; exact r7 (by omega) p12
    · -- 47
      obtain ⟨hc, hb, hp⟩ := pr_q_in h
      cases hm
      have hcc := ce_q_in hcc
      cases hcc
      have m2' := m2 (by omega)
      have e16 : (d 212 16).toNat = b21 + (p.1 3 - 1) := by omega
      have hpn := r4 hc.1 hc.2.2
      have h267 := (o11 m2'.1).1
      have p12 : p.1 12 = 1 := Q.2.2.1 (by omega)
      subst hp
      dsimp only
      rw [e16]
      refine ⟨R0.m O0 M rfl rfl (fun a ha => by dsimp only; rw [p_up_c _ _ _ _ _ (by omega)]) (fun k hk z => ?_) (fun k hk z => ?_) (fun z => absurd (show (5 : Nat) = 2 from z) (by decide)) (fun z => absurd (show (5 : Nat) = 4 from z) (by decide)) (fun z => ?_) (fun z => absurd (show (5 : Nat) = 2 from z) (by decide)) (fun _ z2 => ?_), un (by omega) (by omega) (by omega) (by omega) U0⟩
      · dsimp only; rw [p_up_c _ _ _ _ _ (by decide)]; exact (r1 k hk).2.2 (Or.inr (by omega))
      · by_cases ck : k = p.1 3 - 1
        · subst ck
          simp [p_up]
          rw [hpn, h267]
        · simp [p_up]
          rw [if_neg (by omega)]
          exact (r2 k hk).2 (Or.inl (by omega))
      · simp [p_up]; exact r5 z
      · have t := r7 (by omega) p12
        dsimp only
        rw [p_up_c _ _ _ _ _ (by decide)]; exact t
    · -- 50
      obtain ⟨hc, hb, hp⟩ := pr_q_in h
      have hm := ce_q_in hm
      have hcc : ce_chk false _ _ (ce_q _ (.inr (ce_var2 2 ln cty ln (V x.toNat) d, cty, fn, on, pn, ln + 1, st))) = .inr c' := hcc
      unfold ce_chk at hcc
      rw [if_neg (by simp)] at hcc
      have hcc := ce_q_in hcc
      have v1 : ∀ k1 k2 k3 k4 a, a < 229 → ce_var2 k1 k2 k3 k4 (V x.toNat) d a = d a := fun k1 k2 k3 k4 a ha => by
        unfold ce_var2
        rw [p_up_c _ _ _ _ _ (by omega), p_up_c _ _ _ _ _ (by omega), p_up_c _ _ _ _ _ (by omega), p_up_c _ _ _ _ _ (by omega), p_up_c _ _ _ _ _ (by omega), p_up_c _ _ _ _ _ (by omega)]
      have vU : ∀ k1 k2 k3 k4, rU b20 b21 c0 (ce_var2 k1 k2 k3 k4 (V x.toNat) d) := fun k1 k2 k3 k4 => un (by omega) (by omega) (by omega) (by omega) (un (by omega) (by omega) (by omega) (by omega) (un (by omega) (by omega) (by omega) (by omega) (un (by omega) (by omega) (by omega) (by omega) (un (by omega) (by omega) (by omega) (by omega) (un (by omega) (by omega) (by omega) (by omega) U0)))))
      have p12 : p.1 12 = 1 := Q.2.2.1 (by omega)
      cases hm
      cases hcc
      subst hp
      refine ⟨R0.m O0 M rfl rfl (fun a ha => v1 _ _ _ _ a (by omega)) (fun k hk z => ?_) (fun k hk z => ?_) (fun z => ?_) (fun z => ?_) (fun z => ?_) (fun z => ?_) (fun z1 z2 => ?_), vU _ _ _ _⟩
      · dsimp only; rw [v1 _ _ _ _ 216 (by decide), (r1 k hk).2.2 (Or.inr (by omega))]
        simp [mi_dec, p_up]
      · dsimp only; rw [v1 _ _ _ _ 221 (by decide), (r2 k hk).2 (Or.inr (by omega))]
        simp [mi_dec, p_up]
      · exfalso; have z : p.1 9 = 2 := z; omega
      · exfalso; have z : p.1 9 = 4 := z; omega
      · dsimp only; rw [v1 _ _ _ _ 212 (by decide)]; exact r5 z
      · exfalso; have z : p.1 9 = 2 := z; omega
      · dsimp only; rw [v1 _ _ _ _ 212 (by decide)]; exact r7 (by omega) p12
    · -- 48
      obtain ⟨hc, hb, hp⟩ := pr_q_in h
      cases hm
      have p12 : p.1 12 = 1 := Q.2.2.1 (by omega)
      have ec : c' = (am_up d 235 4 0, cty, fn, on, pn, ln, st) := by
        obtain ⟨c1, hcd, e1⟩ := gx_b_ok hcc
        cases e1
        have hcc := ce_q_in (show ce_q _ (if am_up d 235 4 0 212 14 = 3 then (.inr (am_up d 235 4 0) : gx_R am_H) else if am_up d 235 4 0 212 14 = 1 then .inr (am_up d 235 4 0) else .inr (am_up d 235 4 0)) = .inr c1 from hcd)
        split at hcc
        · cases hcc; rfl
        · split at hcc <;> (cases hcc; rfl)
      subst ec
      subst hp
      refine ⟨R0.m O0 M rfl rfl (fun a ha => by dsimp only; rw [p_up_c _ _ _ _ _ (by omega)]) (fun k hk z => ?_) (fun k hk z => ?_) (fun z => absurd (show (6 : Nat) = 2 from z) (by decide)) (fun z => absurd (show (6 : Nat) = 4 from z) (by decide)) (fun z => ?_) (fun z => absurd (show (6 : Nat) = 2 from z) (by decide)) (fun _ z2 => ?_), un (by omega) (by omega) (by omega) (by omega) U0⟩
      · dsimp only; rw [p_up_c _ _ _ _ _ (by decide), (r1 k hk).2.2 (Or.inr (by omega))]; simp [p_up]
      · dsimp only; rw [p_up_c _ _ _ _ _ (by decide), (r2 k hk).2 (Or.inr (by omega))]; simp [p_up]
      · simp [p_up]; exact r5 z
      · have t := r7 (by omega) p12
        dsimp only
        rw [p_up_c _ _ _ _ _ (by decide)]; exact t
    · -- 49
      obtain ⟨hc, hb, hp⟩ := pr_q_in h
      have p12 : p.1 12 = 1 := Q.2.2.1 (by omega)
      have ec : c' = (am_up d 212 16 (d 212 16 + 1), cty, fn, on, pn, ln, st) := by
        obtain ⟨c1, hcd, e1⟩ := gx_b_ok hcc
        cases e1
        have hcc := ce_q_in (show ce_q (d 212 16 < 1000) (.inr (am_up d 212 16 (d 212 16 + 1))) = .inr c1 from hcd)
        cases hcc; rfl
      obtain ⟨g1, h1, h2⟩ := mi_h_in hm
      obtain ⟨g3, h3, h4⟩ := gx_b_ok h1
      have e3 := mi_add_in h3
      have e4 := mi_add_in h4
      subst e4
      subst e3
      subst h2
      subst ec
      subst hp
      refine ⟨R0.m O0 M rfl rfl (fun a ha => by dsimp only; rw [p_up_c _ _ _ _ _ (by omega)]) (fun k hk z => ?_) (fun k hk z => ?_) (fun z => absurd (show (3 : Nat) = 2 from z) (by decide)) (fun z => absurd (show (3 : Nat) = 4 from z) (by decide)) (fun z => ?_) (fun z => absurd (show (3 : Nat) = 2 from z) (by decide)) (fun _ z2 => ?_), un (by omega) (by omega) (by omega) (by omega) U0⟩
      · dsimp only; rw [p_up_c _ _ _ _ _ (by decide), (r1 k hk).2.2 (Or.inr (by omega)), mi_put_c _ _ _ _ _ _ (by decide), mi_put_c _ _ _ _ _ _ (by decide)]
      · dsimp only; rw [p_up_c _ _ _ _ _ (by decide), (r2 k hk).2 (Or.inr (by omega)), mi_put_c _ _ _ _ _ _ (by decide), mi_put_c _ _ _ _ _ _ (by decide)]
      · simp [p_up]; exact r5 z
      · have t := r7 (by omega) p12
        simp [p_up]; exact t
/-- the first reading of a stream: the tables -/
theorem rT_run {c0 : am_H} (T : tkc K K' V P n6) : ∀ (es : List gx_V) {p p' : pr_S} {s s' : mi_S} {c : ce_S}, gx_fold (pr pw K' V) es p = .inr p' → gx_fold (mi V) es s = .inr s' → rv K' p s → po K' p → pq p → rc b20 b21 n6 p c → rT b20 b21 V p s c → rU b20 b21 c0 c.1 → ∃ c', gx_fold (ce false false K V P) es c = .inr c' ∧ rc b20 b21 n6 p' c' ∧ rT b20 b21 V p' s' c' ∧ rU b20 b21 c0 c'.1
  | [], p, p', s, s', c, h, hm, O, Po, Q, C, R, U => by cases h; cases hm; exact ⟨c, rfl, C, R, U⟩
  | e :: es, p, p', s, s', c, h, hm, O, Po, Q, C, R, U => by
    obtain ⟨p1, h1, h2⟩ := gx_b_ok h
    obtain ⟨s1, m1, m2⟩ := gx_b_ok hm
    obtain ⟨c1, e1, C1⟩ := ce_ev0 T h1 Po C
    obtain ⟨R1, U1⟩ := rT_ev h1 m1 e1 O C Q R U
    obtain ⟨c2, e2, r⟩ := rT_run T es h2 m2 (rv_ev h1 m1 O) (po_ev h1 Po) (pq_ev h1 Q) C1 R1 U1
    exact ⟨c2, by show gx_b (ce false false K V P e c) _ = _; rw [e1]; exact e2, r⟩
end
