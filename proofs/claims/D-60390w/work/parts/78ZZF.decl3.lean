/-! PURE LAYER, 111: declarations, second reading: events (printed by gen/decl.py) -/
theorem XP_same {g g' : am_H} (h : ∀ a, a = 8 ∨ (9 ≤ a ∧ a ≤ 11) ∨ (235 ≤ a ∧ a ≤ 238) → g' a = g a) : XP [] [] g g' := by
  refine ⟨⟨by rw [h 8 (by omega)]; show _ = _ + ((0 : Nat) : Int); omega, by rw [h 235 (by omega)]; show _ = _ + ((0 : Nat) : Int); omega⟩, fun k _ => ⟨by rw [h 9 (by omega)], by rw [h 10 (by omega)], by rw [h 11 (by omega)]⟩, fun k _ => ⟨by rw [h 236 (by omega)], by rw [h 237 (by omega)], by rw [h 238 (by omega)]⟩, fun j v z => (by cases z), fun j v z => (by cases z)⟩
theorem p_up_self {g : am_H} {a k : Nat} {v : Int} (h : g a k = v) : am_up g a k v = g := by
  funext b j
  rw [p_up]
  split
  · rename_i c; rw [c.1, c.2]; exact h.symm
  · rfl
section
variable {K K' P V sc ss n6 : Nat → Int} {cc cs : Nat → Nat} {b20 b21 b15 bv bl n0 n3 : Nat} {h c0 : am_H} {p p' : pr_S} {s s' S : mi_S} {c : ce_S} {e : gx_V}
set_option maxHeartbeats 4000000 in
theorem c2_decl (T : tkc K K' V P n6) (hn6 : c0 6 = n6) (F : FT b20 b21 V h c0 n0 n3) (Sy : SY b20 b21 sc ss cc cs h c0) (Sk : SKn c0) (tp : tkP K' P) (hb : b20 ≤ 12 ∧ b21 ≤ 70 ∧ b15 ≤ 2000 ∧ bv ≤ 6000 ∧ bl ≤ 50000) (hS : S.1 = h) (H0 : rt K' h) (he : ¬ e.1 ≤ 34) (h1 : pr pw K' V e p = .inr p') (m1 : mi V e s = .inr s') (R : r2 K' P V sc ss cc b20 b21 b15 bv bl h c0 p s c) (Rv : rv K' p s) (Q : pq p) (Pb : pBd p) (L' : lt_e p' s' S) (M : mx s'.1 h) (Z' : fz p' s'.1 h) (X14 : p'.1 14 = 1 → (∃ k : Nat, s'.1 254 17 ≤ k ∧ k < h 254 17 ∧ h 266 k = s'.2.1) ∨ (∃ k : Nat, s'.1 254 25 ≤ k ∧ k < h 254 25 ∧ h 274 k = s'.2.1)) : c2o K K' P V sc ss cc cs b20 b21 b15 bv bl h c0 e p p' s s' c := by
  have hwt := pr_wt h1
  have hle := pr_le h1
  have M0 : mx s.1 h := (mx_ev V _ s s' m1).trans M
  have Rv' := rv_ev h1 m1 Rv
  have pos : ∀ k, mx_k k → 0 ≤ s.1 254 k := by
    intro k hk
    obtain ⟨⟨r1, -⟩, ⟨r2, -⟩, ⟨r3, -⟩, ⟨r4, -⟩, r5, -⟩ := Rv.1
    rcases hk with e | e | e | e | e <;> rw [e] <;> assumption
  have B := BN_ev (K := K') (P := P) (sc := sc) (ss := ss) m1 M pos
  obtain ⟨n, x, y, z⟩ := e
  obtain ⟨g, ty, fn, on, pn, ln, st⟩ := c
  obtain ⟨sg, sty, sso, sbs, soc⟩ := s
  have r := R
  obtain ⟨⟨f1, f2⟩, ⟨⟨k17, k13a, k13⟩, ⟨k16a, k16⟩, ⟨k15, k14, k4⟩, ⟨k2a, k2b, k2c, k2d, k2e⟩⟩, ⟨v1, v2, v3⟩, ⟨t1, t2, t3, t4⟩, ⟨⟨q1, q2⟩, ⟨q3, q4⟩, ⟨q5', q6⟩, ⟨q7, q8⟩, q9, q10, q11, q12, q13⟩, o1, o2⟩ := R
  obtain ⟨rv0, ⟨rv14, rv17, rv16, rv0b, rv3b, rv1b⟩, ⟨rvc, rvs⟩, -, rv262, rv267⟩ := Rv
  dsimp only at f1 f2 k17 k13a k13 k16a k16 k15 k14 k4 k2a k2b k2c k2d k2e q1 q2 q3 q4 q5' q6 q7 q8 q9 hwt B he v1 v2 v3 t1 t2 t4 pos rv14 rv17 rv16 rv262 rv267
  have cp : cap g 200 200 := ⟨q1, by omega, q3, by omega⟩
  have tab := fun x => tab_eq f1 f2 x
  have hn0 : (p'.1 0 : Int) ≤ n0 := by
    have := M.1 14 (by unfold mx_k; omega)
    rw [Rv'.2.1.1, F.1.1] at this
    exact this
  have hn3 : (p'.1 3 : Int) ≤ n3 := by
    have := M.1 17 (by unfold mx_k; omega)
    rw [Rv'.2.1.2.1, F.1.2.1] at this
    exact this
  -- room
  have rr : ∀ {g' : am_H} {ty' fn' on' pn' ln' : Int}, g' 8 = g 8 → g' 235 = g 235 → p'.1 8 = p.1 8 → p'.2.1 = p.2.1 → p'.1 9 < 6 → r2r bv bl p' (g', ty', fn', on', pn', ln', st) := by
    intro g' ty' fn' on' pn' ln' e1 e2 e3 e4 e5
    unfold r2r
    dsimp only
    rw [e1, e2, e3, e4, hwt 3, hwt 4, hwt 5]
    have := hle 3
    have := hle 4
    have := hle 5
    rw [hwt 3] at *
    rw [hwt 4] at *
    rw [hwt 5] at *
    exact ⟨⟨q1, by omega⟩, ⟨q3, by omega⟩, ⟨q5', by omega⟩, ⟨q7, by omega⟩, q9, q10, by omega, by omega, by omega⟩
  have nl : p.1 9 ≠ 6 → p.1 15 = 0 := fun z => by
    by_cases d : p.1 15 = 0
    · exact d
    · exact absurd (Q.2.2.2.2.2.2 d) z
  have oc0 : p.1 9 ≠ 6 → p'.2.2.1 = p.2.2.1 → p'.1 9 ≠ 6 → r2o K' V sc ss h p' := fun z1 z2 z3 => ⟨fun _ => by rw [z2]; exact o1 z1, fun q hq => by rw [z2, o1 z1] at hq; cases hq⟩
  -- tables of variables that are not touched
  have c2k : ∀ {g' : am_H}, (∀ a, 223 ≤ a → a ≤ 228 → g' a = g a) → p'.1 12 = p.1 12 → p'.1 0 = p.1 0 → p'.1 1 = p.1 1 → p'.1 2 = p.1 2 → (p'.1 9 = 2 → p.1 9 = 2) → 2 ≤ p.1 9 → r2c K' V sc cc b20 b15 h p' (sg 254 25) g' := by
    intro g' e1 e2 e3 e4 e5 e6 e7
    have := v2 e7
    unfold r2c vrow at this ⊢
    rw [e2, e3, e4, e5, e1 223 (by omega) (by omega), e1 224 (by omega) (by omega), e1 225 (by omega) (by omega), e1 226 (by omega) (by omega), e1 227 (by omega) (by omega), e1 228 (by omega) (by omega)]
    by_cases d : p.1 12 = 1
    · rw [if_pos d] at this ⊢
      obtain ⟨vc0, nc, c1, c2, c3, c4, c5⟩ := this
      exact ⟨vc0, nc, c1, c2, c3, fun z => c4 (e6 z), c5⟩
    · rw [if_neg d] at this ⊢
      exact this
  have c2s : ∀ {g' : am_H}, (∀ a, 229 ≤ a → a ≤ 234 → g' a = g a) → p'.1 13 = p.1 13 → p'.1 0 = p.1 0 → p'.1 3 = p.1 3 → p'.1 4 = p.1 4 → p'.1 5 = p.1 5 → 4 ≤ p.1 9 → r2s K' V sc cc b20 b15 h p' (sg 254 25) g' := by
    intro g' e1 e2 e3 e4 e5 e6 e7
    have := v3 e7
    unfold r2s vrow at this ⊢
    rw [e2, e3, e4, e5, e6, e1 229 (by omega) (by omega), e1 230 (by omega) (by omega), e1 231 (by omega) (by omega), e1 232 (by omega) (by omega), e1 233 (by omega) (by omega), e1 234 (by omega) (by omega)]
    exact this
  unfold pr at h1
  split at h1
  all_goals first
    | (cases h1; done)
    | (rename_i hn; have hn : n = _ := hn; subst hn; exfalso; revert he; decide)
    | (rename_i hn; have hn : n = _ := hn; subst hn)
    | skip
  · -- 39
    obtain ⟨hc, -, hp⟩ := pr_q_in h1
    have a0 : p'.1 0 = p.1 0 := by rw [hp]; rfl
    have a1 : p'.1 1 = p.1 1 := by rw [hp]; rfl
    have a2 : p'.1 2 = p.1 2 := by rw [hp]; rfl
    have a3 : p'.1 3 = p.1 3 := by rw [hp]; rfl
    have a4 : p'.1 4 = p.1 4 := by rw [hp]; rfl
    have a5 : p'.1 5 = p.1 5 := by rw [hp]; rfl
    have a8 : p'.1 8 = p.1 8 := by rw [hp]; rfl
    have a9 : p'.1 9 = 1 := by rw [hp]; rfl
    have a11 : p'.1 11 = p.1 11 := by rw [hp]; rfl
    have a12 : p'.1 12 = p.1 12 := by rw [hp]; rfl
    have a13 : p'.1 13 = p.1 13 := by rw [hp]; rfl
    have a15 : p'.1 15 = p.1 15 := by rw [hp]; rfl
    have a17 : p'.1 17 = p.1 17 := by rw [hp]; rfl
    have b1 : p'.2.1 = p.2.1 := by rw [hp]
    have b2 : p'.2.2.1 = p.2.2.1 := by rw [hp]
    cases m1
    have c9 := hc.1
    refine Or.inl ⟨(am_up (am_up g 212 13 (g 212 17)) 212 17 (g 212 17 + 1), ty, fn, on, pn, ln, st), ?_, ⟨⟨fun a ha => ?_, fun k hk => ?_⟩, ⟨⟨?_, fun _ => ?_, fun z => by omega⟩, ⟨fun _ => ?_, fun z => by omega⟩, ⟨?_, fun z => ?_, fun z => by omega⟩, ⟨fun z => by omega, fun z => by omega, fun z => by omega, fun z => by omega, fun z => by omega⟩⟩, ⟨fun v hv => by rw [a0, a3]; exact v1 v hv, fun z => by omega, fun z => by omega⟩, ⟨by rw [a11]; exact t1, t2, fun z => absurd (nl (by omega)) (by omega), BN.no B t4⟩, rr (p_up_c _ _ _ _ _ (by decide) |>.trans (p_up_c _ _ _ _ _ (by decide))) (p_up_c _ _ _ _ _ (by decide) |>.trans (p_up_c _ _ _ _ _ (by decide))) a8 b1 (by omega), oc0 (by omega) b2 (by omega)⟩, ⟨XP_same (fun a ha => by dsimp only; rw [p_up_c _ _ _ _ _ (by omega), p_up_c _ _ _ _ _ (by omega)]), rfl, ?_, ?_⟩⟩
    · show ce_h _ (ce_q (g 212 17 < 1000) _) = _
      unfold ce_q
      dsimp only
      rw [if_neg (by omega)] at k17
      rw [if_pos (by omega)]
      rfl
    · dsimp only; rw [p_up_c _ _ _ _ _ (by omega), p_up_c _ _ _ _ _ (by omega)]; exact f1 a ha
    · dsimp only; rw [p_up_n _ _ _ _ _ _ (Or.inr (by omega)), p_up_n _ _ _ _ _ _ (Or.inr (by omega))]; exact f2 k hk
    · dsimp only; rw [p_up_s, a0, a9, if_pos rfl]; rw [if_neg (by omega)] at k17; omega
    · dsimp only; rw [p_up_n _ _ _ _ _ _ (Or.inr (by decide)), p_up_s, a0]; rw [if_neg (by omega)] at k17; omega
    · dsimp only; rw [p_up_n _ _ _ _ _ _ (Or.inr (by decide)), p_up_n _ _ _ _ _ _ (Or.inr (by decide)), a3]; exact k16a (by omega)
    · dsimp only; rw [p_up_n _ _ _ _ _ _ (Or.inr (by decide)), p_up_n _ _ _ _ _ _ (Or.inr (by decide)), a1]; exact k15
    · dsimp only; rw [p_up_n _ _ _ _ _ _ (Or.inr (by decide)), p_up_n _ _ _ _ _ _ (Or.inr (by decide))]; exact k14 (by omega)
    · dsimp only; rw [p_up_c _ _ _ _ _ (by decide), p_up_c _ _ _ _ _ (by decide)]; rfl
    · dsimp only; rw [p_up_c _ _ _ _ _ (by decide), p_up_c _ _ _ _ _ (by decide)]; rfl
  · -- 40
    obtain ⟨hc, -, hp⟩ := pr_q_in h1
    have a0 : p'.1 0 = p.1 0 + 1 := by rw [hp]; rfl
    have a1 : p'.1 1 = p.1 1 := by rw [hp]; rfl
    have a2 : p'.1 2 = 0 := by rw [hp]; rfl
    have a3 : p'.1 3 = p.1 3 := by rw [hp]; rfl
    have a4 : p'.1 4 = p.1 4 := by rw [hp]; rfl
    have a5 : p'.1 5 = p.1 5 := by rw [hp]; rfl
    have a8 : p'.1 8 = p.1 8 := by rw [hp]; rfl
    have a9 : p'.1 9 = 2 := by rw [hp]; rfl
    have a11 : p'.1 11 = p.1 11 := by rw [hp]; rfl
    have a12 : p'.1 12 = 0 := by rw [hp]; rfl
    have a13 : p'.1 13 = p.1 13 := by rw [hp]; rfl
    have a15 : p'.1 15 = p.1 15 := by rw [hp]; rfl
    have a17 : p'.1 17 = p.1 17 := by rw [hp]; rfl
    have b1 : p'.2.1 = p.2.1 := by rw [hp]
    have b2 : p'.2.2.1 = p.2.2.1 := by rw [hp]
    have c9 := hc.1
    have hs : s' = (am_up (am_up (am_up (am_up sg 261 (sg 254 14).toNat x) 262 (sg 254 14).toNat 0) 254 14 (sg 254 14 + 1)) 254 60 0, sty, sso, sbs, soc) := by cases m1; rfl
    have e14 : s'.1 254 14 = sg 254 14 + 1 := by rw [hs]; dsimp only; rw [p_up_n _ _ _ _ _ _ (Or.inr (by decide)), p_up_s]
    have e25 : s'.1 254 25 = sg 254 25 := by rw [hs]; dsimp only; rw [p_up_n _ _ _ _ _ _ (Or.inr (by decide)), p_up_n _ _ _ _ _ _ (Or.inr (by decide)), p_up_c _ _ _ _ _ (by decide), p_up_c _ _ _ _ _ (by decide)]
    have e60 : s'.1 254 60 = 0 := by rw [hs]; dsimp only; exact p_up_s _ _ _ _
    have i14 : (sg 254 14).toNat = p.1 0 := by omega
    have h261 : h 261 (p.1 0) = x := by
      rw [M.2 261 14 rfl (p.1 0) (by omega), hs]
      dsimp only
      rw [p_up_c _ _ _ _ _ (by decide), p_up_c _ _ _ _ _ (by decide), p_up_c _ _ _ _ _ (by decide), i14, p_up_s]
    have cd := cls_dup (P := P) F Sy (k := p.1 0) (by omega)
    rw [h261] at cd
    have e13 := k13a c9
    have hnm : ce_nm g (V x.toNat) := T.nm (by rw [f1 6 (by omega)]; exact hn6) hc.2.2
    have eh : ce_hid g (V x.toNat) ↔ ce_hid c0 (V x.toNat) := by unfold ce_hid; rw [f1 5 (by omega), f1 6 (by omega)]
    have eo : ce_own g (V x.toNat) = ce_own c0 (V x.toNat) := by unfold ce_own; rw [f1 213 (by omega), f1 214 (by omega), f2 20 (by omega)]
    have hce : ce true false K V P (40, x, y, z) (g, ty, fn, on, pn, ln, st) = ce_h (g, ty, fn, on, pn, ln, st) (ce_chk true (ce_cls g (V x.toNat) = g 212 13 ∨ (false = false ∧ ce_hid g (V x.toNat) ∧ ce_own g (V x.toNat) = g 212 13)) (3, P x.toNat) (.inr g)) := by
      show ce_h _ (ce_q _ (if true = true then _ else _)) = _
      unfold ce_q
      rw [if_pos ⟨hnm, by dsimp only; rw [f2 20 (by omega), F.1.2.2.2.2.1]; omega, by dsimp only; rw [f2 20 (by omega), f1 213 (by omega), F.1.2.2.2.2.1, F.1.2.2.1]; omega, by dsimp only; rw [f2 20 (by omega), F.1.2.2.2.2.1, e13]; omega, by dsimp only; omega⟩, if_pos rfl]
    have eq : (ce_cls g (V x.toNat) = g 212 13 ∨ (false = false ∧ ce_hid g (V x.toNat) ∧ ce_own g (V x.toNat) = g 212 13)) ↔ nt_c P V sc h (p.1 0) = [] := by
      rw [← cd, (tab _).1, e13, eh, eo]
      simp
    have en : nE K' P V sc ss h sg 40 = nt_c P V sc h (p.1 0) := by show nt_c P V sc h (sg 254 14).toNat = _; rw [i14]
    by_cases d : nt_c P V sc h (p.1 0) = []
    · refine Or.inl ⟨(g, ty, fn, on, pn, ln, st), ?_, ⟨⟨f1, f2⟩, ⟨⟨?_, fun z => by omega, fun _ => ⟨by omega, ?_⟩⟩, ⟨fun _ => ?_, fun z => by omega⟩, ⟨?_, fun z => ?_, fun z => by omega⟩, ⟨fun _ z => by omega, fun _ _ => e60, fun z => by omega, fun z => by omega, fun z => by omega⟩⟩, ⟨fun v hv => ?_, fun _ => ?_, fun z => by omega⟩, ⟨?_, ?_, fun z => absurd (nl (by omega)) (by omega), BN.no (by rw [en, d] at B; exact B) t4⟩, rr rfl rfl a8 b1 (by omega), oc0 (by omega) b2 (by omega)⟩, ⟨XP_same (fun a ha => rfl), rfl, rfl, rfl⟩⟩
      · rw [hce]
        unfold ce_chk
        rw [if_neg (fun z => z.2 (eq.2 d))]
        rfl
      · dsimp only; rw [a0, a9, if_neg (by decide)]; rw [if_pos c9] at k17; omega
      · dsimp only; rw [a0, e13]; omega
      · dsimp only; rw [a3]; exact k16a (by omega)
      · dsimp only; rw [a1]; exact k15
      · rw [hs]; exact k14 (by omega)
      · rw [e25] at hv; have := v1 v hv; rw [a0, a3]; exact ⟨by omega, this.2⟩
      · unfold r2c; rw [a12, if_neg (by decide), e25]; intro v hv z; have := (v1 v hv).1; rw [a0] at z; omega
      · rw [a11, hs]; exact t1
      · rw [hs]; exact t2
    · have el : nt_c P V sc h (p.1 0) = [(3, P x.toNat)] := by
        unfold nt_c at d ⊢
        split
        · rw [h261]
        · rename_i d2; rw [if_neg d2] at d; exact absurd rfl d
      refine Or.inr ⟨(3, P x.toNat), ?_, c2_fault (l := nE K' P V sc ss h sg 40) B M hS L' tp H0 (Or.inl (by rw [en, el]; exact List.mem_singleton_self _)) (fun q hq => by rw [en, el, List.mem_singleton] at hq; rw [hq]; exact nle_refl _) (t := x.toNat) rfl (by rw [hp]; show x.toNat < x.toNat + 1; omega) (fun q hq => ?_) (fun z => absurd (nl (by omega)) (by omega))⟩
      · rw [hce]
        unfold ce_chk
        rw [if_pos ⟨rfl, fun z => d (eq.1 z)⟩]
        rfl
      · rw [hs] at hq; dsimp only at hq; rw [t2] at hq; cases hq
  · -- 38
    obtain ⟨hc, -, hp⟩ := pr_q_in h1
    have a0 : p'.1 0 = p.1 0 := by rw [hp]; rfl
    have a1 : p'.1 1 = p.1 1 := by rw [hp]; rfl
    have a2 : p'.1 2 = p.1 2 := by rw [hp]; rfl
    have a3 : p'.1 3 = p.1 3 := by rw [hp]; rfl
    have a4 : p'.1 4 = p.1 4 := by rw [hp]; rfl
    have a5 : p'.1 5 = p.1 5 := by rw [hp]; rfl
    have a8 : p'.1 8 = p.1 8 := by rw [hp]; rfl
    have a9 : p'.1 9 = p.1 9 := by rw [hp]; rfl
    have a11 : p'.1 11 = p.1 11 := by rw [hp]; rfl
    have a12 : p'.1 12 = 1 := by rw [hp]; rfl
    have a13 : p'.1 13 = p.1 13 := by rw [hp]; rfl
    have a15 : p'.1 15 = p.1 15 := by rw [hp]; rfl
    have a17 : p'.1 17 = p.1 17 := by rw [hp]; rfl
    have b1 : p'.2.1 = p.2.1 := by rw [hp]
    have b2 : p'.2.2.1 = p.2.2.1 := by rw [hp]
    cases m1
    have c9 := hc.1
    refine Or.inl ⟨(am_up (am_up g 223 5 0) 212 18 (g 212 16), ty, 0, 0, 0, 0, st), rfl, ⟨⟨fun a ha => ?_, fun k hk => ?_⟩, ⟨⟨?_, fun z => by omega, fun _ => ⟨(by have := (k13 (by omega)).1; omega), ?_⟩⟩, ⟨fun _ => ?_, fun z => by omega⟩, ⟨?_, fun z => ?_, fun z => by omega⟩, ⟨fun _ _ => ⟨?_, ?_⟩, fun _ z => by omega, fun z => by omega, fun z => by omega, fun z => by omega⟩⟩, ⟨fun v hv => by rw [a0, a3]; exact v1 v hv, fun _ => ?_, fun z => by omega⟩, ⟨by rw [a11]; exact t1, t2, fun z => absurd (nl (by omega)) (by omega), BN.no B t4⟩, rr (p_up_c _ _ _ _ _ (by decide) |>.trans (p_up_c _ _ _ _ _ (by decide))) (p_up_c _ _ _ _ _ (by decide) |>.trans (p_up_c _ _ _ _ _ (by decide))) a8 b1 (by omega), oc0 (by omega) b2 (by omega)⟩, ⟨XP_same (fun a ha => by dsimp only; rw [p_up_c _ _ _ _ _ (by omega), p_up_c _ _ _ _ _ (by omega)]), rfl, ?_, ?_⟩⟩
    · dsimp only; rw [p_up_c _ _ _ _ _ (by omega), p_up_c _ _ _ _ _ (by omega)]; exact f1 a ha
    · dsimp only; rw [p_up_n _ _ _ _ _ _ (Or.inr (by omega)), p_up_c _ _ _ _ _ (by decide)]; exact f2 k hk
    · dsimp only; rw [p_up_n _ _ _ _ _ _ (Or.inr (by decide)), p_up_c _ _ _ _ _ (by decide), a0, a9]; exact k17
    · dsimp only; rw [p_up_n _ _ _ _ _ _ (Or.inr (by decide)), p_up_c _ _ _ _ _ (by decide), a0]; exact (k13 (by omega)).2
    · dsimp only; rw [p_up_n _ _ _ _ _ _ (Or.inr (by decide)), p_up_c _ _ _ _ _ (by decide), a3]; exact k16a (by omega)
    · dsimp only; rw [p_up_n _ _ _ _ _ _ (Or.inr (by decide)), p_up_c _ _ _ _ _ (by decide), a1]; exact k15
    · dsimp only; rw [p_up_n _ _ _ _ _ _ (Or.inr (by decide)), p_up_c _ _ _ _ _ (by decide)]; exact k14 (by omega)
    · have := hc.2.1; dsimp only; omega
    · have := k2b c9 hc.2.2.2; dsimp only; omega
    · have z := v2 (by omega)
      unfold r2c at z ⊢
      rw [if_neg (by have := hc.2.2.2; omega)] at z
      rw [if_pos a12]
      have p25 := pos 25 (by unfold mx_k; omega)
      refine ⟨(sg 254 25).toNat, 0, ?_, by dsimp only; omega, by omega, fun _ => by dsimp only; omega, fun v hv => ?_, fun j hj => by omega, fun j hj => by omega⟩
      · dsimp only; rw [p_up_c _ _ _ _ _ (by decide), p_up_s]; rfl
      · constructor
        · intro w; rw [a0] at w; exact absurd w (z v hv)
        · intro w; omega
    · dsimp only; rw [p_up_c _ _ _ _ _ (by decide), p_up_c _ _ _ _ _ (by decide)]; rfl
    · dsimp only; rw [p_up_c _ _ _ _ _ (by decide), p_up_c _ _ _ _ _ (by decide)]; rfl
  · -- 41
    obtain ⟨hc, -, hp⟩ := pr_q_in h1
    have a0 : p'.1 0 = p.1 0 := by rw [hp]; rfl
    have a1 : p'.1 1 = p.1 1 := by rw [hp]; rfl
    have a2 : p'.1 2 = p.1 2 := by rw [hp]; rfl
    have a3 : p'.1 3 = p.1 3 := by rw [hp]; rfl
    have a4 : p'.1 4 = p.1 4 := by rw [hp]; rfl
    have a5 : p'.1 5 = p.1 5 := by rw [hp]; rfl
    have a8 : p'.1 8 = p.1 8 := by rw [hp]; rfl
    have a9 : p'.1 9 = p.1 9 := by rw [hp]; rfl
    have a11 : p'.1 11 = 1 := by rw [hp]; rfl
    have a12 : p'.1 12 = p.1 12 := by rw [hp]; rfl
    have a13 : p'.1 13 = p.1 13 := by rw [hp]; rfl
    have a15 : p'.1 15 = p.1 15 := by rw [hp]; rfl
    have a17 : p'.1 17 = p.1 17 := by rw [hp]; rfl
    have b1 : p'.2.1 = p.2.1 := by rw [hp]
    have b2 : p'.2.2.1 = p.2.2.1 := by rw [hp]
    cases m1
    have c9 := hc.1
    have hx : x.toNat < 1000 ∧ (K' x.toNat = 1 ∨ K' x.toNat = 2) := by
      rcases hc.2.1 with w | w
      · exact ⟨w.2.2.1, Or.inl w.2.2.2⟩
      · exact ⟨w.2.2.1, Or.inr w.2.2.2⟩
    have x0 : 0 ≤ x := by
      rcases hc.2.1 with w | w
      · exact w.1
      · exact w.1
    have fin : ∀ ty', ce true false K V P (41, x, y, z) (g, ty, fn, on, pn, ln, st) = .inr (g, ty', fn, on, pn, ln, st) → ty' = tyc K' V sc cc b20 h x → nt_ty K' P V sc h x = [] → c2o K K' P V sc ss cc cs b20 b21 b15 bv bl h c0 (41, x, y, z) p p' (sg, sty, sso, sbs, soc) (sg, x, sso, sbs, soc) (g, ty, fn, on, pn, ln, st) := by
      intro ty' w1 w2 w3
      exact Or.inl ⟨(g, ty', fn, on, pn, ln, st), w1, ⟨⟨f1, f2⟩, ⟨⟨by rw [a0, a9]; exact k17, fun z => by rw [a0]; exact k13a (by omega), fun z => by rw [a0]; exact k13 (by omega)⟩, ⟨fun z => by rw [a3]; exact k16a (by omega), fun z => by rw [a3]; exact k16 (by omega)⟩, ⟨by rw [a1]; exact k15, fun z => k14 (by omega), fun z => by rw [a3, a0]; exact k4 (by omega)⟩, ⟨fun z z2 => by rw [a2]; exact k2a (by omega) (by omega), fun z z2 => k2b (by omega) (by omega), fun z z2 => by rw [a4]; exact k2c (by omega) (by omega), fun z => by rw [a5]; exact k2d (by omega), fun z => by rw [a5]; exact k2e (by omega)⟩⟩, ⟨fun v hv => by rw [a0, a3]; exact v1 v hv, fun z => c2k (fun _ _ _ => rfl) a12 a0 a1 a2 (fun w => by omega) (by omega), fun z => c2s (fun _ _ _ => rfl) a13 a0 a3 a4 a5 (by omega)⟩, ⟨fun _ => ⟨w2, hx.2⟩, w3, fun z => absurd (nl (by omega)) (by omega), BN.no B t4⟩, rr rfl rfl a8 b1 (by omega), oc0 (by omega) b2 (by omega)⟩, ⟨XP_same (fun a ha => rfl), rfl, rfl, rfl⟩⟩
    have ek : K x.toNat = K' x.toNat := T.1 _ hx.1 (by omega)
    rcases hx.2 with hk | hk
    · refine fin (-1) ?_ (by unfold tyc; rw [if_pos hk]) (by unfold nt_ty; rw [if_neg (fun z => by omega)])
      show (if K x.toNat = 1 then _ else _) = _
      rw [if_pos (by omega)]
    · have hnm : ce_nm g (V x.toNat) := by
        obtain ⟨n1, n2, n3', n4⟩ := T.2.1 x.toNat hx.1 hk
        exact ⟨n1, n2, by rw [f1 6 (by omega), hn6]; exact n3', by rw [f1 6 (by omega), hn6]; exact n4⟩
      have ecof : ce_cof false g (V x.toNat) = cm b20 cc (m_cof V sc h x.toNat) := by rw [(tab _).2.2.1]; exact n_cof F Sy _
      have hce : ce true false K V P (41, x, y, z) (g, ty, fn, on, pn, ln, st) = ce_chk true (ce_cof false g (V x.toNat) ≠ -1) (4, P x.toNat) (.inr (g, ce_cof false g (V x.toNat), fn, on, pn, ln, st)) := by
        show (if K x.toNat = 1 then _ else ce_q _ _) = _
        rw [if_neg (by omega)]
        unfold ce_q
        rw [if_pos ⟨hnm, by dsimp only; rw [f2 20 (by omega), F.1.2.2.2.2.1]; omega, by dsimp only; rw [f2 20 (by omega), f1 213 (by omega), F.1.2.2.2.2.1, F.1.2.2.1]; omega⟩]
      by_cases d : m_cof V sc h x.toNat = -1
      · have ent : nt_ty K' P V sc h x = [(4, P x.toNat)] := by unfold nt_ty; rw [if_pos ⟨by omega, hk, d⟩]
        refine Or.inr ⟨(4, P x.toNat), ?_, c2_fault B M hS L' tp H0 (Or.inr ?_) (fun q hq => by cases hq) (t := x.toNat) rfl (by rw [hp]; show x.toNat < x.toNat + 1; omega) (fun q hq => ?_) (fun z => absurd (nl (by omega)) (by omega))⟩
        · rw [hce]
          unfold ce_chk
          rw [if_pos ⟨rfl, fun z => z (by rw [ecof, d]; rfl)⟩]
        · rcases X14 (by rw [hp]; rfl) with ⟨k, w1, w2, w3⟩ | ⟨k, w1, w2, w3⟩
          · refine Or.inr (Or.inl ⟨k, w1, w2, ?_⟩)
            unfold nt_s
            dsimp only at w3
            rw [w3, ent]
            exact List.mem_append_right _ (List.mem_singleton_self _)
          · refine Or.inr (Or.inr (Or.inl ⟨k, w1, w2, ?_⟩))
            unfold nt_v
            dsimp only at w3
            rw [w3, ent]
            exact List.mem_append_right _ (List.mem_singleton_self _)
        · dsimp only at hq
          rw [ent, List.mem_singleton] at hq
          rw [hq]; exact nle_refl _
      · refine fin (ce_cof false g (V x.toNat)) ?_ (by rw [ecof]; unfold tyc; rw [if_neg (by omega)]) (by unfold nt_ty; rw [if_neg (fun z => d z.2.2)])
        rw [hce]
        unfold ce_chk
        have cr : 0 ≤ m_cof V sc h x.toNat := by
          unfold m_cof m_sc at d ⊢
          have r1 := p_find_rg sc (V x.toNat) 8 0
          have r2 := p_find_rg (fun k => V (h 261 k).toNat) (V x.toNat) (h 254 14).toNat 0
          by_cases d1 : p_find sc (V x.toNat) 8 0 = -1
          · rw [if_pos d1] at d ⊢
            by_cases d2 : p_find (fun k => V (h 261 k).toNat) (V x.toNat) (h 254 14).toNat 0 = -1
            · rw [if_pos d2] at d; exact absurd rfl d
            · rw [if_neg d2]; omega
          · rw [if_neg d1]; omega
        rw [if_neg (fun z => z.2 (by rw [ecof]; exact (cm_ne cr).1))]
  · -- 42
    obtain ⟨hc, -, hp⟩ := pr_q_in h1
    have c9 := hc.1
    have m1 := ce_q_in (show ce_q (sg 254 25 < 1090) _ = .inr s' from m1)
    have p25 := pos 25 (by unfold mx_k; omega)
    obtain ⟨N, hN⟩ : ∃ N : Nat, sg 254 25 = (N : Int) := ⟨(sg 254 25).toNat, by omega⟩
    have iN : (sg 254 25).toNat = N := by omega
    have V2 := v2 (by omega)
    have h12 := hc.2.2.2.2
    have g5 : 0 ≤ g 223 5 ∧ g 223 5 ≤ 24 := by
      unfold r2c at V2
      rw [if_pos h12] at V2
      obtain ⟨vc0, nc, w1, -, w3, -⟩ := V2
      have := Pb.1
      omega
    have e14 := rv14
    have c0' := k13 (by omega)
    have r262 := rv262 c0'.1
    have tt := t1 hc.2.2.2.1
    rcases hc.2.2.1 with ⟨hy, hlt⟩ | ⟨hy, hlt⟩
    · have hy : y = 1 := hy
      subst hy
      have a0 : p'.1 0 = p.1 0 := by rw [hp]; rfl
      have a1 : p'.1 1 = p.1 1 := by rw [hp]; rfl
      have a2 : p'.1 2 = p.1 2 + 1 := by rw [hp]; rfl
      have a3 : p'.1 3 = p.1 3 := by rw [hp]; rfl
      have a4 : p'.1 4 = p.1 4 := by rw [hp]; rfl
      have a5 : p'.1 5 = p.1 5 := by rw [hp]; rfl
      have a8 : p'.1 8 = p.1 8 := by rw [hp]; rfl
      have a9 : p'.1 9 = p.1 9 := by rw [hp]; rfl
      have a11 : p'.1 11 = p.1 11 := by rw [hp]; rfl
      have a12 : p'.1 12 = p.1 12 := by rw [hp]; rfl
      have a13 : p'.1 13 = p.1 13 := by rw [hp]; rfl
      have a15 : p'.1 15 = p.1 15 := by rw [hp]; rfl
      have a17 : p'.1 17 = p.1 17 := by rw [hp]; rfl
      have b1 : p'.2.1 = p.2.1 := by rw [hp]
      have b2 : p'.2.2.1 = p.2.2.1 := by rw [hp]
      have hs : s' = (am_up (mi_dec (-1) 1 sty x (sg 262 (sg 254 14 - 1).toNat) (sg 262 (sg 254 14 - 1).toNat) sg) 262 (sg 254 14 - 1).toNat (sg 262 (sg 254 14 - 1).toNat + 1), sty, sso, sbs, soc) := by cases m1; rfl
      have e25 : s'.1 254 25 = sg 254 25 + 1 := by rw [hs]; dsimp only; rw [p_up_c _ _ _ _ _ (by decide)]; exact (mi_dec_rows _ _ _ _ _ _ sg).2.2.2.2.2.2.2
      have e60 : s'.1 254 60 = sg 254 60 := by rw [hs]; dsimp only; rw [p_up_c _ _ _ _ _ (by decide)]; exact mi_dec_f _ _ _ _ _ _ sg 60 (by decide)
      obtain ⟨w0, w1, w2, w3, w4, w5, w6⟩ := hrow_of (h := h) (g' := s'.1) p25 (fun a q1 q2 => by rw [hs]; dsimp only; rw [p_up_c _ _ _ _ _ (by omega)]) e25 M
      rw [iN] at w0 w1 w2 w3 w4 w5 w6
      have en : nE K' P V sc ss h sg 42 = (if m_twv V h N N 0 false = true then [(3, P x.toNat)] else []) := by
        show nt_v K' P V sc h (sg 254 25).toNat = _
        rw [iN]; unfold nt_v; rw [w3, w4, t2, List.append_nil]
      have dup := V2.dup h12 hN w1 (by rw [w0]; omega) w3
      have hce : ce true false K V P (42, x, 1, z) (g, ty, fn, on, pn, ln, st) = ce_chk true (ce_vc g (V x.toNat) = -1) (3, P x.toNat) (.inr (ce_var1 4 fn ty fn (V x.toNat) g, ty, fn + 1, on, pn, ln, st)) := by
        show ce_chk true _ _ (ce_q _ (if (1 : Int) = 1 then _ else _)) = _
        unfold ce_q
        rw [if_pos ⟨by dsimp only; omega, by dsimp only; omega⟩, if_pos rfl]
      have fr : ∀ a, ¬ (223 ≤ a ∧ a ≤ 228) → a ≠ 212 → (ce_var1 4 fn ty fn (V x.toNat) g) a = g a := fun a z1 z2 => by
        unfold ce_var1
        rw [p_up_c _ _ _ _ _ (by omega), p_up_c _ _ _ _ _ (by omega), p_up_c _ _ _ _ _ (by omega), p_up_c _ _ _ _ _ (by omega), p_up_c _ _ _ _ _ (by omega), p_up_c _ _ _ _ _ (by omega)]
      have f12 : ∀ k, k ≠ 15 → (ce_var1 4 fn ty fn (V x.toNat) g) 212 k = g 212 k := fun k z2 => by
        unfold ce_var1
        rw [p_up_c _ _ _ _ _ (by decide), p_up_c _ _ _ _ _ (by decide), p_up_c _ _ _ _ _ (by decide), p_up_c _ _ _ _ _ (by decide), p_up_c _ _ _ _ _ (by decide), p_up_c _ _ _ _ _ (by decide)]
      have f15 : (ce_var1 4 fn ty fn (V x.toNat) g) 212 15 = g 212 15 := by
        unfold ce_var1; rw [p_up_c _ _ _ _ _ (by decide), p_up_c _ _ _ _ _ (by decide), p_up_c _ _ _ _ _ (by decide), p_up_c _ _ _ _ _ (by decide), p_up_c _ _ _ _ _ (by decide), p_up_c _ _ _ _ _ (by decide)]
      have f5 : (ce_var1 4 fn ty fn (V x.toNat) g) 223 5 = g 223 5 + 1 := by unfold ce_var1; exact p_up_s _ _ _ _
      have fo : ∀ a, 224 ≤ a → a ≤ 228 → ∀ j, j ≠ (g 223 5).toNat → (ce_var1 4 fn ty fn (V x.toNat) g) a j = g a j := fun a z1 z2 j z3 => by
        unfold ce_var1
        rw [p_up_c _ _ _ _ _ (by omega), p_up_n _ _ _ _ _ _ (Or.inr z3), p_up_n _ _ _ _ _ _ (Or.inr z3), p_up_n _ _ _ _ _ _ (Or.inr z3), p_up_n _ _ _ _ _ _ (Or.inr z3), p_up_n _ _ _ _ _ _ (Or.inr z3)]
      have new : vrow K' V sc cc b20 b15 h (ce_var1 4 fn ty fn (V x.toNat) g) 224 (g 223 5).toNat N := by
        refine ⟨?_, ?_, ?_, ?_, ?_⟩
        · unfold ce_var1; rw [p_up_c _ _ _ _ _ (by decide), p_up_c _ _ _ _ _ (by decide), p_up_c _ _ _ _ _ (by decide), p_up_c _ _ _ _ _ (by decide), p_up_c _ _ _ _ _ (by decide), p_up_s]; rw [w3]
        · show (ce_var1 4 fn ty fn (V x.toNat) g) 225 _ = _; unfold ce_var1; rw [p_up_c _ _ _ _ _ (by decide), p_up_c _ _ _ _ _ (by decide), p_up_c _ _ _ _ _ (by decide), p_up_c _ _ _ _ _ (by decide), p_up_s]; unfold kdv; rw [w2]; rfl
        · show (ce_var1 4 fn ty fn (V x.toNat) g) 226 _ = _; unfold ce_var1; rw [p_up_c _ _ _ _ _ (by decide), p_up_c _ _ _ _ _ (by decide), p_up_c _ _ _ _ _ (by decide), p_up_s]; unfold plv nov; rw [w2, if_neg (by decide), if_neg (by omega), w5, show (sg 254 14 - 1).toNat = p.1 0 - 1 by omega, r262]; exact (k2a c9 h12).1
        · show (ce_var1 4 fn ty fn (V x.toNat) g) 227 _ = _; unfold ce_var1; rw [p_up_c _ _ _ _ _ (by decide), p_up_c _ _ _ _ _ (by decide), p_up_s]; rw [w4]; exact tt.1
        · show (ce_var1 4 fn ty fn (V x.toNat) g) 228 _ = _; unfold ce_var1; rw [p_up_c _ _ _ _ _ (by decide), p_up_s]; unfold nov; rw [w2, if_neg (by omega), w5, show (sg 254 14 - 1).toNat = p.1 0 - 1 by omega, r262]; exact (k2a c9 h12).1
      by_cases d : m_twv V h N N 0 false = true
      · rw [if_pos d] at en
        refine Or.inr ⟨(3, P x.toNat), ?_, c2_fault (l := nE K' P V sc ss h sg 42) B M hS L' tp H0 (Or.inl (by rw [en]; exact List.mem_singleton_self _)) (fun q hq => by rw [en, List.mem_singleton] at hq; rw [hq]; exact nle_refl _) (t := x.toNat) rfl (by rw [hp]; show x.toNat < x.toNat + 1; omega) (fun q hq => ?_) (fun z => absurd (nl (by omega)) (by omega))⟩
        · rw [hce]
          unfold ce_chk
          rw [if_pos ⟨rfl, fun z => dup.1 z d⟩]
        · rw [hs] at hq; dsimp only at hq; rw [t2] at hq; cases hq
      · rw [if_neg d] at en
        refine Or.inl ⟨(ce_var1 4 fn ty fn (V x.toNat) g, ty, fn + 1, on, pn, ln, st), ?_, ⟨⟨fun a ha => (fr a (by omega) (by omega)).trans (f1 a ha), fun k hk => (f12 k (by omega)).trans (f2 k hk)⟩, ⟨⟨by dsimp only; rw [f12 17 (by decide), a0, a9]; exact k17, fun z => by omega, fun _ => by dsimp only; rw [f12 13 (by decide), a0]; exact c0'⟩, ⟨fun z => by dsimp only; rw [f12 16 (by decide), a3]; exact k16a (by omega), fun z => by omega⟩, ⟨by dsimp only; rw [f15, a1]; omega, fun z => by dsimp only; rw [f12 14 (by decide), hs]; exact k14 (by omega), fun z => by omega⟩, ⟨fun _ _ => ⟨?_, ?_⟩, fun z z2 => by omega, fun z z2 => by omega, fun z => by omega, fun z => by omega⟩⟩, ⟨fun v hv => ?_, fun _ => ?_, fun z => by omega⟩, ⟨?_, ?_, fun z => absurd (nl (by omega)) (by omega), BN.no (by rw [en] at B; exact B) t4⟩, rr (fr 8 (by omega) (by omega)) (fr 235 (by omega) (by omega)) a8 b1 (by omega), oc0 (by omega) b2 (by omega)⟩, ⟨XP_same (fun a ha => fr a (by omega) (by omega)), rfl, by dsimp only; rw [fr 8 (by omega) (by omega)]; rfl, by dsimp only; rw [fr 235 (by omega) (by omega)]; rfl⟩⟩
        · rw [hce]
          unfold ce_chk
          rw [if_neg (fun z => z.2 (dup.2 d))]
        · have := (k2a c9 h12).1; dsimp only; omega
        · have := (k2a c9 h12).2; dsimp only; omega
        · rw [a0, a3]
          by_cases ev : v = N
          · rw [ev, w0, w1, w4]; exact ⟨by omega, by omega, tt.2⟩
          · exact v1 v (by omega)
        · rw [e25]
          exact V2.add h12 c9 hN w1 (by rw [w0]; omega) (by omega) f5 fo new (by rw [a12]; exact h12) a0 (by omega)
        · intro _; rw [hs]; exact tt
        · rw [hs]; exact t2
    · have hy : y = 0 := hy
      subst hy
      have a0 : p'.1 0 = p.1 0 := by rw [hp]; rfl
      have a1 : p'.1 1 = p.1 1 + 1 := by rw [hp]; rfl
      have a2 : p'.1 2 = p.1 2 := by rw [hp]; rfl
      have a3 : p'.1 3 = p.1 3 := by rw [hp]; rfl
      have a4 : p'.1 4 = p.1 4 := by rw [hp]; rfl
      have a5 : p'.1 5 = p.1 5 := by rw [hp]; rfl
      have a8 : p'.1 8 = p.1 8 := by rw [hp]; rfl
      have a9 : p'.1 9 = p.1 9 := by rw [hp]; rfl
      have a11 : p'.1 11 = p.1 11 := by rw [hp]; rfl
      have a12 : p'.1 12 = p.1 12 := by rw [hp]; rfl
      have a13 : p'.1 13 = p.1 13 := by rw [hp]; rfl
      have a15 : p'.1 15 = p.1 15 := by rw [hp]; rfl
      have a17 : p'.1 17 = p.1 17 := by rw [hp]; rfl
      have b1 : p'.2.1 = p.2.1 := by rw [hp]
      have b2 : p'.2.2.1 = p.2.2.1 := by rw [hp]
      have hs : s' = (am_up (am_up (mi_dec (-1) 0 sty x (sg 254 60) (sg 254 16) sg) 254 16 (sg 254 16 + 1)) 254 60 (sg 254 60 + 1), sty, sso, sbs, soc) := by cases m1; rfl
      have e25 : s'.1 254 25 = sg 254 25 + 1 := by rw [hs]; dsimp only; rw [p_up_n _ _ _ _ _ _ (Or.inr (by decide)), p_up_n _ _ _ _ _ _ (Or.inr (by decide))]; exact (mi_dec_rows _ _ _ _ _ _ sg).2.2.2.2.2.2.2
      have e60 : s'.1 254 60 = sg 254 60 + 1 := by rw [hs]; dsimp only; exact p_up_s _ _ _ _
      obtain ⟨w0, w1, w2, w3, w4, w5, w6⟩ := hrow_of (h := h) (g' := s'.1) p25 (fun a q1 q2 => by rw [hs]; dsimp only; rw [p_up_c _ _ _ _ _ (by omega), p_up_c _ _ _ _ _ (by omega)]) e25 M
      rw [iN] at w0 w1 w2 w3 w4 w5 w6
      have en : nE K' P V sc ss h sg 42 = (if m_twv V h N N 0 false = true then [(3, P x.toNat)] else []) := by
        show nt_v K' P V sc h (sg 254 25).toNat = _
        rw [iN]; unfold nt_v; rw [w3, w4, t2, List.append_nil]
      have dup := V2.dup h12 hN w1 (by rw [w0]; omega) w3
      have hce : ce true false K V P (42, x, 0, z) (g, ty, fn, on, pn, ln, st) = ce_chk true (ce_vc g (V x.toNat) = -1) (3, P x.toNat) (.inr (am_up (ce_var1 3 (g 212 15) ty on (V x.toNat) g) 212 15 (g 212 15 + 1), ty, fn, on + 1, pn, ln, st)) := by
        show ce_chk true _ _ (ce_q _ (if (0 : Int) = 1 then _ else _)) = _
        unfold ce_q
        rw [if_pos ⟨by dsimp only; omega, by dsimp only; omega⟩, if_neg (by decide)]
      have fr : ∀ a, ¬ (223 ≤ a ∧ a ≤ 228) → a ≠ 212 → (am_up (ce_var1 3 (g 212 15) ty on (V x.toNat) g) 212 15 (g 212 15 + 1)) a = g a := fun a z1 z2 => by
        unfold ce_var1
        rw [p_up_c _ _ _ _ _ z2, p_up_c _ _ _ _ _ (by omega), p_up_c _ _ _ _ _ (by omega), p_up_c _ _ _ _ _ (by omega), p_up_c _ _ _ _ _ (by omega), p_up_c _ _ _ _ _ (by omega), p_up_c _ _ _ _ _ (by omega)]
      have f12 : ∀ k, k ≠ 15 → (am_up (ce_var1 3 (g 212 15) ty on (V x.toNat) g) 212 15 (g 212 15 + 1)) 212 k = g 212 k := fun k z2 => by
        unfold ce_var1
        rw [p_up_n _ _ _ _ _ _ (Or.inr z2), p_up_c _ _ _ _ _ (by decide), p_up_c _ _ _ _ _ (by decide), p_up_c _ _ _ _ _ (by decide), p_up_c _ _ _ _ _ (by decide), p_up_c _ _ _ _ _ (by decide), p_up_c _ _ _ _ _ (by decide)]
      have f15 : (am_up (ce_var1 3 (g 212 15) ty on (V x.toNat) g) 212 15 (g 212 15 + 1)) 212 15 = g 212 15 + 1 := by
        exact p_up_s _ _ _ _
      have f5 : (am_up (ce_var1 3 (g 212 15) ty on (V x.toNat) g) 212 15 (g 212 15 + 1)) 223 5 = g 223 5 + 1 := by unfold ce_var1; rw [p_up_c _ _ _ _ _ (by decide)]; exact p_up_s _ _ _ _
      have fo : ∀ a, 224 ≤ a → a ≤ 228 → ∀ j, j ≠ (g 223 5).toNat → (am_up (ce_var1 3 (g 212 15) ty on (V x.toNat) g) 212 15 (g 212 15 + 1)) a j = g a j := fun a z1 z2 j z3 => by
        unfold ce_var1
        rw [p_up_c _ _ _ _ _ (by omega), p_up_c _ _ _ _ _ (by omega), p_up_n _ _ _ _ _ _ (Or.inr z3), p_up_n _ _ _ _ _ _ (Or.inr z3), p_up_n _ _ _ _ _ _ (Or.inr z3), p_up_n _ _ _ _ _ _ (Or.inr z3), p_up_n _ _ _ _ _ _ (Or.inr z3)]
      have new : vrow K' V sc cc b20 b15 h (am_up (ce_var1 3 (g 212 15) ty on (V x.toNat) g) 212 15 (g 212 15 + 1)) 224 (g 223 5).toNat N := by
        refine ⟨?_, ?_, ?_, ?_, ?_⟩
        · unfold ce_var1; rw [p_up_c _ _ _ _ _ (by decide), p_up_c _ _ _ _ _ (by decide), p_up_c _ _ _ _ _ (by decide), p_up_c _ _ _ _ _ (by decide), p_up_c _ _ _ _ _ (by decide), p_up_c _ _ _ _ _ (by decide), p_up_s]; rw [w3]
        · show (am_up (ce_var1 3 (g 212 15) ty on (V x.toNat) g) 212 15 (g 212 15 + 1)) 225 _ = _; unfold ce_var1; rw [p_up_c _ _ _ _ _ (by decide), p_up_c _ _ _ _ _ (by decide), p_up_c _ _ _ _ _ (by decide), p_up_c _ _ _ _ _ (by decide), p_up_c _ _ _ _ _ (by decide), p_up_s]; unfold kdv; rw [w2]; rfl
        · show (am_up (ce_var1 3 (g 212 15) ty on (V x.toNat) g) 212 15 (g 212 15 + 1)) 226 _ = _; unfold ce_var1; rw [p_up_c _ _ _ _ _ (by decide), p_up_c _ _ _ _ _ (by decide), p_up_c _ _ _ _ _ (by decide), p_up_c _ _ _ _ _ (by decide), p_up_s]; unfold plv nov; rw [w2, if_pos rfl, w6, k15, rv16]
        · show (am_up (ce_var1 3 (g 212 15) ty on (V x.toNat) g) 212 15 (g 212 15 + 1)) 227 _ = _; unfold ce_var1; rw [p_up_c _ _ _ _ _ (by decide), p_up_c _ _ _ _ _ (by decide), p_up_c _ _ _ _ _ (by decide), p_up_s]; rw [w4]; exact tt.1
        · show (am_up (ce_var1 3 (g 212 15) ty on (V x.toNat) g) 212 15 (g 212 15 + 1)) 228 _ = _; unfold ce_var1; rw [p_up_c _ _ _ _ _ (by decide), p_up_c _ _ _ _ _ (by decide), p_up_s]; unfold nov; rw [w2, if_neg (by omega), w5]; exact (k2a c9 h12).2
      by_cases d : m_twv V h N N 0 false = true
      · rw [if_pos d] at en
        refine Or.inr ⟨(3, P x.toNat), ?_, c2_fault (l := nE K' P V sc ss h sg 42) B M hS L' tp H0 (Or.inl (by rw [en]; exact List.mem_singleton_self _)) (fun q hq => by rw [en, List.mem_singleton] at hq; rw [hq]; exact nle_refl _) (t := x.toNat) rfl (by rw [hp]; show x.toNat < x.toNat + 1; omega) (fun q hq => ?_) (fun z => absurd (nl (by omega)) (by omega))⟩
        · rw [hce]
          unfold ce_chk
          rw [if_pos ⟨rfl, fun z => dup.1 z d⟩]
        · rw [hs] at hq; dsimp only at hq; rw [t2] at hq; cases hq
      · rw [if_neg d] at en
        refine Or.inl ⟨(am_up (ce_var1 3 (g 212 15) ty on (V x.toNat) g) 212 15 (g 212 15 + 1), ty, fn, on + 1, pn, ln, st), ?_, ⟨⟨fun a ha => (fr a (by omega) (by omega)).trans (f1 a ha), fun k hk => (f12 k (by omega)).trans (f2 k hk)⟩, ⟨⟨by dsimp only; rw [f12 17 (by decide), a0, a9]; exact k17, fun z => by omega, fun _ => by dsimp only; rw [f12 13 (by decide), a0]; exact c0'⟩, ⟨fun z => by dsimp only; rw [f12 16 (by decide), a3]; exact k16a (by omega), fun z => by omega⟩, ⟨by dsimp only; rw [f15, a1]; omega, fun z => by dsimp only; rw [f12 14 (by decide), hs]; exact k14 (by omega), fun z => by omega⟩, ⟨fun _ _ => ⟨?_, ?_⟩, fun z z2 => by omega, fun z z2 => by omega, fun z => by omega, fun z => by omega⟩⟩, ⟨fun v hv => ?_, fun _ => ?_, fun z => by omega⟩, ⟨?_, ?_, fun z => absurd (nl (by omega)) (by omega), BN.no (by rw [en] at B; exact B) t4⟩, rr (fr 8 (by omega) (by omega)) (fr 235 (by omega) (by omega)) a8 b1 (by omega), oc0 (by omega) b2 (by omega)⟩, ⟨XP_same (fun a ha => fr a (by omega) (by omega)), rfl, by dsimp only; rw [fr 8 (by omega) (by omega)]; rfl, by dsimp only; rw [fr 235 (by omega) (by omega)]; rfl⟩⟩
        · rw [hce]
          unfold ce_chk
          rw [if_neg (fun z => z.2 (dup.2 d))]
        · have := (k2a c9 h12).1; dsimp only; omega
        · have := (k2a c9 h12).2; dsimp only; omega
        · rw [a0, a3]
          by_cases ev : v = N
          · rw [ev, w0, w1, w4]; exact ⟨by omega, by omega, tt.2⟩
          · exact v1 v (by omega)
        · rw [e25]
          exact V2.add h12 c9 hN w1 (by rw [w0]; omega) (by omega) f5 fo new (by rw [a12]; exact h12) a0 (by omega)
        · intro _; rw [hs]; exact tt
        · rw [hs]; exact t2
  · -- 43
    obtain ⟨hc, -, hp⟩ := pr_q_in h1
    have a0 : p'.1 0 = p.1 0 := by rw [hp]; rfl
    have a1 : p'.1 1 = p.1 1 := by rw [hp]; rfl
    have a2 : p'.1 2 = p.1 2 := by rw [hp]; rfl
    have a3 : p'.1 3 = p.1 3 := by rw [hp]; rfl
    have a4 : p'.1 4 = p.1 4 := by rw [hp]; rfl
    have a5 : p'.1 5 = p.1 5 := by rw [hp]; rfl
    have a8 : p'.1 8 = p.1 8 := by rw [hp]; rfl
    have a9 : p'.1 9 = 3 := by rw [hp]; rfl
    have a11 : p'.1 11 = p.1 11 := by rw [hp]; rfl
    have a12 : p'.1 12 = p.1 12 := by rw [hp]; rfl
    have a13 : p'.1 13 = p.1 13 := by rw [hp]; rfl
    have a15 : p'.1 15 = p.1 15 := by rw [hp]; rfl
    have a17 : p'.1 17 = p.1 17 := by rw [hp]; rfl
    have b1 : p'.2.1 = p.2.1 := by rw [hp]
    have b2 : p'.2.2.1 = p.2.2.1 := by rw [hp]
    cases m1
    have c9 := hc.1
    have c0' := k13 (by omega)
    have es : am_up g 216 (g 212 13).toNat fn = g := p_up_self (by
      rw [f1 216 (by omega), c0'.2, show ((b20 : Int) + (p.1 0 : Int) - 1).toNat = b20 + (p.1 0 - 1) by omega, (F.2.1 (p.1 0 - 1) (by omega)).2.2, Z'.1 (p.1 0 - 1) (by omega), (k2a c9 hc.2.2).1]
      exact rv262 c0'.1)
    refine Or.inl ⟨(g, ty, fn, on, pn, ln, st), ?_, ⟨⟨f1, f2⟩, ⟨⟨?_, fun z => by omega, fun _ => by rw [a0]; exact c0'⟩, ⟨fun z => by rw [a3]; exact k16a (by omega), fun z => by omega⟩, ⟨by rw [a1]; exact k15, fun z => k14 (by omega), fun z => by omega⟩, ⟨fun z z2 => by omega, fun z z2 => by omega, fun z z2 => by omega, fun z => by omega, fun z => by omega⟩⟩, ⟨fun v hv => by rw [a0, a3]; exact v1 v hv, fun z => c2k (fun _ _ _ => rfl) a12 a0 a1 a2 (fun w => by omega) (by omega), fun z => by omega⟩, ⟨by rw [a11]; exact t1, t2, fun z => absurd (nl (by omega)) (by omega), BN.no B t4⟩, rr rfl rfl a8 b1 (by omega), oc0 (by omega) b2 (by omega)⟩, ⟨XP_same (fun a ha => rfl), rfl, rfl, rfl⟩⟩
    · show ce_h _ (ce_q (0 ≤ g 212 20 ∧ g 212 20 ≤ g 212 13 ∧ g 212 13 < 24) (.inr (am_up g 216 (g 212 13).toNat fn))) = _
      rw [es]
      unfold ce_q
      rw [if_pos ⟨by rw [f2 20 (by omega), F.1.2.2.2.2.1]; omega, by rw [f2 20 (by omega), F.1.2.2.2.2.1]; omega, by omega⟩]
      rfl
    · dsimp only; rw [a0, a9, if_neg (by decide)]; rw [if_neg (by omega)] at k17; exact k17
  · -- 44
    obtain ⟨hc, -, hp⟩ := pr_q_in h1
    have a0 : p'.1 0 = p.1 0 := by rw [hp]; rfl
    have a1 : p'.1 1 = p.1 1 := by rw [hp]; rfl
    have a2 : p'.1 2 = p.1 2 := by rw [hp]; rfl
    have a3 : p'.1 3 = p.1 3 := by rw [hp]; rfl
    have a4 : p'.1 4 = p.1 4 := by rw [hp]; rfl
    have a5 : p'.1 5 = p.1 5 := by rw [hp]; rfl
    have a8 : p'.1 8 = p.1 8 := by rw [hp]; rfl
    have a9 : p'.1 9 = p.1 9 := by rw [hp]; rfl
    have a11 : p'.1 11 = 0 := by rw [hp]; rfl
    have a12 : p'.1 12 = p.1 12 := by rw [hp]; rfl
    have a13 : p'.1 13 = p.1 13 := by rw [hp]; rfl
    have a15 : p'.1 15 = p.1 15 := by rw [hp]; rfl
    have a17 : p'.1 17 = 1 := by rw [hp]; rfl
    have b1 : p'.2.1 = p.2.1 := by rw [hp]
    have b2 : p'.2.2.1 = p.2.2.1 := by rw [hp]
    cases m1
    have c9 := hc.1
    have g12 : ∀ k, k ≠ 14 → am_up g 212 14 (V x.toNat) 212 k = g 212 k := fun k hk => p_up_n _ _ _ _ _ _ (Or.inr hk)
    have ga : ∀ a, a ≠ 212 → am_up g 212 14 (V x.toNat) a = g a := fun a ha => p_up_c _ _ _ _ _ ha
    refine Or.inl ⟨(am_up g 212 14 (V x.toNat), ty, fn, on, pn, ln, st), rfl, ⟨⟨fun a ha => (ga a (by omega)).trans (f1 a ha), fun k hk => (g12 k (by omega)).trans (f2 k hk)⟩, ⟨⟨by dsimp only; rw [g12 17 (by decide), a0, a9]; exact k17, fun z => by omega, fun _ => by dsimp only; rw [g12 13 (by decide), a0]; exact k13 (by omega)⟩, ⟨fun z => by dsimp only; rw [g12 16 (by decide), a3]; exact k16a (by omega), fun z => by omega⟩, ⟨by dsimp only; rw [g12 15 (by decide), a1]; exact k15, fun z => by dsimp only; exact p_up_s _ _ _ _, fun z => by omega⟩, ⟨fun z z2 => by omega, fun z z2 => by omega, fun z z2 => by omega, fun z => by omega, fun z => by omega⟩⟩, ⟨fun v hv => by rw [a0, a3]; exact v1 v hv, fun z => c2k (fun a _ _ => ga a (by omega)) a12 a0 a1 a2 (fun w => by omega) (by omega), fun z => by omega⟩, ⟨fun z => by omega, by unfold nt_ty; rw [if_neg (fun z => z.1 rfl)], fun z => absurd (nl (by omega)) (by omega), BN.no B t4⟩, rr (ga 8 (by decide)) (ga 235 (by decide)) a8 b1 (by omega), oc0 (by omega) b2 (by omega)⟩, ⟨XP_same (fun a ha => ga a (by omega)), rfl, by dsimp only; rw [ga 8 (by decide)]; rfl, by dsimp only; rw [ga 235 (by decide)]; rfl⟩⟩
  · -- 45
    obtain ⟨hc, -, hp⟩ := pr_q_in h1
    have a0 : p'.1 0 = p.1 0 := by rw [hp]; rfl
    have a1 : p'.1 1 = p.1 1 := by rw [hp]; rfl
    have a2 : p'.1 2 = p.1 2 := by rw [hp]; rfl
    have a3 : p'.1 3 = p.1 3 + 1 := by rw [hp]; rfl
    have a4 : p'.1 4 = 0 := by rw [hp]; rfl
    have a5 : p'.1 5 = 0 := by rw [hp]; rfl
    have a8 : p'.1 8 = p.1 8 := by rw [hp]; rfl
    have a9 : p'.1 9 = 4 := by rw [hp]; rfl
    have a11 : p'.1 11 = p.1 11 := by rw [hp]; rfl
    have a12 : p'.1 12 = p.1 12 := by rw [hp]; rfl
    have a13 : p'.1 13 = 0 := by rw [hp]; rfl
    have a15 : p'.1 15 = p.1 15 := by rw [hp]; rfl
    have a17 : p'.1 17 = p.1 17 := by rw [hp]; rfl
    have b1 : p'.2.1 = p.2.1 := by rw [hp]
    have b2 : p'.2.2.1 = p.2.2.1 := by rw [hp]
    have c9 := hc.1.1
    have c17 := hc.1.2
    have hs : s' = (am_up (am_up (am_up (am_up (am_up (am_up (am_up (am_up (am_up sg 263 (sg 254 17).toNat (sg 254 14 - 1)) 264 (sg 254 17).toNat sso) 265 (sg 254 17).toNat x) 266 (sg 254 17).toNat sty) 267 (sg 254 17).toNat 0) 268 (sg 254 17).toNat 0) 269 (sg 254 17).toNat (sg 254 33)) 254 17 (sg 254 17 + 1)) 254 50 0, sty, sso, sbs, soc) := by cases m1; rfl
    have ef : ∀ k, k ≠ 17 → k ≠ 50 → s'.1 254 k = sg 254 k := fun k z1 z2 => by
      rw [hs]; dsimp only
      rw [p_up_n _ _ _ _ _ _ (Or.inr z2), p_up_n _ _ _ _ _ _ (Or.inr z1), p_up_c _ _ _ _ _ (by decide), p_up_c _ _ _ _ _ (by decide), p_up_c _ _ _ _ _ (by decide), p_up_c _ _ _ _ _ (by decide), p_up_c _ _ _ _ _ (by decide), p_up_c _ _ _ _ _ (by decide), p_up_c _ _ _ _ _ (by decide)]
    have e17 : s'.1 254 17 = sg 254 17 + 1 := by rw [hs]; dsimp only; rw [p_up_n _ _ _ _ _ _ (Or.inr (by decide)), p_up_s]
    have i17 : (sg 254 17).toNat = p.1 3 := by omega
    have lt : ((p.1 3 : Nat) : Int) < s'.1 254 17 := by omega
    have h263 : h 263 (p.1 3) = (p.1 0 : Int) - 1 := by
      rw [M.2 263 17 rfl (p.1 3) lt, hs]
      dsimp only
      rw [p_up_c _ _ _ _ _ (by decide), p_up_c _ _ _ _ _ (by decide), p_up_c _ _ _ _ _ (by decide), p_up_c _ _ _ _ _ (by decide), p_up_c _ _ _ _ _ (by decide), p_up_c _ _ _ _ _ (by decide), p_up_c _ _ _ _ _ (by decide), p_up_c _ _ _ _ _ (by decide), i17, p_up_s, rv14]
    have h264 : h 264 (p.1 3) = sso := by
      rw [M.2 264 17 rfl (p.1 3) lt, hs]
      dsimp only
      rw [p_up_c _ _ _ _ _ (by decide), p_up_c _ _ _ _ _ (by decide), p_up_c _ _ _ _ _ (by decide), p_up_c _ _ _ _ _ (by decide), p_up_c _ _ _ _ _ (by decide), p_up_c _ _ _ _ _ (by decide), p_up_c _ _ _ _ _ (by decide), i17, p_up_s]
    have h265 : h 265 (p.1 3) = x := by
      rw [M.2 265 17 rfl (p.1 3) lt, hs]
      dsimp only
      rw [p_up_c _ _ _ _ _ (by decide), p_up_c _ _ _ _ _ (by decide), p_up_c _ _ _ _ _ (by decide), p_up_c _ _ _ _ _ (by decide), p_up_c _ _ _ _ _ (by decide), p_up_c _ _ _ _ _ (by decide), i17, p_up_s]
    have h266 : h 266 (p.1 3) = sty := by
      rw [M.2 266 17 rfl (p.1 3) lt, hs]
      dsimp only
      rw [p_up_c _ _ _ _ _ (by decide), p_up_c _ _ _ _ _ (by decide), p_up_c _ _ _ _ _ (by decide), p_up_c _ _ _ _ _ (by decide), p_up_c _ _ _ _ _ (by decide), i17, p_up_s]
    have c0' := k13 (by omega)
    have e16 := k16a (by omega)
    have sd := sub_dup F Sy (k := p.1 3) (by omega)
    rw [h263, h265, show (b20 : Int) + ((p.1 0 : Int) - 1) = g 212 13 by omega, ← e16, ← (tab _).2.1] at sd
    have en : nE K' P V sc ss h sg 45 = (if m_tws V h (p.1 3) (p.1 3) false = true then [(3, P x.toNat)] else []) := by
      show nt_s K' P V sc h (sg 254 17).toNat = _
      rw [i17]; unfold nt_s; rw [h265, h266, t2, List.append_nil]
    have hce : ce true false K V P (45, x, y, z) (g, ty, fn, on, pn, ln, st) = ce_h (g, ty, fn, on, pn, ln, st) (ce_chk true (ce_sub g (g 212 13) (V x.toNat) = g 212 16) (3, P x.toNat) (.inr g)) := by
      show ce_h _ (ce_chk true _ _ (if true = true then _ else _)) = _
      rw [if_pos rfl]
    by_cases d : m_tws V h (p.1 3) (p.1 3) false = true
    · rw [if_pos d] at en
      refine Or.inr ⟨(3, P x.toNat), ?_, c2_fault (l := nE K' P V sc ss h sg 45) B M hS L' tp H0 (Or.inl (by rw [en]; exact List.mem_singleton_self _)) (fun q hq => by rw [en, List.mem_singleton] at hq; rw [hq]; exact nle_refl _) (t := x.toNat) rfl (by rw [hp]; show x.toNat < x.toNat + 1; omega) (fun q hq => ?_) (fun z => absurd (nl (by omega)) (by omega))⟩
      · rw [hce]
        unfold ce_chk
        rw [if_pos ⟨rfl, fun z => sd.1 z d⟩]
        rfl
      · rw [hs] at hq; dsimp only at hq; rw [t2] at hq; cases hq
    · rw [if_neg d] at en
      refine Or.inl ⟨(g, ty, fn, on, pn, ln, st), ?_, ⟨⟨f1, f2⟩, ⟨⟨?_, fun z => by omega, fun _ => by rw [a0]; exact c0'⟩, ⟨fun z => by omega, fun _ => ⟨by omega, by dsimp only; omega⟩⟩, ⟨by rw [a1]; exact k15, fun z => by rw [hs]; exact k14 (by omega), fun _ => ?_⟩, ⟨fun z z2 => by omega, fun z z2 => by omega, fun z z2 => by omega, fun _ => a5, fun z => by omega⟩⟩, ⟨fun v hv => ?_, fun _ => ?_, fun _ => ?_⟩, ⟨by rw [a11, hs]; exact t1, by rw [hs]; exact t2, fun z => absurd (nl (by omega)) (by omega), BN.no (by rw [en] at B; exact B) t4⟩, rr rfl rfl a8 b1 (by omega), oc0 (by omega) b2 (by omega)⟩, ⟨XP_same (fun a ha => rfl), rfl, rfl, rfl⟩⟩
      · rw [hce]
        unfold ce_chk
        rw [if_neg (fun z => z.2 (sd.2 d))]
        rfl
      · dsimp only; rw [a0, a9, if_neg (by decide)]; rw [if_neg (by omega)] at k17; exact k17
      · rw [a3, a0, show p.1 3 + 1 - 1 = p.1 3 by omega, h264, h263, hs]; exact ⟨rfl, rfl⟩
      · rw [ef 25 (by decide) (by decide)] at hv; have := v1 v hv; rw [a0, a3]; exact ⟨this.1, by omega, this.2.2⟩
      · rw [ef 25 (by decide) (by decide)]; exact c2k (fun _ _ _ => rfl) a12 a0 a1 a2 (fun w => by omega) (by omega)
      · unfold r2s; rw [a13, if_neg (by decide), ef 25 (by decide) (by decide)]; intro v hv; have := (v1 v hv).2.1; rw [a3]; omega
  · -- 51
    obtain ⟨hc, -, hp⟩ := pr_q_in h1
    have a0 : p'.1 0 = p.1 0 := by rw [hp]; rfl
    have a1 : p'.1 1 = p.1 1 := by rw [hp]; rfl
    have a2 : p'.1 2 = p.1 2 := by rw [hp]; rfl
    have a3 : p'.1 3 = p.1 3 := by rw [hp]; rfl
    have a4 : p'.1 4 = p.1 4 := by rw [hp]; rfl
    have a5 : p'.1 5 = p.1 5 := by rw [hp]; rfl
    have a8 : p'.1 8 = p.1 8 := by rw [hp]; rfl
    have a9 : p'.1 9 = p.1 9 := by rw [hp]; rfl
    have a11 : p'.1 11 = p.1 11 := by rw [hp]; rfl
    have a12 : p'.1 12 = p.1 12 := by rw [hp]; rfl
    have a13 : p'.1 13 = 1 := by rw [hp]; rfl
    have a15 : p'.1 15 = p.1 15 := by rw [hp]; rfl
    have a17 : p'.1 17 = p.1 17 := by rw [hp]; rfl
    have b1 : p'.2.1 = p.2.1 := by rw [hp]
    have b2 : p'.2.2.1 = p.2.2.1 := by rw [hp]
    cases m1
    have c9 := hc.1
    have ga : ∀ a, a ≠ 229 → am_up g 229 5 0 a = g a := fun a ha => p_up_c _ _ _ _ _ ha
    refine Or.inl ⟨(am_up g 229 5 0, ty, fn, on, 0, ln, st), rfl, ⟨⟨fun a ha => (ga a (by omega)).trans (f1 a ha), fun k hk => by dsimp only; rw [ga 212 (by decide)]; exact f2 k hk⟩, ⟨⟨by dsimp only; rw [ga 212 (by decide), a0, a9]; exact k17, fun z => by omega, fun _ => by dsimp only; rw [ga 212 (by decide), a0]; exact k13 (by omega)⟩, ⟨fun z => by omega, fun _ => by dsimp only; rw [ga 212 (by decide), a3]; exact k16 (by omega)⟩, ⟨by dsimp only; rw [ga 212 (by decide), a1]; exact k15, fun z => by dsimp only; rw [ga 212 (by decide)]; exact k14 (by omega), fun z => by rw [a3, a0]; exact k4 (by omega)⟩, ⟨fun z z2 => by omega, fun z z2 => by omega, fun z z2 => by have := hc.2.1; dsimp only; omega, fun z => by rw [a5]; exact hc.2.2.2.2, fun z => by omega⟩⟩, ⟨fun v hv => by rw [a0, a3]; exact v1 v hv, fun z => c2k (fun a _ _ => ga a (by omega)) a12 a0 a1 a2 (fun w => by omega) (by omega), fun z => ?_⟩, ⟨by rw [a11]; exact t1, t2, fun z => absurd (nl (by omega)) (by omega), BN.no B t4⟩, rr (ga 8 (by decide)) (ga 235 (by decide)) a8 b1 (by omega), oc0 (by omega) b2 (by omega)⟩, ⟨XP_same (fun a ha => ga a (by omega)), rfl, by dsimp only; rw [ga 8 (by decide)]; rfl, by dsimp only; rw [ga 235 (by decide)]; rfl⟩⟩
    have w := v3 (by omega)
    unfold r2s at w ⊢
    rw [if_neg (by have := hc.2.2.2.1; omega)] at w
    rw [if_pos a13]
    have p25 := pos 25 (by unfold mx_k; omega)
    refine ⟨(sg 254 25).toNat, 0, ?_, by dsimp only; omega, by omega, fun v hv => ?_, fun j hj => by omega, fun j hj => by omega, fun j hj => by omega⟩
    · dsimp only; rw [p_up_s]; rfl
    · constructor
      · intro u; rw [a3] at u; exact absurd u (w v hv)
      · intro u; omega
  · -- 46
    obtain ⟨hc, -, hp⟩ := pr_q_in h1
    have a0 : p'.1 0 = p.1 0 := by rw [hp]; rfl
    have a1 : p'.1 1 = p.1 1 := by rw [hp]; rfl
    have a2 : p'.1 2 = p.1 2 := by rw [hp]; rfl
    have a3 : p'.1 3 = p.1 3 := by rw [hp]; rfl
    have a4 : p'.1 4 = p.1 4 + 1 := by rw [hp]; rfl
    have a5 : p'.1 5 = p.1 5 := by rw [hp]; rfl
    have a8 : p'.1 8 = p.1 8 := by rw [hp]; rfl
    have a9 : p'.1 9 = p.1 9 := by rw [hp]; rfl
    have a11 : p'.1 11 = p.1 11 := by rw [hp]; rfl
    have a12 : p'.1 12 = p.1 12 := by rw [hp]; rfl
    have a13 : p'.1 13 = p.1 13 := by rw [hp]; rfl
    have a15 : p'.1 15 = p.1 15 := by rw [hp]; rfl
    have a17 : p'.1 17 = p.1 17 := by rw [hp]; rfl
    have b1 : p'.2.1 = p.2.1 := by rw [hp]
    have b2 : p'.2.2.1 = p.2.2.1 := by rw [hp]
    have c9 := hc.1
    have m1 := ce_q_in (show ce_q (sg 254 25 < 1090) _ = .inr s' from m1)
    have p25 := pos 25 (by unfold mx_k; omega)
    obtain ⟨N, hN⟩ : ∃ N : Nat, sg 254 25 = (N : Int) := ⟨(sg 254 25).toNat, by omega⟩
    have iN : (sg 254 25).toNat = N := by omega
    have V3 := v3 (by omega)
    have h13 := hc.2.2.2.2
    have g5 : 0 ≤ g 229 5 ∧ g 229 5 ≤ 24 := by
      unfold r2s at V3
      rw [if_pos h13] at V3
      obtain ⟨vs0, ns, w1, -, w3, -⟩ := V3
      have := Pb.2
      omega
    have c0' := k13 (by omega)
    have c3' := k16 (by omega)
    have k4' := k4 (by omega)
    have e14 := k14 (Q.2.2.2.2.1 (by omega))
    have rsub := rv267 c3'.1
    have tt := t1 hc.2.2.2.1
    have isub : (sg 254 17 - 1).toNat = p.1 3 - 1 := by omega
    have hs : s' = (am_up (mi_dec (sg 254 17 - 1) 2 sty x (sg 267 (sg 254 17 - 1).toNat) (sg 267 (sg 254 17 - 1).toNat) sg) 267 (sg 254 17 - 1).toNat (sg 267 (sg 254 17 - 1).toNat + 1), sty, sso, sbs, soc) := by cases m1; rfl
    have e25 : s'.1 254 25 = sg 254 25 + 1 := by rw [hs]; dsimp only; rw [p_up_c _ _ _ _ _ (by decide)]; exact (mi_dec_rows _ _ _ _ _ _ sg).2.2.2.2.2.2.2
    obtain ⟨w0, w1, w2, w3, w4, w5, w6⟩ := hrow_of (h := h) (g' := s'.1) p25 (fun a q1 q2 => by rw [hs]; dsimp only; rw [p_up_c _ _ _ _ _ (by omega)]) e25 M
    rw [iN] at w0 w1 w2 w3 w4 w5 w6
    have en : nE K' P V sc ss h sg 46 = (if m_twv V h N N 0 false = true then [(3, P x.toNat)] else []) := by
      show nt_v K' P V sc h (sg 254 25).toNat = _
      rw [iN]; unfold nt_v; rw [w3, w4, t2, List.append_nil]
    have dup := V3.dup h13 hN (by rw [w1]; omega) (by rw [w0]; omega) w3
    have hce : ce true false K V P (46, x, y, z) (g, ty, fn, on, pn, ln, st) = ce_chk true (ce_vs g (V x.toNat) = -1) (3, P x.toNat) (.inr (ce_var2 1 (if g 212 14 = 3 then pn + 1 else pn) ty (if g 212 14 = 3 then pn + 1 else pn) (V x.toNat) g, ty, fn, on, pn + 1, ln, st)) := by
      show ce_chk true _ _ (ce_q _ _) = _
      unfold ce_q
      rw [if_pos (by dsimp only; omega)]
    have no' : nov h N = if g 212 14 = 3 then pn + 1 else pn := by
      unfold nov
      rw [w2, w1, w5, isub]
      rw [k4'.1, ← e14]
      by_cases d3 : g 212 14 = 3
      · rw [if_pos ⟨rfl, d3⟩, if_pos d3, rsub.1, k2c c9 h13]
      · rw [if_neg (fun z => d3 z.2), if_neg d3, rsub.1, k2c c9 h13]
    have fr : ∀ a, ¬ (229 ≤ a ∧ a ≤ 234) → ce_var2 1 (if g 212 14 = 3 then pn + 1 else pn) ty (if g 212 14 = 3 then pn + 1 else pn) (V x.toNat) g a = g a := fun a z1 => by
      unfold ce_var2
      rw [p_up_c _ _ _ _ _ (by omega), p_up_c _ _ _ _ _ (by omega), p_up_c _ _ _ _ _ (by omega), p_up_c _ _ _ _ _ (by omega), p_up_c _ _ _ _ _ (by omega), p_up_c _ _ _ _ _ (by omega)]
    have f5 : ce_var2 1 (if g 212 14 = 3 then pn + 1 else pn) ty (if g 212 14 = 3 then pn + 1 else pn) (V x.toNat) g 229 5 = g 229 5 + 1 := by unfold ce_var2; exact p_up_s _ _ _ _
    have fo : ∀ a, 230 ≤ a → a ≤ 234 → ∀ j, j ≠ (g 229 5).toNat → ce_var2 1 (if g 212 14 = 3 then pn + 1 else pn) ty (if g 212 14 = 3 then pn + 1 else pn) (V x.toNat) g a j = g a j := fun a z1 z2 j z3 => by
      unfold ce_var2
      rw [p_up_c _ _ _ _ _ (by omega), p_up_n _ _ _ _ _ _ (Or.inr z3), p_up_n _ _ _ _ _ _ (Or.inr z3), p_up_n _ _ _ _ _ _ (Or.inr z3), p_up_n _ _ _ _ _ _ (Or.inr z3), p_up_n _ _ _ _ _ _ (Or.inr z3)]
    have new : vrow K' V sc cc b20 b15 h (ce_var2 1 (if g 212 14 = 3 then pn + 1 else pn) ty (if g 212 14 = 3 then pn + 1 else pn) (V x.toNat) g) 230 (g 229 5).toNat N := by
      refine ⟨?_, ?_, ?_, ?_, ?_⟩
      · unfold ce_var2; rw [p_up_c _ _ _ _ _ (by decide), p_up_c _ _ _ _ _ (by decide), p_up_c _ _ _ _ _ (by decide), p_up_c _ _ _ _ _ (by decide), p_up_c _ _ _ _ _ (by decide), p_up_s, w3]
      · show ce_var2 _ _ _ _ _ _ 231 _ = _; unfold ce_var2; rw [p_up_c _ _ _ _ _ (by decide), p_up_c _ _ _ _ _ (by decide), p_up_c _ _ _ _ _ (by decide), p_up_c _ _ _ _ _ (by decide), p_up_s]; unfold kdv; rw [w2]; rfl
      · show ce_var2 _ _ _ _ _ _ 232 _ = _; unfold ce_var2; rw [p_up_c _ _ _ _ _ (by decide), p_up_c _ _ _ _ _ (by decide), p_up_c _ _ _ _ _ (by decide), p_up_s]; unfold plv; rw [if_neg (c := h 272 N = 0) (by omega), no']
      · show ce_var2 _ _ _ _ _ _ 233 _ = _; unfold ce_var2; rw [p_up_c _ _ _ _ _ (by decide), p_up_c _ _ _ _ _ (by decide), p_up_s, w4]; exact tt.1
      · show ce_var2 _ _ _ _ _ _ 234 _ = _; unfold ce_var2; rw [p_up_c _ _ _ _ _ (by decide), p_up_s, no']
    by_cases d : m_twv V h N N 0 false = true
    · rw [if_pos d] at en
      refine Or.inr ⟨(3, P x.toNat), ?_, c2_fault (l := nE K' P V sc ss h sg 46) B M hS L' tp H0 (Or.inl (by rw [en]; exact List.mem_singleton_self _)) (fun q hq => by rw [en, List.mem_singleton] at hq; rw [hq]; exact nle_refl _) (t := x.toNat) rfl (by rw [hp]; show x.toNat < x.toNat + 1; omega) (fun q hq => ?_) (fun z => absurd (nl (by omega)) (by omega))⟩
      · rw [hce]
        unfold ce_chk
        rw [if_pos ⟨rfl, fun z => dup.1 z d⟩]
      · rw [hs] at hq; dsimp only at hq; rw [t2] at hq; cases hq
    · rw [if_neg d] at en
      refine Or.inl ⟨(ce_var2 1 (if g 212 14 = 3 then pn + 1 else pn) ty (if g 212 14 = 3 then pn + 1 else pn) (V x.toNat) g, ty, fn, on, pn + 1, ln, st), ?_, ⟨⟨fun a ha => (fr a (by omega)).trans (f1 a ha), fun k hk => by dsimp only; rw [fr 212 (by omega)]; exact f2 k hk⟩, ⟨⟨by dsimp only; rw [fr 212 (by omega), a0, a9]; exact k17, fun z => by omega, fun _ => by dsimp only; rw [fr 212 (by omega), a0]; exact c0'⟩, ⟨fun z => by omega, fun _ => by dsimp only; rw [fr 212 (by omega), a3]; exact c3'⟩, ⟨by dsimp only; rw [fr 212 (by omega), a1]; exact k15, fun z => by dsimp only; rw [fr 212 (by omega), hs]; exact k14 (by omega), fun _ => by rw [a3, a0, hs]; exact k4'⟩, ⟨fun z z2 => by omega, fun z z2 => by omega, fun z z2 => by have := k2c c9 h13; dsimp only; omega, fun z => by rw [a5]; exact k2d c9, fun z => by omega⟩⟩, ⟨fun v hv => ?_, fun _ => ?_, fun _ => ?_⟩, ⟨?_, ?_, fun z => absurd (nl (by omega)) (by omega), BN.no (by rw [en] at B; exact B) t4⟩, rr (fr 8 (by omega)) (fr 235 (by omega)) a8 b1 (by omega), oc0 (by omega) b2 (by omega)⟩, ⟨XP_same (fun a ha => fr a (by omega)), rfl, by dsimp only; rw [fr 8 (by omega)]; rfl, by dsimp only; rw [fr 235 (by omega)]; rfl⟩⟩
      · rw [hce]
        unfold ce_chk
        rw [if_neg (fun z => z.2 (dup.2 d))]
      · rw [a0, a3]
        by_cases ev : v = N
        · rw [ev, w0, w1, w4]; exact ⟨by omega, by omega, tt.2⟩
        · exact v1 v (by omega)
      · have V2 := v2 (by omega)
        rw [e25]
        unfold r2c at V2 ⊢
        rw [if_pos (Q.2.2.1 (by omega))] at V2
        rw [a12, if_pos (Q.2.2.1 (by omega)), a0, a1, a2]
        obtain ⟨vc0, nc, u1, u2, u3, u4, u5, u6, u7⟩ := V2
        refine ⟨vc0, nc, by dsimp only; rw [fr 223 (by omega)]; exact u1, by omega, u3, fun z => by omega, fun v hv => ?_, fun j hj => ?_, u7⟩
        · by_cases ev : v = N
          · rw [ev, w1]; constructor
            · intro z; omega
            · intro z; omega
          · exact u5 v (by omega)
        · have := u6 j hj
          unfold vrow at this ⊢
          dsimp only
          rw [fr 224 (by omega), fr (224 + 1) (by omega), fr (224 + 2) (by omega), fr (224 + 3) (by omega), fr (224 + 4) (by omega)]
          exact this
      · rw [e25]
        exact V3.add h13 hN (by rw [w1]; omega) (by rw [w0]; omega) (by omega) f5 fo new (by rw [a13]; exact h13) a0 a3 (by omega)
      · intro _; rw [hs]; exact tt
      · rw [hs]; exact t2
  · -- 47
    obtain ⟨hc, -, hp⟩ := pr_q_in h1
    have a0 : p'.1 0 = p.1 0 := by rw [hp]; rfl
    have a1 : p'.1 1 = p.1 1 := by rw [hp]; rfl
    have a2 : p'.1 2 = p.1 2 := by rw [hp]; rfl
    have a3 : p'.1 3 = p.1 3 := by rw [hp]; rfl
    have a4 : p'.1 4 = p.1 4 := by rw [hp]; rfl
    have a5 : p'.1 5 = p.1 5 := by rw [hp]; rfl
    have a8 : p'.1 8 = p.1 8 := by rw [hp]; rfl
    have a9 : p'.1 9 = 5 := by rw [hp]; rfl
    have a11 : p'.1 11 = p.1 11 := by rw [hp]; rfl
    have a12 : p'.1 12 = p.1 12 := by rw [hp]; rfl
    have a13 : p'.1 13 = p.1 13 := by rw [hp]; rfl
    have a15 : p'.1 15 = p.1 15 := by rw [hp]; rfl
    have a17 : p'.1 17 = p.1 17 := by rw [hp]; rfl
    have b1 : p'.2.1 = p.2.1 := by rw [hp]
    have b2 : p'.2.2.1 = p.2.2.1 := by rw [hp]
    cases m1
    have c9 := hc.1
    have c3' := k16 (by omega)
    have es : am_up g 221 (g 212 16).toNat pn = g := p_up_self (by
      rw [f1 221 (by omega), c3'.2, show ((b21 : Int) + (p.1 3 : Int) - 1).toNat = b21 + (p.1 3 - 1) by omega, (F.2.2 (p.1 3 - 1) (by omega)).2.2, Z'.2.1 (p.1 3 - 1) (by omega), k2c c9 hc.2.2]
      exact (rv267 c3'.1).1)
    refine Or.inl ⟨(g, ty, fn, on, pn, 0, st), ?_, ⟨⟨f1, f2⟩, ⟨⟨?_, fun z => by omega, fun _ => by rw [a0]; exact k13 (by omega)⟩, ⟨fun z => by omega, fun z => by rw [a3]; exact c3'⟩, ⟨by rw [a1]; exact k15, fun z => k14 (by omega), fun z => by rw [a3, a0]; exact k4 (by omega)⟩, ⟨fun z z2 => by omega, fun z z2 => by omega, fun z z2 => by omega, fun z => by omega, fun z => by have := k2d c9; dsimp only; omega⟩⟩, ⟨fun v hv => by rw [a0, a3]; exact v1 v hv, fun z => c2k (fun _ _ _ => rfl) a12 a0 a1 a2 (fun w => by omega) (by omega), fun z => c2s (fun _ _ _ => rfl) a13 a0 a3 a4 a5 (by omega)⟩, ⟨by rw [a11]; exact t1, t2, fun z => absurd (nl (by omega)) (by omega), BN.no B t4⟩, rr rfl rfl a8 b1 (by omega), oc0 (by omega) b2 (by omega)⟩, ⟨XP_same (fun a ha => rfl), rfl, rfl, rfl⟩⟩
    · show ce_q (0 ≤ g 212 21 ∧ g 212 21 ≤ g 212 16 ∧ g 212 16 < 130) (.inr (am_up g 221 (g 212 16).toNat pn, ty, fn, on, pn, 0, st)) = _
      rw [es]
      unfold ce_q
      rw [if_pos ⟨by rw [f2 21 (by omega), F.1.2.2.2.2.2]; omega, by rw [f2 21 (by omega), F.1.2.2.2.2.2]; omega, by omega⟩]
    · dsimp only; rw [a0, a9, if_neg (by decide)]; rw [if_neg (by omega)] at k17; exact k17
  · -- 50
    obtain ⟨hc, -, hp⟩ := pr_q_in h1
    have a0 : p'.1 0 = p.1 0 := by rw [hp]; rfl
    have a1 : p'.1 1 = p.1 1 := by rw [hp]; rfl
    have a2 : p'.1 2 = p.1 2 := by rw [hp]; rfl
    have a3 : p'.1 3 = p.1 3 := by rw [hp]; rfl
    have a4 : p'.1 4 = p.1 4 := by rw [hp]; rfl
    have a5 : p'.1 5 = p.1 5 + 1 := by rw [hp]; rfl
    have a8 : p'.1 8 = p.1 8 := by rw [hp]; rfl
    have a9 : p'.1 9 = p.1 9 := by rw [hp]; rfl
    have a11 : p'.1 11 = p.1 11 := by rw [hp]; rfl
    have a12 : p'.1 12 = p.1 12 := by rw [hp]; rfl
    have a13 : p'.1 13 = p.1 13 := by rw [hp]; rfl
    have a15 : p'.1 15 = p.1 15 := by rw [hp]; rfl
    have a17 : p'.1 17 = p.1 17 := by rw [hp]; rfl
    have b1 : p'.2.1 = p.2.1 := by rw [hp]
    have b2 : p'.2.2.1 = p.2.2.1 := by rw [hp]
    have c9 := hc.1
    have m1 := ce_q_in (show ce_q (sg 254 25 < 1090) _ = .inr s' from m1)
    have p25 := pos 25 (by unfold mx_k; omega)
    obtain ⟨N, hN⟩ : ∃ N : Nat, sg 254 25 = (N : Int) := ⟨(sg 254 25).toNat, by omega⟩
    have iN : (sg 254 25).toNat = N := by omega
    have V3 := v3 (by omega)
    have h13 := hc.2.2.2.2
    have g5 : 0 ≤ g 229 5 ∧ g 229 5 ≤ 24 := by
      unfold r2s at V3
      rw [if_pos h13] at V3
      obtain ⟨vs0, ns, w1, -, w3, -⟩ := V3
      have := Pb.2
      omega
    have c0' := k13 (by omega)
    have c3' := k16 (by omega)
    have k4' := k4 (by omega)
    have e14 := k14 (Q.2.2.2.2.1 (by omega))
    have rsub := rv267 c3'.1
    have tt := t1 hc.2.2.2.1
    have isub : (sg 254 17 - 1).toNat = p.1 3 - 1 := by omega
    have hs : s' = (am_up (mi_dec (sg 254 17 - 1) 3 sty x (sg 268 (sg 254 17 - 1).toNat) (sg 268 (sg 254 17 - 1).toNat) sg) 268 (sg 254 17 - 1).toNat (sg 268 (sg 254 17 - 1).toNat + 1), sty, sso, sbs, soc) := by cases m1; rfl
    have e25 : s'.1 254 25 = sg 254 25 + 1 := by rw [hs]; dsimp only; rw [p_up_c _ _ _ _ _ (by decide)]; exact (mi_dec_rows _ _ _ _ _ _ sg).2.2.2.2.2.2.2
    obtain ⟨w0, w1, w2, w3, w4, w5, w6⟩ := hrow_of (h := h) (g' := s'.1) p25 (fun a q1 q2 => by rw [hs]; dsimp only; rw [p_up_c _ _ _ _ _ (by omega)]) e25 M
    rw [iN] at w0 w1 w2 w3 w4 w5 w6
    have en : nE K' P V sc ss h sg 50 = (if m_twv V h N N 0 false = true then [(3, P x.toNat)] else []) := by
      show nt_v K' P V sc h (sg 254 25).toNat = _
      rw [iN]; unfold nt_v; rw [w3, w4, t2, List.append_nil]
    have dup := V3.dup h13 hN (by rw [w1]; omega) (by rw [w0]; omega) w3
    have hce : ce true false K V P (50, x, y, z) (g, ty, fn, on, pn, ln, st) = ce_chk true (ce_vs g (V x.toNat) = -1) (3, P x.toNat) (.inr (ce_var2 2 ln ty ln (V x.toNat) g, ty, fn, on, pn, ln + 1, st)) := by
      show ce_chk true _ _ (ce_q _ _) = _
      unfold ce_q
      rw [if_pos (by dsimp only; omega)]
    have no' : nov h N = ln := by
      unfold nov
      rw [w2, w1, w5, isub]
      rw [if_neg (by omega), rsub.2, k2e c9]
    have fr : ∀ a, ¬ (229 ≤ a ∧ a ≤ 234) → ce_var2 2 (ln) ty (ln) (V x.toNat) g a = g a := fun a z1 => by
      unfold ce_var2
      rw [p_up_c _ _ _ _ _ (by omega), p_up_c _ _ _ _ _ (by omega), p_up_c _ _ _ _ _ (by omega), p_up_c _ _ _ _ _ (by omega), p_up_c _ _ _ _ _ (by omega), p_up_c _ _ _ _ _ (by omega)]
    have f5 : ce_var2 2 (ln) ty (ln) (V x.toNat) g 229 5 = g 229 5 + 1 := by unfold ce_var2; exact p_up_s _ _ _ _
    have fo : ∀ a, 230 ≤ a → a ≤ 234 → ∀ j, j ≠ (g 229 5).toNat → ce_var2 2 (ln) ty (ln) (V x.toNat) g a j = g a j := fun a z1 z2 j z3 => by
      unfold ce_var2
      rw [p_up_c _ _ _ _ _ (by omega), p_up_n _ _ _ _ _ _ (Or.inr z3), p_up_n _ _ _ _ _ _ (Or.inr z3), p_up_n _ _ _ _ _ _ (Or.inr z3), p_up_n _ _ _ _ _ _ (Or.inr z3), p_up_n _ _ _ _ _ _ (Or.inr z3)]
    have new : vrow K' V sc cc b20 b15 h (ce_var2 2 (ln) ty (ln) (V x.toNat) g) 230 (g 229 5).toNat N := by
      refine ⟨?_, ?_, ?_, ?_, ?_⟩
      · unfold ce_var2; rw [p_up_c _ _ _ _ _ (by decide), p_up_c _ _ _ _ _ (by decide), p_up_c _ _ _ _ _ (by decide), p_up_c _ _ _ _ _ (by decide), p_up_c _ _ _ _ _ (by decide), p_up_s, w3]
      · show ce_var2 _ _ _ _ _ _ 231 _ = _; unfold ce_var2; rw [p_up_c _ _ _ _ _ (by decide), p_up_c _ _ _ _ _ (by decide), p_up_c _ _ _ _ _ (by decide), p_up_c _ _ _ _ _ (by decide), p_up_s]; unfold kdv; rw [w2]; rfl
      · show ce_var2 _ _ _ _ _ _ 232 _ = _; unfold ce_var2; rw [p_up_c _ _ _ _ _ (by decide), p_up_c _ _ _ _ _ (by decide), p_up_c _ _ _ _ _ (by decide), p_up_s]; unfold plv; rw [if_neg (c := h 272 N = 0) (by omega), no']
      · show ce_var2 _ _ _ _ _ _ 233 _ = _; unfold ce_var2; rw [p_up_c _ _ _ _ _ (by decide), p_up_c _ _ _ _ _ (by decide), p_up_s, w4]; exact tt.1
      · show ce_var2 _ _ _ _ _ _ 234 _ = _; unfold ce_var2; rw [p_up_c _ _ _ _ _ (by decide), p_up_s, no']
    by_cases d : m_twv V h N N 0 false = true
    · rw [if_pos d] at en
      refine Or.inr ⟨(3, P x.toNat), ?_, c2_fault (l := nE K' P V sc ss h sg 50) B M hS L' tp H0 (Or.inl (by rw [en]; exact List.mem_singleton_self _)) (fun q hq => by rw [en, List.mem_singleton] at hq; rw [hq]; exact nle_refl _) (t := x.toNat) rfl (by rw [hp]; show x.toNat < x.toNat + 1; omega) (fun q hq => ?_) (fun z => absurd (nl (by omega)) (by omega))⟩
      · rw [hce]
        unfold ce_chk
        rw [if_pos ⟨rfl, fun z => dup.1 z d⟩]
      · rw [hs] at hq; dsimp only at hq; rw [t2] at hq; cases hq
    · rw [if_neg d] at en
      refine Or.inl ⟨(ce_var2 2 ln ty ln (V x.toNat) g, ty, fn, on, pn, ln + 1, st), ?_, ⟨⟨fun a ha => (fr a (by omega)).trans (f1 a ha), fun k hk => by dsimp only; rw [fr 212 (by omega)]; exact f2 k hk⟩, ⟨⟨by dsimp only; rw [fr 212 (by omega), a0, a9]; exact k17, fun z => by omega, fun _ => by dsimp only; rw [fr 212 (by omega), a0]; exact c0'⟩, ⟨fun z => by omega, fun _ => by dsimp only; rw [fr 212 (by omega), a3]; exact c3'⟩, ⟨by dsimp only; rw [fr 212 (by omega), a1]; exact k15, fun z => by dsimp only; rw [fr 212 (by omega), hs]; exact k14 (by omega), fun _ => by rw [a3, a0, hs]; exact k4'⟩, ⟨fun z z2 => by omega, fun z z2 => by omega, fun z z2 => by omega, fun z => by omega, fun z => by have := k2e c9; dsimp only; omega⟩⟩, ⟨fun v hv => ?_, fun _ => ?_, fun _ => ?_⟩, ⟨?_, ?_, fun z => absurd (nl (by omega)) (by omega), BN.no (by rw [en] at B; exact B) t4⟩, rr (fr 8 (by omega)) (fr 235 (by omega)) a8 b1 (by omega), oc0 (by omega) b2 (by omega)⟩, ⟨XP_same (fun a ha => fr a (by omega)), rfl, by dsimp only; rw [fr 8 (by omega)]; rfl, by dsimp only; rw [fr 235 (by omega)]; rfl⟩⟩
      · rw [hce]
        unfold ce_chk
        rw [if_neg (fun z => z.2 (dup.2 d))]
      · rw [a0, a3]
        by_cases ev : v = N
        · rw [ev, w0, w1, w4]; exact ⟨by omega, by omega, tt.2⟩
        · exact v1 v (by omega)
      · have V2 := v2 (by omega)
        rw [e25]
        unfold r2c at V2 ⊢
        rw [if_pos (Q.2.2.1 (by omega))] at V2
        rw [a12, if_pos (Q.2.2.1 (by omega)), a0, a1, a2]
        obtain ⟨vc0, nc, u1, u2, u3, u4, u5, u6, u7⟩ := V2
        refine ⟨vc0, nc, by dsimp only; rw [fr 223 (by omega)]; exact u1, by omega, u3, fun z => by omega, fun v hv => ?_, fun j hj => ?_, u7⟩
        · by_cases ev : v = N
          · rw [ev, w1]; constructor
            · intro z; omega
            · intro z; omega
          · exact u5 v (by omega)
        · have := u6 j hj
          unfold vrow at this ⊢
          dsimp only
          rw [fr 224 (by omega), fr (224 + 1) (by omega), fr (224 + 2) (by omega), fr (224 + 3) (by omega), fr (224 + 4) (by omega)]
          exact this
      · rw [e25]
        exact V3.add h13 hN (by rw [w1]; omega) (by rw [w0]; omega) (by omega) f5 fo new (by rw [a13]; exact h13) a0 a3 (by omega)
      · intro _; rw [hs]; exact tt
      · rw [hs]; exact t2
  · -- 48
    obtain ⟨hc, -, hp⟩ := pr_q_in h1
    have a0 : p'.1 0 = p.1 0 := by rw [hp]; rfl
    have a1 : p'.1 1 = p.1 1 := by rw [hp]; rfl
    have a2 : p'.1 2 = p.1 2 := by rw [hp]; rfl
    have a3 : p'.1 3 = p.1 3 := by rw [hp]; rfl
    have a4 : p'.1 4 = p.1 4 := by rw [hp]; rfl
    have a5 : p'.1 5 = p.1 5 := by rw [hp]; rfl
    have a8 : p'.1 8 = p.1 8 := by rw [hp]; rfl
    have a9 : p'.1 9 = 6 := by rw [hp]; rfl
    have a11 : p'.1 11 = p.1 11 := by rw [hp]; rfl
    have a12 : p'.1 12 = p.1 12 := by rw [hp]; rfl
    have a13 : p'.1 13 = p.1 13 := by rw [hp]; rfl
    have a15 : p'.1 15 = 0 := by rw [hp]; rfl
    have a17 : p'.1 17 = p.1 17 := by rw [hp]; rfl
    have b1 : p'.2.1 = p.2.1 := by rw [hp]
    have b2 : p'.2.2.1 = p.2.2.1 := by rw [hp]
    have c9 := hc.1
    have c0' := k13 (by omega)
    have c3' := k16 (by omega)
    have k4' := k4 (by omega)
    have e14 := k14 (Q.2.2.2.2.1 (by omega))
    have hs : s' = (am_up (am_up sg 269 (sg 254 17 - 1).toNat (sg 254 33)) 254 55 0, sty, sso, sbs, soc) := by cases m1; rfl
    have e25 : s'.1 254 25 = sg 254 25 := by rw [hs]; dsimp only; rw [p_up_n _ _ _ _ _ _ (Or.inr (by decide)), p_up_c _ _ _ _ _ (by decide)]
    have isub : ((p.1 3 : Int) - 1).toNat = p.1 3 - 1 := by omega
    have e16 : g 212 16 = (b21 : Int) + ((p.1 3 : Int) - 1) := by omega
    have e5 := k2e c9
    have e216 : g 216 (g 212 13).toNat = h 262 (p.1 0 - 1) := by
      rw [f1 216 (by omega), c0'.2, show ((b20 : Int) + (p.1 0 : Int) - 1).toNat = b20 + (p.1 0 - 1) by omega, (F.2.1 (p.1 0 - 1) (by omega)).2.2]
    -- the head, then what the sort asks for
    have g83 : g 8 3 < 9000 := by omega
    obtain ⟨g1, hg1⟩ : ∃ g1, g1 = ce_add 14 (g 212 16) ln g := ⟨_, rfl⟩
    have A1 : AP [(14, g 212 16, ln)] [] g g1 := by rw [hg1]; exact AP.add _ _ _ _
    have cp1 : cap g1 190 200 := cap.ap (vs := [(14, g 212 16, ln)]) (ls := []) (cp.le (Nat.le_of_ble_eq_true rfl) (Nat.le_of_ble_eq_true rfl)) A1
    have l1 : g1 8 4 = g 8 4 := by rw [hg1]; exact (ce_add_l _ _ _ _).1
    obtain ⟨g2, hg2⟩ : ∃ g2, g2 = ce_tel 14 (g1 222 (g1 212 16).toNat) ln g1 := ⟨_, rfl⟩
    have A2 : AP [] [(14, g1 222 (g1 212 16).toNat, ln)] g1 g2 := by rw [hg2]; exact AP.tel _ _ _ _
    have cp2 : cap g2 190 190 := cap.ap (vs := []) (ls := [(14, g1 222 (g1 212 16).toNat, ln)]) (cp1.le (Nat.le_of_ble_eq_true rfl) (Nat.le_of_ble_eq_true rfl)) A2
    have l2 : g2 8 4 = g1 8 4 := by rw [hg2]; exact (ce_tel_l _ _ _ _).1
    obtain ⟨g3, hg3⟩ : ∃ g3, g3 = am_up g2 235 4 0 := ⟨_, rfl⟩
    have A3 : AP [] [] g2 g3 := by rw [hg3]; exact AP.lab2 _ _
    have cp3 : cap g3 190 190 := by rw [hg3]; exact cp2.lab2 0
    have A13 : AP [(14, g 212 16, ln)] [(14, g1 222 (g1 212 16).toNat, ln)] g g3 := (A1.trans A2 q1 q3).trans A3 q1 q3
    have l3 : g3 8 4 = g 8 4 := by rw [hg3, p_up_n _ _ _ _ _ _ (Or.inl (by decide)), l2, l1]
    have l4 : g3 235 4 = 0 := by rw [hg3, p_up_s]
    have fr3 : ∀ a, 212 ≤ a → a ≤ 234 → g3 a = g a := fun a z1 z2 => A13.fr a (by omega) (by omega) (by omega)
    have hce : ∀ rr, (if g3 212 14 = 3 then gx_b (ce_vm true 0 1 0 g3) fun g => gx_b (ce_vm true 1 4 0 g) fun g => gx_b (ce_li true false 0 1 0 g) fun g => ce_li true false 1 6 0 g
    else if g3 212 14 = 1 then gx_b (ce_vm true 0 0 (if g3 216 (g3 212 13).toNat ≤ 1 then 1 else g3 216 (g3 212 13).toNat) g3) fun g => gx_b (ce_call true (ce_cls g (g 212 28)) (g 212 29) 1 g) fun g => gx_b (ce_vm true 1 4 0 g) fun g => gx_b (ce_li true false 0 0 (if g 216 (g 212 13).toNat ≤ 1 then 1 else g 216 (g 212 13).toNat) g) fun g => gx_b (ce_tcall true false (ce_cls g (g 212 28)) (g 212 29) 1 g) fun g => ce_li true false 1 6 0 g
    else (.inr g3 : gx_R am_H)) = rr → ce true false K V P (48, x, y, z) (g, ty, fn, on, pn, ln, st) = ce_h (g, ty, fn, on, pn, ln, st) rr := by
      intro rr hrr
      show ce_h _ (ce_func true false (g, ty, fn, on, pn, ln, st)) = _
      unfold ce_func
      dsimp only
      unfold ce_q
      rw [if_pos (by omega), ce_vm_t g83, ← hg1]
      show ce_h _ (gx_b (ce_li true false 14 (g1 222 (g1 212 16).toNat) ln g1) _) = _
      rw [ce_li_t (by have := cp1.2.2.2; omega), ← hg2]
      show ce_h _ (if (am_up g2 235 4 0) 212 14 = 3 then _ else _) = _
      rw [← hg3]
      exact congrArg _ hrr
    have e222 : g1 222 (g1 212 16).toNat = c0 222 ((b21 : Int) + ((p.1 3 : Int) - 1)).toNat := by
      rw [A1.fr 212 (by decide) (by decide) (by decide), A1.fr 222 (by decide) (by decide) (by decide), f1 222 (by omega), e16]
    rw [e222, e16, e5] at A13
    have fin : ∀ {vs ls : List (Int × Int × Int)} {rr : gx_R am_H}, EM vs ls g3 rr → ce true false K V P (48, x, y, z) (g, ty, fn, on, pn, ln, st) = ce_h (g, ty, fn, on, pn, ln, st) rr → vs.length ≤ 3 → ls.length ≤ 3 → oE K' P V sc ss cs b21 b15 h c0 (48, x, y, z) p (g 8 4) (g 235 4) st = ((14, (b21 : Int) + ((p.1 3 : Int) - 1), (p.1 5 : Int)) :: vs, (14, c0 222 ((b21 : Int) + ((p.1 3 : Int) - 1)).toNat, (p.1 5 : Int)) :: ls, st, g 8 4, 0) → c2o K K' P V sc ss cc cs b20 b21 b15 bv bl h c0 (48, x, y, z) p p' (sg, sty, sso, sbs, soc) s' (g, ty, fn, on, pn, ln, st) := by
      intro vs ls rr2 E w1 w2 w3 w4
      obtain ⟨g', e1, A4, u1, u2⟩ := E
      have A : AP ((14, (b21 : Int) + ((p.1 3 : Int) - 1), (p.1 5 : Int)) :: vs) ((14, c0 222 ((b21 : Int) + ((p.1 3 : Int) - 1)).toNat, (p.1 5 : Int)) :: ls) g g' := A13.trans A4 q1 q3
      have fr : ∀ a, a = 3 ∨ a = 5 ∨ a = 6 ∨ (212 ≤ a ∧ a ≤ 234) → g' a = g a := fun a z => A.fr a (by omega) (by omega) (by omega)
      refine Or.inl ⟨(g', ty, fn, on, pn, ln, st), by rw [w1, e1]; rfl, ⟨⟨fun a ha => (fr a (by omega)).trans (f1 a ha), fun k hk => by dsimp only; rw [fr 212 (by omega)]; exact f2 k hk⟩, ⟨⟨?_, fun z => by omega, fun _ => by dsimp only; rw [fr 212 (by omega), a0]; exact c0'⟩, ⟨fun z => by omega, fun _ => by dsimp only; rw [fr 212 (by omega), a3]; exact c3'⟩, ⟨by dsimp only; rw [fr 212 (by omega), a1]; exact k15, fun z => by dsimp only; rw [fr 212 (by omega), hs]; exact k14 (by omega), fun _ => by rw [a3, a0, hs]; exact k4'⟩, ⟨fun z z2 => by omega, fun z z2 => by omega, fun z z2 => by omega, fun z => by omega, fun z => by omega⟩⟩, ⟨fun v hv => by rw [a0, a3]; exact v1 v (by omega), fun _ => by rw [e25]; exact c2k (fun a z1 z2 => fr a (by omega)) a12 a0 a1 a2 (fun w => by omega) (by omega), fun _ => by rw [e25]; exact c2s (fun a z1 z2 => fr a (by omega)) a13 a0 a3 a4 a5 (by omega)⟩, ⟨by rw [a11, hs]; exact t1, by rw [hs]; exact t2, fun z => absurd a15 z, BN.no B t4⟩, ⟨⟨?_, ?_⟩, ⟨?_, ?_⟩, ⟨?_, ?_⟩, ⟨?_, ?_⟩, by rw [b1]; exact q9, by rw [a8]; exact q10, hle 4, hle 5, hle 3⟩, ⟨fun z => absurd a9 z, fun q hq => by rw [b2, o1 (by omega)] at hq; cases hq⟩⟩, ?_⟩
      · dsimp only; rw [fr 212 (by omega), a0, a9, if_neg (by decide)]; rw [if_neg (by omega)] at k17; exact k17
      · have := A.2.2.1.1; dsimp only; omega
      · have := A.2.2.1.1; have := hwt 4; rw [List.length_cons] at *; rw [show pw 4 48 = 4 from rfl] at *; dsimp only; omega
      · have := A.2.2.1.2; dsimp only; omega
      · have := A.2.2.1.2; have := hwt 5; rw [List.length_cons] at *; rw [show pw 5 48 = 4 from rfl] at *; dsimp only; omega
      · dsimp only; omega
      · have := hwt 4; dsimp only; omega
      · dsimp only; omega
      · left; dsimp only; omega
      · dsimp only
        rw [w4]
        exact ⟨A.xp, rfl, by dsimp only; omega, by dsimp only; omega⟩
    have o48 : oE K' P V sc ss cs b21 b15 h c0 (48, x, y, z) p (g 8 4) (g 235 4) st = ((14, (b21 : Int) + ((p.1 3 : Int) - 1), (p.1 5 : Int)) :: (if h 264 ((p.1 3 : Int) - 1).toNat = 3 then [(0, 1, 0), (1, 4, 0)] else if h 264 ((p.1 3 : Int) - 1).toNat = 1 then [(0, 0, if h 262 (p.1 0 - 1) ≤ 1 then 1 else h 262 (p.1 0 - 1)), (15, sysS c0 28 29, 1), (1, 4, 0)] else []),
      (14, c0 222 ((b21 : Int) + ((p.1 3 : Int) - 1)).toNat, (p.1 5 : Int)) :: (if h 264 ((p.1 3 : Int) - 1).toNat = 3 then [(0, 1, 0), (1, 6, 0)] else if h 264 ((p.1 3 : Int) - 1).toNat = 1 then [(0, 0, if h 262 (p.1 0 - 1) ≤ 1 then 1 else h 262 (p.1 0 - 1)), (15, c0 222 (sysS c0 28 29).toNat, 1), (1, 6, 0)] else []), st, g 8 4, 0) := rfl
    rw [isub, k4'.1] at o48
    have e14' : g3 212 14 = sso := by rw [fr3 212 (by omega) (by omega)]; exact e14
    have eal : ∀ {vs ls : List (Int × Int × Int)} {ga : am_H}, AP vs ls g3 ga → ce_sub ga (ce_cls ga (ga 212 28)) (ga 212 29) = sysS c0 28 29 := by
      intro vs ls ga A
      rw [A.tab.2.1, A.tab.1, A.fr 212 (by decide) (by decide) (by decide), A13.tab.2.1, A13.tab.1, A13.fr 212 (by decide) (by decide) (by decide), (tab _).2.1, (tab _).1, f2 28 (by omega), f2 29 (by omega)]
      rfl
    have eff : ∀ {vs ls : List (Int × Int × Int)} {ga : am_H}, AP vs ls g3 ga → ga 216 (ga 212 13).toNat = h 262 (p.1 0 - 1) := by
      intro vs ls ga A
      rw [A.fr 212 (by decide) (by decide) (by decide), A.fr 216 (by decide) (by decide) (by decide), fr3 212 (by omega) (by omega), fr3 216 (by omega) (by omega)]
      exact e216
    by_cases d3 : sso = 3
    · rw [if_pos d3, if_pos d3] at o48
      refine fin (EM.v (n := 1) (m := 2) (cp3.le (by decide) (by decide)) (fun _ _ h3 => EM.v (n := 0) (m := 2) h3 (fun _ _ h4 => EM.l (n := 0) (m := 1) h4 (fun _ _ h5 => EM.l1 h5)))) (hce _ ?_) (by decide) (by decide) o48
      rw [if_pos (by rw [e14']; exact d3)]
    · rw [if_neg d3, if_neg d3] at o48
      by_cases d1 : sso = 1
      · rw [if_pos d1, if_pos d1] at o48
        refine fin (rr := gx_b (ce_vm true 0 0 (if h 262 (p.1 0 - 1) ≤ 1 then 1 else h 262 (p.1 0 - 1)) g3) fun g => gx_b (ce_call true (ce_cls g (g 212 28)) (g 212 29) 1 g) fun g => gx_b (ce_vm true 1 4 0 g) fun g => gx_b (ce_li true false 0 0 (if g 216 (g 212 13).toNat ≤ 1 then 1 else g 216 (g 212 13).toNat) g) fun g => gx_b (ce_tcall true false (ce_cls g (g 212 28)) (g 212 29) 1 g) fun g => ce_li true false 1 6 0 g) (EM.v (n := 2) (m := 3) (cp3.le (by decide) (by decide)) (fun ga B1 h3 => EM.b (vs := [(15, sysS c0 28 29, 1)]) (ls := []) (n := 1) (m := 3) (h3.le (by show 1 + 1 ≤ 2; omega) (by show 0 + 3 ≤ 3; omega)) ?_ (fun gb B2 h4 => EM.v (n := 0) (m := 3) h4 (fun gc B3 h5 => ?_)))) (hce _ ?_) (Nat.le_of_ble_eq_true rfl) (Nat.le_of_ble_eq_true rfl) o48
        · have := EM.kc (o := ce_cls ga (ga 212 28)) (y := ga 212 29) (many := 1) (g := ga) (h3.le (by omega) (by omega))
          rw [eal B1] at this
          exact this
        · have BB := ((B1.trans B2 cp3.1 cp3.2.2.1).trans B3 cp3.1 cp3.2.2.1)
          rw [eff BB]
          refine EM.l (n := 0) (m := 2) h5 (fun gd B4 h6 => ?_)
          have BC := BB.trans B4 cp3.1 cp3.2.2.1
          refine EM.b (vs := []) (ls := [(15, c0 222 (sysS c0 28 29).toNat, 1)]) (n := 0) (m := 1) (h6.le (by show 0 + 0 ≤ 0; omega) (by show 1 + 1 ≤ 2; omega)) ?_ (fun ge B5 h7 => EM.l1 h7)
          have := EM.tc (o := ce_cls gd (gd 212 28)) (y := gd 212 29) (many := 1) (g := gd) (h6.le (by omega) (by omega)) (by rw [eal BC]; exact Sk.1)
          rw [eal BC, BC.fr 222 (by decide) (by decide) (by decide), fr3 222 (by omega) (by omega), f1 222 (by omega)] at this
          exact this
        · rw [if_neg (by rw [e14']; exact d3), if_pos (by rw [e14']; exact d1), eff (AP.refl g3)]
      · rw [if_neg d1, if_neg d1] at o48
        refine fin (EM.nil g3) (hce _ ?_) (by decide) (by decide) o48
        rw [if_neg (by rw [e14']; exact d3), if_neg (by rw [e14']; exact d1)]
  · -- 49
    obtain ⟨hc, -, hp⟩ := pr_q_in h1
    have a0 : p'.1 0 = p.1 0 := by rw [hp]; rfl
    have a1 : p'.1 1 = p.1 1 := by rw [hp]; rfl
    have a2 : p'.1 2 = p.1 2 := by rw [hp]; rfl
    have a3 : p'.1 3 = p.1 3 := by rw [hp]; rfl
    have a4 : p'.1 4 = p.1 4 := by rw [hp]; rfl
    have a5 : p'.1 5 = p.1 5 := by rw [hp]; rfl
    have a8 : p'.1 8 = p.1 8 := by rw [hp]; rfl
    have a9 : p'.1 9 = 3 := by rw [hp]; rfl
    have a11 : p'.1 11 = p.1 11 := by rw [hp]; rfl
    have a12 : p'.1 12 = p.1 12 := by rw [hp]; rfl
    have a13 : p'.1 13 = p.1 13 := by rw [hp]; rfl
    have a15 : p'.1 15 = p.1 15 := by rw [hp]; rfl
    have a17 : p'.1 17 = p.1 17 := by rw [hp]; rfl
    have b1 : p'.2.1 = p.2.1 := by rw [hp]
    have b2 : p'.2.2.1 = p.2.2.1 := by rw [hp]
    have c9 := hc.1
    have c0' := k13 (by omega)
    have c3' := k16 (by omega)
    have hs : s' = (mi_put 18 1 0 0 (mi_put 0 0 0 0 sg), sty, sso, sbs, soc) := by
      obtain ⟨w1, w2, w3⟩ := mi_h_in (show mi_h (sg, sty, sso, sbs, soc) (gx_b (mi_add 0 0 0 0 sg) (mi_add 18 1 0 0)) = .inr s' from m1)
      obtain ⟨w4, w5, w6⟩ := gx_b_ok w2
      rw [w3, mi_add_in w6, mi_add_in w5]
    have e25 : s'.1 254 25 = sg 254 25 := by rw [hs]; dsimp only; rw [mi_put_f _ _ _ _ _ _ (by decide), mi_put_f _ _ _ _ _ _ (by decide)]
    obtain ⟨g1, e1, A1, l1, l2⟩ : EM [(0, 0, 0), (16, 0, 0)] [(0, 0, 0), (16, 0, 0)] g (gx_b (ce_vm true 0 0 0 g) fun g => gx_b (ce_vm true 16 0 0 g) fun g => gx_b (ce_li true false 0 0 0 g) fun g => ce_li true false 16 0 0 g) := EM.v (n := 1) (m := 2) (cp.le (by decide) (by decide)) (fun _ _ h3 => EM.v (n := 0) (m := 2) h3 (fun _ _ h4 => EM.l (n := 0) (m := 1) h4 (fun _ _ h5 => EM.l1 h5)))
    have f16 : g1 212 16 = g 212 16 := by rw [A1.fr 212 (by decide) (by decide) (by decide)]
    have hce : ce true false K V P (49, x, y, z) (g, ty, fn, on, pn, ln, st) = .inr (am_up g1 212 16 (g1 212 16 + 1), ty, fn, on, pn, ln, st) := by
      have g83 : g 8 3 < 8999 := by omega
      have g53 : g 235 3 < 7999 := by omega
      have as : ∀ (a : gx_R am_H) (f1 f2 f3 f4 : am_H → gx_R am_H), gx_b a (fun g => gx_b (f1 g) fun g => gx_b (f2 g) fun g => gx_b (f3 g) f4) = gx_b (gx_b a fun g => gx_b (f1 g) fun g => gx_b (f2 g) f3) f4 := by
        intro a f1 f2 f3 f4
        cases a with
        | inl q => rfl
        | inr a =>
          show gx_b (f1 a) _ = gx_b (gx_b (f1 a) _) f4
          cases f1 a with
          | inl q => rfl
          | inr a =>
            show gx_b (f2 a) _ = gx_b (gx_b (f2 a) _) f4
            cases f2 a with
            | inl q => rfl
            | inr a => rfl
      show ce_h _ (gx_b (ce_vm true 0 0 0 g) fun g => gx_b (ce_vm true 16 0 0 g) fun g => gx_b (ce_li true false 0 0 0 g) fun g => gx_b (ce_li true false 16 0 0 g) fun g => ce_q (g 212 16 < 1000) (.inr (am_up g 212 16 (g 212 16 + 1)))) = _
      rw [as, e1]
      show ce_h _ (ce_q (g1 212 16 < 1000) _) = _
      unfold ce_q
      rw [if_pos (by rw [f16]; omega)]
      rfl
    have fr : ∀ a, a = 3 ∨ a = 5 ∨ a = 6 ∨ (213 ≤ a ∧ a ≤ 234) → am_up g1 212 16 (g1 212 16 + 1) a = g a := fun a z => by rw [p_up_c _ _ _ _ _ (by omega)]; exact A1.fr a (by omega) (by omega) (by omega)
    have f12 : ∀ k, k ≠ 16 → am_up g1 212 16 (g1 212 16 + 1) 212 k = g 212 k := fun k z => by rw [p_up_n _ _ _ _ _ _ (Or.inr z), A1.fr 212 (by decide) (by decide) (by decide)]
    have g8 : ∀ a, a ≠ 212 → am_up g1 212 16 (g1 212 16 + 1) a = g1 a := fun a z => p_up_c _ _ _ _ _ z
    have hl1 := A1.2.2.1.1
    have hl2 := A1.2.2.1.2
    have x1 : g1 8 3 = g 8 3 + 2 := hl1
    have x2 : g1 235 3 = g 235 3 + 2 := hl2
    have w4 := hwt 4
    have w5 := hwt 5
    have w3 := hwt 3
    rw [show pw 4 49 = 2 from rfl] at w4
    rw [show pw 5 49 = 2 from rfl] at w5
    refine Or.inl ⟨(am_up g1 212 16 (g1 212 16 + 1), ty, fn, on, pn, ln, st), hce, ⟨⟨fun a ha => (fr a (by omega)).trans (f1 a ha), fun k hk => (f12 k (by omega)).trans (f2 k hk)⟩, ⟨⟨?_, fun z => by omega, fun _ => by dsimp only; rw [f12 13 (by decide), a0]; exact c0'⟩, ⟨fun _ => ?_, fun z => by omega⟩, ⟨by dsimp only; rw [f12 15 (by decide), a1]; exact k15, fun z => by dsimp only; rw [f12 14 (by decide), hs]; exact k14 (by omega), fun z => by omega⟩, ⟨fun z z2 => by omega, fun z z2 => by omega, fun z z2 => by omega, fun z => by omega, fun z => by omega⟩⟩, ⟨fun v hv => by rw [a0, a3]; exact v1 v (by omega), fun _ => by rw [e25]; exact c2k (fun a z1 z2 => fr a (by omega)) a12 a0 a1 a2 (fun w => by omega) (by omega), fun z => by omega⟩, ⟨by rw [a11, hs]; exact t1, by rw [hs]; exact t2, fun z => by have := hc.2.2.2.2.1; omega, BN.no B t4⟩, ⟨⟨?_, ?_⟩, ⟨?_, ?_⟩, ⟨?_, ?_⟩, ⟨?_, ?_⟩, by rw [b1]; exact q9, by rw [a8]; exact q10, hle 4, hle 5, hle 3⟩, ⟨fun _ => by rw [b2]; exact hc.2.2.2.1, fun q hq => by rw [b2, hc.2.2.2.1] at hq; cases hq⟩⟩, ?_⟩
    · dsimp only; rw [f12 17 (by decide), a0, a9, if_neg (by decide)]; rw [if_neg (by omega)] at k17; exact k17
    · dsimp only; rw [p_up_s, f16, a3]; omega
    · dsimp only; rw [g8 8 (by decide)]; omega
    · dsimp only; rw [g8 8 (by decide)]; omega
    · dsimp only; rw [g8 235 (by decide)]; omega
    · dsimp only; rw [g8 235 (by decide)]; omega
    · dsimp only; rw [g8 8 (by decide)]; omega
    · dsimp only; rw [g8 8 (by decide)]; omega
    · dsimp only; rw [g8 235 (by decide)]; omega
    · dsimp only; rw [g8 235 (by decide)]; rcases q8 with q8 | q8
      · right; omega
      · omega
    · refine ⟨?_, rfl, ?_, ?_⟩
      · have X := A1.xp
        unfold XP at X ⊢
        dsimp only
        rw [g8 8 (by decide), g8 9 (by decide), g8 10 (by decide), g8 11 (by decide), g8 235 (by decide), g8 236 (by decide), g8 237 (by decide), g8 238 (by decide)]
        exact X
      · dsimp only; rw [g8 8 (by decide)]; exact l1
      · dsimp only; rw [g8 235 (by decide)]; exact l2
end
