/-! PURE LAYER, 131: what variables hold -/
def VR (g : am_H) (v : Nat) : Prop :=
  ((0 ≤ g 272 v ∧ g 272 v ≤ 3) ∧ (g 272 v ≤ 1 → g 271 v = -1) ∧ (2 ≤ g 272 v → 0 ≤ g 271 v ∧ g 271 v < g 254 17)) ∧
  ((0 ≤ g 275 v ∧ g 275 v ≤ 11) ∧ (0 ≤ g 276 v ∧ g 276 v ≤ 11) ∧ (0 ≤ g 270 v ∧ g 270 v < g 254 14)) ∧
  (g 272 v = 0 → g 276 v < g 254 16) ∧ (g 272 v = 1 → g 275 v < g 262 (g 270 v).toNat) ∧ (g 272 v = 2 → g 275 v < g 267 (g 271 v).toNat) ∧ (g 272 v = 3 → g 275 v < g 268 (g 271 v).toNat)
/-- all variables; statics of the class at hand -/
def VRs (p : pr_S) (g : am_H) : Prop := (∀ v : Nat, (v : Int) < g 254 25 → VR g v) ∧ (p.1 9 = 2 → 0 ≤ g 254 60 ∧ g 254 60 ≤ (p.1 1 : Int))
section
variable {K V : Nat → Int} {e : gx_V} {p p1 : pr_S} {s s1 : mi_S} {g g' : am_H}
theorem mi_dcn {x1 x2 x3 x4 x5 x6 : Int} {a j : Nat} (h : ¬ (270 ≤ a ∧ a ≤ 276 ∧ j = (g 254 25).toNat)) (h2 : ¬ (a = 254 ∧ j = 25)) : mi_dec x1 x2 x3 x4 x5 x6 g a j = g a j := by
  unfold mi_dec
  rw [p_up_n _ _ _ _ _ _ (by omega), p_up_n _ _ _ _ _ _ (by omega), p_up_n _ _ _ _ _ _ (by omega), p_up_n _ _ _ _ _ _ (by omega), p_up_n _ _ _ _ _ _ (by omega), p_up_n _ _ _ _ _ _ (by omega), p_up_n _ _ _ _ _ _ (by omega), p_up_n _ _ _ _ _ _ (by omega)]
theorem mi_dca {x1 x2 x3 x4 x5 x6 : Int} : mi_dec x1 x2 x3 x4 x5 x6 g 254 25 = g 254 25 + 1 ∧ mi_dec x1 x2 x3 x4 x5 x6 g 270 (g 254 25).toNat = g 254 14 - 1 ∧ mi_dec x1 x2 x3 x4 x5 x6 g 271 (g 254 25).toNat = x1 ∧ mi_dec x1 x2 x3 x4 x5 x6 g 272 (g 254 25).toNat = x2 ∧ mi_dec x1 x2 x3 x4 x5 x6 g 275 (g 254 25).toNat = x5 ∧ mi_dec x1 x2 x3 x4 x5 x6 g 276 (g 254 25).toNat = x6 := by
  unfold mi_dec
  refine ⟨?_, ?_, ?_, ?_, ?_, ?_⟩ <;> simp [p_up]
theorem VR.fr {v : Nat} (R : VR g v) (h : ∀ c, 270 ≤ c → c ≤ 276 → g' c v = g c v) (h17 : g 254 17 ≤ g' 254 17) (h14 : g 254 14 ≤ g' 254 14) (h16 : g 254 16 ≤ g' 254 16) (h262 : ∀ k : Nat, (k : Int) < g 254 14 → g 262 k ≤ g' 262 k) (h267 : ∀ k : Nat, (k : Int) < g 254 17 → g 267 k ≤ g' 267 k ∧ g 268 k ≤ g' 268 k) : VR g' v := by
  obtain ⟨⟨r1, r2, r3⟩, ⟨r4, r5, r6⟩, r7, r8, r9, r10⟩ := R
  unfold VR
  rw [h 270 (by omega) (by omega), h 271 (by omega) (by omega), h 272 (by omega) (by omega), h 275 (by omega) (by omega), h 276 (by omega) (by omega)]
  refine ⟨⟨r1, r2, fun z => by have := r3 z; omega⟩, ⟨r4, r5, by omega⟩, fun z => by have := r7 z; omega, fun z => ?_, fun z => ?_, fun z => ?_⟩
  · have a := r8 z
    have b := h262 (g 270 v).toNat (by omega)
    omega
  · have a := r9 z
    have b := (h267 (g 271 v).toNat (by have := r3 (by omega); omega)).1
    omega
  · have a := r10 z
    have b := (h267 (g 271 v).toNat (by have := r3 (by omega); omega)).2
    omega
theorem VR.fs {v : Nat} (R : VR g v) (F : mi_fs g g') : VR g' v := R.fr (fun c h1 h2 => F c v (by simp [mi_SC]; omega) (by simp [mi_SF]; omega)) (by rw [F 254 17 rfl rfl]; exact Int.le_refl _) (by rw [F 254 14 rfl rfl]; exact Int.le_refl _) (by rw [F 254 16 rfl rfl]; exact Int.le_refl _) (fun k _ => by rw [F 262 k rfl (by simp [mi_SF])]; exact Int.le_refl _) (fun k _ => by rw [F 267 k rfl (by simp [mi_SF]), F 268 k rfl (by simp [mi_SF])]; exact ⟨Int.le_refl _, Int.le_refl _⟩)
theorem VRs_ev {w : Nat → Nat → Nat} (hp : pr w K V e p = .inr p1) (hm : mi V e s = .inr s1) (Rv : rv K p s) (R : VRs p s.1) : VRs p1 s1.1 := by
  obtain ⟨R, O⟩ := R
  obtain ⟨Rt, ⟨v14, v17, v16, l0, l3, l1⟩, ⟨u1, u2⟩, -, ⟨w1, w2⟩⟩ := Rv
  have h25 : 0 ≤ s.1 254 25 := Rt.2.2.1.1
  by_cases he : e.1 ≤ 34
  · have F := mi_fs_ev V e s s1 he hm
    have e9 := pz_ev he hp 9 (by decide)
    have h9 := pr_body9 he hp
    refine ⟨fun v hv => (R v (by rw [F 254 25 rfl rfl] at hv; exact hv)).fs F, fun z => by omega⟩
  obtain ⟨g, ty, so, bs, oc⟩ := s
  obtain ⟨n, a, b, d⟩ := e
  dsimp only at he R O v14 v17 v16 w1 w2 h25
  unfold pr at hp
  split at hp
  all_goals first
    | (cases hp; done)
    | (rename_i hn; have hn : n = _ := hn; subst hn)
  all_goals first
    | (exfalso; omega)
    | skip
  all_goals (obtain ⟨hc, -, hq⟩ := pr_q_in hp; subst hq)
  · -- 39
    cases hm; exact ⟨R, fun z => by simp [pu] at z⟩
  · -- 40
    cases hm
    have k1 : ∀ c j, ¬ (c = 254 ∧ (j = 14 ∨ j = 60)) → c ≠ 261 → ¬ (c = 262 ∧ j = (g 254 14).toNat) → am_up (am_up (am_up (am_up g 261 (g 254 14).toNat a) 262 (g 254 14).toNat 0) 254 14 (g 254 14 + 1)) 254 60 0 c j = g c j := fun c j h1 h2 h3 => by
      rw [p_up_n _ _ _ _ _ _ (by omega), p_up_n _ _ _ _ _ _ (by omega), p_up_n _ _ _ _ _ _ (by omega), p_up_n _ _ _ _ _ _ (by omega)]
    refine ⟨fun v hv => ?_, fun z => ?_⟩
    · have hv : (v : Int) < g 254 25 := by
        have := k1 254 25 (by omega) (by omega) (by omega)
        dsimp only at hv
        rw [this] at hv; exact hv
      refine (R v hv).fr (fun c h1 h2 => k1 c v (by omega) (by omega) (by omega)) (Int.le_of_eq (k1 254 17 (by omega) (by omega) (by omega)).symm) ?_ (Int.le_of_eq (k1 254 16 (by omega) (by omega) (by omega)).symm) (fun k hk => Int.le_of_eq (k1 262 k (by omega) (by omega) (by omega)).symm) (fun k hk => ⟨Int.le_of_eq (k1 267 k (by omega) (by omega) (by omega)).symm, Int.le_of_eq (k1 268 k (by omega) (by omega) (by omega)).symm⟩)
      dsimp only
      rw [p_up_n _ _ _ _ _ _ (Or.inr (by decide)), p_up_s]; omega
    · dsimp only
      rw [p_up_s]; exact ⟨Int.le_refl _, by omega⟩
  · -- 38
    cases hm; exact ⟨R, fun z => O hc.1⟩
  · -- 41
    cases hm
    exact ⟨R, fun z => by simp [pu] at z ⊢; exact O z⟩
  · -- 42
    have h0 := u1 (by omega)
    have w1 := w1 h0
    have O := O hc.1
    obtain ⟨m1, m2, m3, m4, m5, m6⟩ := @mi_dca g (-1) (if b = 1 then 1 else 0) ty a (if b = 1 then g 262 (g 254 14 - 1).toNat else g 254 60) (if b = 1 then g 262 (g 254 14 - 1).toNat else g 254 16)
    have i14 : (g 254 14 - 1).toNat = p.1 0 - 1 := by omega
    have hm : ce_q (g 254 25 < 1090) (if b = 1 then (.inr (am_up (mi_dec (-1) 1 ty a (g 262 (g 254 14 - 1).toNat) (g 262 (g 254 14 - 1).toNat) g) 262 (g 254 14 - 1).toNat (g 262 (g 254 14 - 1).toNat + 1), ty, so, bs, oc) : gx_R mi_S) else .inr (am_up (am_up (mi_dec (-1) 0 ty a (g 254 60) (g 254 16) g) 254 16 (g 254 16 + 1)) 254 60 (g 254 60 + 1), ty, so, bs, oc)) = .inr s1 := hm
    unfold ce_q at hm
    split at hm
    · by_cases hb : b = 1
      · rw [if_pos hb] at hm
        cases hm
        rw [if_pos hb, if_pos hb, if_pos hb] at m1 m2 m3 m4 m5 m6
        have hf : p.1 2 < 12 := by rcases hc.2.2.1 with z | z <;> dsimp only at z <;> omega
        dsimp only
        rw [i14] at m1 m2 m3 m4 m5 m6 ⊢
        have k1 : ∀ c j, ¬ (270 ≤ c ∧ c ≤ 276 ∧ j = (g 254 25).toNat) → ¬ (c = 254 ∧ j = 25) → ¬ (c = 262 ∧ j = p.1 0 - 1) → am_up (mi_dec (-1) 1 ty a (g 262 (p.1 0 - 1)) (g 262 (p.1 0 - 1)) g) 262 (p.1 0 - 1) (g 262 (p.1 0 - 1) + 1) c j = g c j := fun c j h1 h2 h3 => by rw [p_up_n _ _ _ _ _ _ (by omega), mi_dcn h1 h2]
        have q62 : am_up (mi_dec (-1) 1 ty a (g 262 (p.1 0 - 1)) (g 262 (p.1 0 - 1)) g) 262 (p.1 0 - 1) (g 262 (p.1 0 - 1) + 1) 262 (p.1 0 - 1) = g 262 (p.1 0 - 1) + 1 := p_up_s _ _ _ _
        have k2 : ∀ c j, c ≠ 262 → am_up (mi_dec (-1) 1 ty a (g 262 (p.1 0 - 1)) (g 262 (p.1 0 - 1)) g) 262 (p.1 0 - 1) (g 262 (p.1 0 - 1) + 1) c j = mi_dec (-1) 1 ty a (g 262 (p.1 0 - 1)) (g 262 (p.1 0 - 1)) g c j := fun c j h => by rw [p_up_c _ _ _ _ _ h]
        generalize hG : am_up (mi_dec (-1) 1 ty a (g 262 (p.1 0 - 1)) (g 262 (p.1 0 - 1)) g) 262 (p.1 0 - 1) (g 262 (p.1 0 - 1) + 1) = G at k1 k2 q62 ⊢
        refine ⟨fun v hv => ?_, fun z => ?_⟩
        · rw [k2 254 25 (by decide), m1] at hv
          by_cases cv : (v : Int) < g 254 25
          · refine (R v cv).fr (fun c h1 h2 => k1 c v (by omega) (by omega) (by omega)) (Int.le_of_eq (k1 254 17 (by omega) (by omega) (by omega)).symm) (Int.le_of_eq (k1 254 14 (by omega) (by omega) (by omega)).symm) (Int.le_of_eq (k1 254 16 (by omega) (by omega) (by omega)).symm) (fun k hk => ?_) (fun k hk => ⟨Int.le_of_eq (k1 267 k (by omega) (by omega) (by omega)).symm, Int.le_of_eq (k1 268 k (by omega) (by omega) (by omega)).symm⟩)
            by_cases ck : k = p.1 0 - 1
            · rw [ck, q62]; omega
            · exact Int.le_of_eq (k1 262 k (by omega) (by omega) (by omega)).symm
          · have ev : v = (g 254 25).toNat := by omega
            subst ev
            unfold VR
            rw [k2 270 _ (by decide), k2 271 _ (by decide), k2 272 _ (by decide), k2 275 _ (by decide), k2 276 _ (by decide), m2, m3, m4, m5, m6, k1 254 17 (by omega) (by omega) (by omega), k1 254 14 (by omega) (by omega) (by omega), i14, q62]
            refine ⟨⟨by omega, fun _ => rfl, fun z => by omega⟩, ⟨by omega, by omega, by omega⟩, fun z => by omega, fun z => by omega, fun z => by omega, fun z => by omega⟩
        · rw [k1 254 60 (by omega) (by omega) (by omega)]
          rw [if_pos hb]
          simp only [pu]
          simp
          omega
      · rw [if_neg hb] at hm
        cases hm
        rw [if_neg hb, if_neg hb, if_neg hb] at m1 m2 m3 m4 m5 m6
        have hf : p.1 1 < 12 := by rcases hc.2.2.1 with z | z <;> dsimp only at z <;> omega
        dsimp only
        have k1 : ∀ c j, ¬ (270 ≤ c ∧ c ≤ 276 ∧ j = (g 254 25).toNat) → ¬ (c = 254 ∧ (j = 25 ∨ j = 16 ∨ j = 60)) → am_up (am_up (mi_dec (-1) 0 ty a (g 254 60) (g 254 16) g) 254 16 (g 254 16 + 1)) 254 60 (g 254 60 + 1) c j = g c j := fun c j h1 h2 => by rw [p_up_n _ _ _ _ _ _ (by omega), p_up_n _ _ _ _ _ _ (by omega), mi_dcn h1 (by omega)]
        have q16 : am_up (am_up (mi_dec (-1) 0 ty a (g 254 60) (g 254 16) g) 254 16 (g 254 16 + 1)) 254 60 (g 254 60 + 1) 254 16 = g 254 16 + 1 := by rw [p_up_n _ _ _ _ _ _ (Or.inr (by decide)), p_up_s]
        have q60 : am_up (am_up (mi_dec (-1) 0 ty a (g 254 60) (g 254 16) g) 254 16 (g 254 16 + 1)) 254 60 (g 254 60 + 1) 254 60 = g 254 60 + 1 := p_up_s _ _ _ _
        have k2 : ∀ c j, ¬ (c = 254 ∧ (j = 16 ∨ j = 60)) → am_up (am_up (mi_dec (-1) 0 ty a (g 254 60) (g 254 16) g) 254 16 (g 254 16 + 1)) 254 60 (g 254 60 + 1) c j = mi_dec (-1) 0 ty a (g 254 60) (g 254 16) g c j := fun c j h => by rw [p_up_n _ _ _ _ _ _ (by omega), p_up_n _ _ _ _ _ _ (by omega)]
        generalize hG : am_up (am_up (mi_dec (-1) 0 ty a (g 254 60) (g 254 16) g) 254 16 (g 254 16 + 1)) 254 60 (g 254 60 + 1) = G at k1 k2 q16 q60 ⊢
        refine ⟨fun v hv => ?_, fun z => ?_⟩
        · rw [k2 254 25 (by decide), m1] at hv
          by_cases cv : (v : Int) < g 254 25
          · exact (R v cv).fr (fun c h1 h2 => k1 c v (by omega) (by omega)) (Int.le_of_eq (k1 254 17 (by omega) (by omega)).symm) (Int.le_of_eq (k1 254 14 (by omega) (by omega)).symm) (by rw [q16]; omega) (fun k hk => Int.le_of_eq (k1 262 k (by omega) (by omega)).symm) (fun k hk => ⟨Int.le_of_eq (k1 267 k (by omega) (by omega)).symm, Int.le_of_eq (k1 268 k (by omega) (by omega)).symm⟩)
          · have ev : v = (g 254 25).toNat := by omega
            subst ev
            unfold VR
            rw [k2 270 _ (by omega), k2 271 _ (by omega), k2 272 _ (by omega), k2 275 _ (by omega), k2 276 _ (by omega), m2, m3, m4, m5, m6, k1 254 17 (by omega) (by omega), k1 254 14 (by omega) (by omega), q16]
            refine ⟨⟨by omega, fun _ => rfl, fun z => by omega⟩, ⟨by omega, by omega, by omega⟩, fun z => by omega, fun z => by omega, fun z => by omega, fun z => by omega⟩
        · rw [q60]
          rw [if_neg hb]
          simp only [pu]
          simp
          omega
    · cases hm
  · -- 43
    cases hm; exact ⟨R, fun z => by simp [pu] at z⟩
  · -- 44
    cases hm; exact ⟨R, fun z => by have h0 := hc.1; simp [pu] at z; omega⟩
  · -- 45
    cases hm
    dsimp only
    have k1 : ∀ c j, ¬ (263 ≤ c ∧ c ≤ 269 ∧ j = (g 254 17).toNat) → ¬ (c = 254 ∧ (j = 17 ∨ j = 50)) → am_up (am_up (am_up (am_up (am_up (am_up (am_up (am_up (am_up g 263 (g 254 17).toNat (g 254 14 - 1)) 264 (g 254 17).toNat so) 265 (g 254 17).toNat a) 266 (g 254 17).toNat ty) 267 (g 254 17).toNat 0) 268 (g 254 17).toNat 0) 269 (g 254 17).toNat (g 254 33)) 254 17 (g 254 17 + 1)) 254 50 0 c j = g c j := fun c j h1 h2 => by
      rw [p_up_n _ _ _ _ _ _ (by omega), p_up_n _ _ _ _ _ _ (by omega), p_up_n _ _ _ _ _ _ (by omega), p_up_n _ _ _ _ _ _ (by omega), p_up_n _ _ _ _ _ _ (by omega), p_up_n _ _ _ _ _ _ (by omega), p_up_n _ _ _ _ _ _ (by omega), p_up_n _ _ _ _ _ _ (by omega), p_up_n _ _ _ _ _ _ (by omega)]
    refine ⟨fun v hv => ?_, fun z => by simp [pu] at z⟩
    rw [k1 254 25 (by omega) (by omega)] at hv
    refine (R v hv).fr (fun c h1 h2 => k1 c v (by omega) (by omega)) ?_ (Int.le_of_eq (k1 254 14 (by omega) (by omega)).symm) (Int.le_of_eq (k1 254 16 (by omega) (by omega)).symm) (fun k hk => Int.le_of_eq (k1 262 k (by omega) (by omega)).symm) (fun k hk => ⟨Int.le_of_eq (k1 267 k (by omega) (by omega)).symm, Int.le_of_eq (k1 268 k (by omega) (by omega)).symm⟩)
    rw [p_up_n _ _ _ _ _ _ (Or.inr (by decide)), p_up_s]; omega
  · -- 51
    cases hm; exact ⟨R, fun z => by have h0 := hc.1; simp [pu] at z; omega⟩
  · -- 46
    have h3 := u2 (by omega)
    have w2 := w2 h3
    obtain ⟨m1, m2, m3, m4, m5, m6⟩ := @mi_dca g (g 254 17 - 1) 2 ty a (g 267 (g 254 17 - 1).toNat) (g 267 (g 254 17 - 1).toNat)
    have i17 : (g 254 17 - 1).toNat = p.1 3 - 1 := by omega
    have h0 := u1 (by omega)
    have hm : ce_q (g 254 25 < 1090) (.inr (am_up (mi_dec (g 254 17 - 1) 2 ty a (g 267 (g 254 17 - 1).toNat) (g 267 (g 254 17 - 1).toNat) g) 267 (g 254 17 - 1).toNat (g 267 (g 254 17 - 1).toNat + 1), ty, so, bs, oc) : gx_R mi_S) = .inr s1 := hm
    unfold ce_q at hm
    split at hm
    · cases hm
      dsimp only
      rw [i17] at m1 m2 m3 m4 m5 m6 ⊢
      have hf : p.1 4 < 12 := hc.2.1
      have k1 : ∀ c j, ¬ (270 ≤ c ∧ c ≤ 276 ∧ j = (g 254 25).toNat) → ¬ (c = 254 ∧ j = 25) → ¬ (c = 267 ∧ j = p.1 3 - 1) → am_up (mi_dec (g 254 17 - 1) 2 ty a (g 267 (p.1 3 - 1)) (g 267 (p.1 3 - 1)) g) 267 (p.1 3 - 1) (g 267 (p.1 3 - 1) + 1) c j = g c j := fun c j h1 h2 h3 => by rw [p_up_n _ _ _ _ _ _ (by omega), mi_dcn h1 h2]
      have q62 : am_up (mi_dec (g 254 17 - 1) 2 ty a (g 267 (p.1 3 - 1)) (g 267 (p.1 3 - 1)) g) 267 (p.1 3 - 1) (g 267 (p.1 3 - 1) + 1) 267 (p.1 3 - 1) = g 267 (p.1 3 - 1) + 1 := p_up_s _ _ _ _
      have k2 : ∀ c j, c ≠ 267 → am_up (mi_dec (g 254 17 - 1) 2 ty a (g 267 (p.1 3 - 1)) (g 267 (p.1 3 - 1)) g) 267 (p.1 3 - 1) (g 267 (p.1 3 - 1) + 1) c j = mi_dec (g 254 17 - 1) 2 ty a (g 267 (p.1 3 - 1)) (g 267 (p.1 3 - 1)) g c j := fun c j h => by rw [p_up_c _ _ _ _ _ h]
      generalize hG : am_up (mi_dec (g 254 17 - 1) 2 ty a (g 267 (p.1 3 - 1)) (g 267 (p.1 3 - 1)) g) 267 (p.1 3 - 1) (g 267 (p.1 3 - 1) + 1) = G at k1 k2 q62 ⊢
      refine ⟨fun v hv => ?_, fun z => by have h0 := hc.1; simp [pu] at z; omega⟩
      rw [k2 254 25 (by decide), m1] at hv
      by_cases cv : (v : Int) < g 254 25
      · refine (R v cv).fr (fun c h1 h2 => k1 c v (by omega) (by omega) (by omega)) (Int.le_of_eq (k1 254 17 (by omega) (by omega) (by omega)).symm) (Int.le_of_eq (k1 254 14 (by omega) (by omega) (by omega)).symm) (Int.le_of_eq (k1 254 16 (by omega) (by omega) (by omega)).symm) (fun k hk => Int.le_of_eq (k1 262 k (by omega) (by omega) (by omega)).symm) (fun k hk => ⟨?_, Int.le_of_eq (k1 268 k (by omega) (by omega) (by omega)).symm⟩)
        by_cases ck : k = p.1 3 - 1
        · rw [ck, q62]; omega
        · exact Int.le_of_eq (k1 267 k (by omega) (by omega) (by omega)).symm
      · have ev : v = (g 254 25).toNat := by omega
        subst ev
        unfold VR
        rw [k2 270 _ (by decide), k2 271 _ (by decide), k2 272 _ (by decide), k2 275 _ (by decide), k2 276 _ (by decide), m2, m3, m4, m5, m6, k1 254 17 (by omega) (by omega) (by omega), k1 254 14 (by omega) (by omega) (by omega), i17, q62]
        refine ⟨⟨by omega, fun z => by omega, fun z => by omega⟩, ⟨by omega, by omega, by omega⟩, fun z => by omega, fun z => by omega, fun z => by omega, fun z => by omega⟩
    · cases hm
  · -- 47
    cases hm; exact ⟨R, fun z => by have h0 := hc.1; simp [pu] at z⟩
  · -- 50
    have h3 := u2 (by omega)
    have w2 := w2 h3
    obtain ⟨m1, m2, m3, m4, m5, m6⟩ := @mi_dca g (g 254 17 - 1) 3 ty a (g 268 (g 254 17 - 1).toNat) (g 268 (g 254 17 - 1).toNat)
    have i17 : (g 254 17 - 1).toNat = p.1 3 - 1 := by omega
    have h0 := u1 (by omega)
    have hm : ce_q (g 254 25 < 1090) (.inr (am_up (mi_dec (g 254 17 - 1) 3 ty a (g 268 (g 254 17 - 1).toNat) (g 268 (g 254 17 - 1).toNat) g) 268 (g 254 17 - 1).toNat (g 268 (g 254 17 - 1).toNat + 1), ty, so, bs, oc) : gx_R mi_S) = .inr s1 := hm
    unfold ce_q at hm
    split at hm
    · cases hm
      dsimp only
      rw [i17] at m1 m2 m3 m4 m5 m6 ⊢
      have hf : p.1 5 < 12 := hc.2.1
      have k1 : ∀ c j, ¬ (270 ≤ c ∧ c ≤ 276 ∧ j = (g 254 25).toNat) → ¬ (c = 254 ∧ j = 25) → ¬ (c = 268 ∧ j = p.1 3 - 1) → am_up (mi_dec (g 254 17 - 1) 3 ty a (g 268 (p.1 3 - 1)) (g 268 (p.1 3 - 1)) g) 268 (p.1 3 - 1) (g 268 (p.1 3 - 1) + 1) c j = g c j := fun c j h1 h2 h3 => by rw [p_up_n _ _ _ _ _ _ (by omega), mi_dcn h1 h2]
      have q62 : am_up (mi_dec (g 254 17 - 1) 3 ty a (g 268 (p.1 3 - 1)) (g 268 (p.1 3 - 1)) g) 268 (p.1 3 - 1) (g 268 (p.1 3 - 1) + 1) 268 (p.1 3 - 1) = g 268 (p.1 3 - 1) + 1 := p_up_s _ _ _ _
      have k2 : ∀ c j, c ≠ 268 → am_up (mi_dec (g 254 17 - 1) 3 ty a (g 268 (p.1 3 - 1)) (g 268 (p.1 3 - 1)) g) 268 (p.1 3 - 1) (g 268 (p.1 3 - 1) + 1) c j = mi_dec (g 254 17 - 1) 3 ty a (g 268 (p.1 3 - 1)) (g 268 (p.1 3 - 1)) g c j := fun c j h => by rw [p_up_c _ _ _ _ _ h]
      generalize hG : am_up (mi_dec (g 254 17 - 1) 3 ty a (g 268 (p.1 3 - 1)) (g 268 (p.1 3 - 1)) g) 268 (p.1 3 - 1) (g 268 (p.1 3 - 1) + 1) = G at k1 k2 q62 ⊢
      refine ⟨fun v hv => ?_, fun z => by have h0 := hc.1; simp [pu] at z; omega⟩
      rw [k2 254 25 (by decide), m1] at hv
      by_cases cv : (v : Int) < g 254 25
      · refine (R v cv).fr (fun c h1 h2 => k1 c v (by omega) (by omega) (by omega)) (Int.le_of_eq (k1 254 17 (by omega) (by omega) (by omega)).symm) (Int.le_of_eq (k1 254 14 (by omega) (by omega) (by omega)).symm) (Int.le_of_eq (k1 254 16 (by omega) (by omega) (by omega)).symm) (fun k hk => Int.le_of_eq (k1 262 k (by omega) (by omega) (by omega)).symm) (fun k hk => ⟨Int.le_of_eq (k1 267 k (by omega) (by omega) (by omega)).symm, ?_⟩)
        by_cases ck : k = p.1 3 - 1
        · rw [ck, q62]; omega
        · exact Int.le_of_eq (k1 268 k (by omega) (by omega) (by omega)).symm
      · have ev : v = (g 254 25).toNat := by omega
        subst ev
        unfold VR
        rw [k2 270 _ (by decide), k2 271 _ (by decide), k2 272 _ (by decide), k2 275 _ (by decide), k2 276 _ (by decide), m2, m3, m4, m5, m6, k1 254 17 (by omega) (by omega) (by omega), k1 254 14 (by omega) (by omega) (by omega), i17, q62]
        refine ⟨⟨by omega, fun z => by omega, fun z => by omega⟩, ⟨by omega, by omega, by omega⟩, fun z => by omega, fun z => by omega, fun z => by omega, fun z => by omega⟩
    · cases hm
  · -- 48
    cases hm
    dsimp only
    have k1 : ∀ c j, c ≠ 269 → ¬ (c = 254 ∧ j = 55) → am_up (am_up g 269 (g 254 17 - 1).toNat (g 254 33)) 254 55 0 c j = g c j := fun c j h1 h2 => by rw [p_up_n _ _ _ _ _ _ (by omega), p_up_n _ _ _ _ _ _ (by omega)]
    refine ⟨fun v hv => ?_, fun z => by simp [pu] at z⟩
    rw [k1 254 25 (by omega) (by omega)] at hv
    exact (R v hv).fr (fun c h1 h2 => k1 c v (by omega) (by omega)) (Int.le_of_eq (k1 254 17 (by omega) (by omega)).symm) (Int.le_of_eq (k1 254 14 (by omega) (by omega)).symm) (Int.le_of_eq (k1 254 16 (by omega) (by omega)).symm) (fun k hk => Int.le_of_eq (k1 262 k (by omega) (by omega)).symm) (fun k hk => ⟨Int.le_of_eq (k1 267 k (by omega) (by omega)).symm, Int.le_of_eq (k1 268 k (by omega) (by omega)).symm⟩)
  · -- 49
    have F : mi_fs g s1.1 := mi_fs_h (s := (g, ty, so, bs, oc)) (mi_fs_2 _ _ _ _ _ _ _ _ g) s1 hm
    exact ⟨fun v hv => (R v (by rw [F 254 25 rfl rfl] at hv; exact hv)).fs F, fun z => by simp [pu] at z⟩
end
