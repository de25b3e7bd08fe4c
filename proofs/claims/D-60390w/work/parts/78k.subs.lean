/-! PURE LAYER, 142: what subs hold; the class of the sub at hand; blocks -/
def SU (S : am_H) (p : pr_S) (s : mi_S) : Prop := (∀ a, a < p.1 3 → (0 ≤ s.1 267 a ∧ s.1 267 a ≤ 12) ∧ (0 ≤ s.1 268 a ∧ s.1 268 a ≤ 12) ∧ (S 264 a = 1 ∨ S 264 a = 2 ∨ S 264 a = 3)) ∧ (∀ k, k < p.1 0 → 0 ≤ s.1 262 k ∧ s.1 262 k ≤ 12) ∧ (p.1 17 = 1 → s.2.2.1 = 1 ∨ s.2.2.1 = 2 ∨ s.2.2.1 = 3) ∧ (4 ≤ p.1 9 → S 263 (p.1 3 - 1) = (p.1 0 : Int) - 1) ∧ (p.1 9 ≠ 6 → p.2.1 = []) ∧ ∀ b ∈ s.2.2.2.1, 0 ≤ b.2.2.2
section
variable {K V : Nat → Int} {pE : pr_S} {S : mi_S} {e : gx_V} {es : List gx_V} {p p1 : pr_S} {s s1 : mi_S} {c c1 : ce_S}
theorem kr_ev {w : Nat → Nat → Nat} (hp : pr w K V e p = .inr p1) (hm : mi V e s = .inr s1) (Rv : rv K p s) : (∀ a, a + 1 < p1.1 3 → s1.1 267 a = s.1 267 a ∧ s1.1 268 a = s.1 268 a ∧ a < p.1 3) ∧ (∀ k, k + 1 < p1.1 0 → s1.1 262 k = s.1 262 k ∧ k < p.1 0) ∧ (p1.1 17 = 1 → (s1.2.2.1 = s.2.2.1 ∧ p.1 17 = 1) ∨ (s1.2.2.1 = 1 ∨ s1.2.2.1 = 2 ∨ s1.2.2.1 = 3)) ∧ (p1.1 3 = p.1 3 ∨ p1.1 3 = p.1 3 + 1 ∧ s1.1 264 (p.1 3) = s.2.2.1 ∧ p.1 17 = 1 ∧ s1.1 263 (p.1 3) = (p.1 0 : Int) - 1 ∧ p1.1 0 = p.1 0) ∧ (4 ≤ p1.1 9 → p1.1 3 = p.1 3 → p1.1 0 = p.1 0 ∧ 4 ≤ p.1 9) := by
  obtain ⟨Rt, ⟨v14, v17, v16, l0, l3, l1⟩, ⟨u1, u2⟩, -, ⟨w1, w2⟩⟩ := Rv
  by_cases he : e.1 ≤ 34
  · have F := mi_fs_ev V e s s1 he hm
    have z := fun k hk => pz_ev he hp k hk
    have e3 := z 3 (by decide)
    have e0 := z 0 (by decide)
    have e17 := z 17 (by decide)
    have e9 := z 9 (by decide)
    have eso : s1.2.2.1 = s.2.2.1 := (mi_body e s s1 he hm).2.2
    refine ⟨fun a ha => ⟨F 267 a rfl (by simp [mi_SF]), F 268 a rfl (by simp [mi_SF]), by omega⟩, fun k hk => ⟨F 262 k rfl (by simp [mi_SF]), by omega⟩, fun h => Or.inl ⟨eso, by omega⟩, Or.inl e3, fun h1 h2 => ⟨e0, by omega⟩⟩
  obtain ⟨g, ty, so, bs, oc⟩ := s
  obtain ⟨n, a, b, d⟩ := e
  dsimp only at he v14 v17 v16 w1 w2
  unfold pr at hp
  split at hp
  all_goals first
    | (cases hp; done)
    | (rename_i hn; have hn : n = _ := hn; subst hn)
  all_goals first
    | (exfalso; omega)
    | skip
  all_goals (obtain ⟨hc, -, hq⟩ := pr_q_in hp; subst hq)
  · -- 39
    cases hm
    exact ⟨fun a ha => ⟨rfl, rfl, by have ha : a + 1 < p.1 3 := ha; omega⟩, fun k hk => ⟨rfl, by have hk : k + 1 < p.1 0 := hk; omega⟩, fun h => Or.inl ⟨rfl, h⟩, Or.inl rfl, fun h => absurd h (by show ¬ 4 ≤ 1; decide)⟩
  · -- 40
    cases hm
    have k1 : ∀ c j, c ≠ 254 → c ≠ 261 → ¬ (c = 262 ∧ j = (g 254 14).toNat) → am_up (am_up (am_up (am_up g 261 (g 254 14).toNat a) 262 (g 254 14).toNat 0) 254 14 (g 254 14 + 1)) 254 60 0 c j = g c j := fun c j h1 h2 h3 => by
      rw [p_up_n _ _ _ _ _ _ (by omega), p_up_n _ _ _ _ _ _ (by omega), p_up_n _ _ _ _ _ _ (by omega), p_up_n _ _ _ _ _ _ (by omega)]
    refine ⟨fun a ha => ⟨k1 267 a (by decide) (by decide) (by omega), k1 268 a (by decide) (by decide) (by omega), by have ha : a + 1 < p.1 3 := ha; omega⟩, fun k hk => ?_, fun h => Or.inl ⟨rfl, h⟩, Or.inl rfl, fun h => absurd h (by show ¬ 4 ≤ 2; decide)⟩
    have hk : k + 1 < p.1 0 + 1 := hk
    exact ⟨k1 262 k (by decide) (by decide) (by omega), by omega⟩
  · -- 38
    cases hm
    exact ⟨fun a ha => ⟨rfl, rfl, by have ha : a + 1 < p.1 3 := ha; omega⟩, fun k hk => ⟨rfl, by have hk : k + 1 < p.1 0 := hk; omega⟩, fun h => Or.inl ⟨rfl, h⟩, Or.inl rfl, fun h _ => ⟨rfl, h⟩⟩
  · -- 41
    cases hm
    exact ⟨fun a ha => ⟨rfl, rfl, by have ha : a + 1 < p.1 3 := ha; omega⟩, fun k hk => ⟨rfl, by have hk : k + 1 < p.1 0 := hk; omega⟩, fun h => Or.inl ⟨rfl, h⟩, Or.inl rfl, fun h _ => ⟨rfl, h⟩⟩
  · -- 42
    have q3 : (pu (pu (if b = 1 then pu p.1 2 (p.1 2 + 1) else pu p.1 1 (p.1 1 + 1)) 10 (a.toNat + 1)) 14 0) 3 = p.1 3 := by
      show (if b = 1 then pu p.1 2 (p.1 2 + 1) else pu p.1 1 (p.1 1 + 1)) 3 = p.1 3
      split <;> rfl
    have q0 : (pu (pu (if b = 1 then pu p.1 2 (p.1 2 + 1) else pu p.1 1 (p.1 1 + 1)) 10 (a.toNat + 1)) 14 0) 0 = p.1 0 := by
      show (if b = 1 then pu p.1 2 (p.1 2 + 1) else pu p.1 1 (p.1 1 + 1)) 0 = p.1 0
      split <;> rfl
    have q17 : (pu (pu (if b = 1 then pu p.1 2 (p.1 2 + 1) else pu p.1 1 (p.1 1 + 1)) 10 (a.toNat + 1)) 14 0) 17 = p.1 17 := by
      show (if b = 1 then pu p.1 2 (p.1 2 + 1) else pu p.1 1 (p.1 1 + 1)) 17 = p.1 17
      split <;> rfl
    have q9 : (pu (pu (if b = 1 then pu p.1 2 (p.1 2 + 1) else pu p.1 1 (p.1 1 + 1)) 10 (a.toNat + 1)) 14 0) 9 = p.1 9 := by
      show (if b = 1 then pu p.1 2 (p.1 2 + 1) else pu p.1 1 (p.1 1 + 1)) 9 = p.1 9
      split <;> rfl
    have hm : ce_q (g 254 25 < 1090) (if b = 1 then (.inr (am_up (mi_dec (-1) 1 ty a (g 262 (g 254 14 - 1).toNat) (g 262 (g 254 14 - 1).toNat) g) 262 (g 254 14 - 1).toNat (g 262 (g 254 14 - 1).toNat + 1), ty, so, bs, oc) : gx_R mi_S) else .inr (am_up (am_up (mi_dec (-1) 0 ty a (g 254 60) (g 254 16) g) 254 16 (g 254 16 + 1)) 254 60 (g 254 60 + 1), ty, so, bs, oc)) = .inr s1 := hm
    have key : (∀ a, s1.1 267 a = g 267 a ∧ s1.1 268 a = g 268 a) ∧ (∀ k, k + 1 < p.1 0 → s1.1 262 k = g 262 k) ∧ s1.2.2.1 = so := by
      unfold ce_q at hm
      split at hm
      · by_cases hb : b = 1
        · rw [if_pos hb] at hm
          cases hm
          have k1 : ∀ c j, c ≠ 254 → ¬ (270 ≤ c ∧ c ≤ 276) → ¬ (c = 262 ∧ j = (g 254 14 - 1).toNat) → am_up (mi_dec (-1) 1 ty a (g 262 (g 254 14 - 1).toNat) (g 262 (g 254 14 - 1).toNat) g) 262 (g 254 14 - 1).toNat (g 262 (g 254 14 - 1).toNat + 1) c j = g c j := fun c j h1 h2 h3 => by rw [p_up_n _ _ _ _ _ _ (by omega), mi_dcn (by omega) (by omega)]
          exact ⟨fun a => ⟨k1 267 a (by decide) (by decide) (by omega), k1 268 a (by decide) (by decide) (by omega)⟩, fun k hk => k1 262 k (by decide) (by decide) (by omega), rfl⟩
        · rw [if_neg hb] at hm
          cases hm
          have k1 : ∀ c j, c ≠ 254 → ¬ (270 ≤ c ∧ c ≤ 276) → am_up (am_up (mi_dec (-1) 0 ty a (g 254 60) (g 254 16) g) 254 16 (g 254 16 + 1)) 254 60 (g 254 60 + 1) c j = g c j := fun c j h1 h2 => by rw [p_up_c _ _ _ _ _ h1, p_up_c _ _ _ _ _ h1, mi_dcn (by omega) (by omega)]
          exact ⟨fun a => ⟨k1 267 a (by decide) (by decide), k1 268 a (by decide) (by decide)⟩, fun k hk => k1 262 k (by decide) (by decide), rfl⟩
      · cases hm
    dsimp only
    rw [q3, q0, q17, q9]
    exact ⟨fun a ha => ⟨(key.1 a).1, (key.1 a).2, by omega⟩, fun k hk => ⟨key.2.1 k hk, by omega⟩, fun h => Or.inl ⟨key.2.2, h⟩, Or.inl rfl, fun h _ => ⟨rfl, h⟩⟩
  · -- 43
    cases hm
    exact ⟨fun a ha => ⟨rfl, rfl, by have ha : a + 1 < p.1 3 := ha; omega⟩, fun k hk => ⟨rfl, by have hk : k + 1 < p.1 0 := hk; omega⟩, fun h => Or.inl ⟨rfl, h⟩, Or.inl rfl, fun h => absurd h (by show ¬ 4 ≤ 3; decide)⟩
  · -- 44
    cases hm
    exact ⟨fun a ha => ⟨rfl, rfl, by have ha : a + 1 < p.1 3 := ha; omega⟩, fun k hk => ⟨rfl, by have hk : k + 1 < p.1 0 := hk; omega⟩, fun h => Or.inr hc.2.2.1, Or.inl rfl, fun h _ => ⟨rfl, h⟩⟩
  · -- 45
    cases hm
    have k1 : ∀ c j, c ≠ 254 → ¬ (263 ≤ c ∧ c ≤ 269 ∧ j = (g 254 17).toNat) → am_up (am_up (am_up (am_up (am_up (am_up (am_up (am_up (am_up g 263 (g 254 17).toNat (g 254 14 - 1)) 264 (g 254 17).toNat so) 265 (g 254 17).toNat a) 266 (g 254 17).toNat ty) 267 (g 254 17).toNat 0) 268 (g 254 17).toNat 0) 269 (g 254 17).toNat (g 254 33)) 254 17 (g 254 17 + 1)) 254 50 0 c j = g c j := fun c j h1 h2 => by
      rw [p_up_c _ _ _ _ _ h1, p_up_c _ _ _ _ _ h1, p_up_n _ _ _ _ _ _ (by omega), p_up_n _ _ _ _ _ _ (by omega), p_up_n _ _ _ _ _ _ (by omega), p_up_n _ _ _ _ _ _ (by omega), p_up_n _ _ _ _ _ _ (by omega), p_up_n _ _ _ _ _ _ (by omega), p_up_n _ _ _ _ _ _ (by omega)]
    have e17 : (g 254 17).toNat = p.1 3 := by omega
    refine ⟨fun a ha => ?_, fun k hk => ?_, fun h => Or.inl ⟨rfl, hc.1.2⟩, Or.inr ⟨rfl, ?_, hc.1.2, ?_, rfl⟩, fun _ h => ?_⟩
    · have ha : a + 1 < p.1 3 + 1 := ha
      exact ⟨k1 267 a (by decide) (by omega), k1 268 a (by decide) (by omega), by omega⟩
    · have hk : k + 1 < p.1 0 := hk
      exact ⟨k1 262 k (by decide) (by omega), by omega⟩
    · dsimp only
      rw [e17, p_up_c _ _ _ _ _ (by decide), p_up_c _ _ _ _ _ (by decide), p_up_c _ _ _ _ _ (by decide), p_up_c _ _ _ _ _ (by decide), p_up_c _ _ _ _ _ (by decide), p_up_c _ _ _ _ _ (by decide), p_up_c _ _ _ _ _ (by decide), p_up_s]
    · dsimp only
      rw [e17, p_up_c _ _ _ _ _ (by decide), p_up_c _ _ _ _ _ (by decide), p_up_c _ _ _ _ _ (by decide), p_up_c _ _ _ _ _ (by decide), p_up_c _ _ _ _ _ (by decide), p_up_c _ _ _ _ _ (by decide), p_up_c _ _ _ _ _ (by decide), p_up_c _ _ _ _ _ (by decide), p_up_s, v14]
    · have h : p.1 3 + 1 = p.1 3 := h
      omega
  · -- 51
    cases hm
    exact ⟨fun a ha => ⟨rfl, rfl, by have ha : a + 1 < p.1 3 := ha; omega⟩, fun k hk => ⟨rfl, by have hk : k + 1 < p.1 0 := hk; omega⟩, fun h => Or.inl ⟨rfl, h⟩, Or.inl rfl, fun h _ => ⟨rfl, h⟩⟩
  · -- 46
    have hm : ce_q (g 254 25 < 1090) (.inr (am_up (mi_dec (g 254 17 - 1) 2 ty a (g 267 (g 254 17 - 1).toNat) (g 267 (g 254 17 - 1).toNat) g) 267 (g 254 17 - 1).toNat (g 267 (g 254 17 - 1).toNat + 1), ty, so, bs, oc) : gx_R mi_S) = .inr s1 := hm
    unfold ce_q at hm
    split at hm
    · cases hm
      have k1 : ∀ c j, c ≠ 254 → ¬ (270 ≤ c ∧ c ≤ 276) → ¬ (c = 267 ∧ j = (g 254 17 - 1).toNat) → am_up (mi_dec (g 254 17 - 1) 2 ty a (g 267 (g 254 17 - 1).toNat) (g 267 (g 254 17 - 1).toNat) g) 267 (g 254 17 - 1).toNat (g 267 (g 254 17 - 1).toNat + 1) c j = g c j := fun c j h1 h2 h3 => by rw [p_up_n _ _ _ _ _ _ (by omega), mi_dcn (by omega) (by omega)]
      refine ⟨fun a ha => ?_, fun k hk => ⟨k1 262 k (by decide) (by decide) (by omega), by have hk : k + 1 < p.1 0 := hk; omega⟩, fun h => Or.inl ⟨rfl, h⟩, Or.inl rfl, fun h _ => ⟨rfl, h⟩⟩
      have ha : a + 1 < p.1 3 := ha
      exact ⟨k1 267 a (by decide) (by decide) (by omega), k1 268 a (by decide) (by decide) (by omega), by omega⟩
    · cases hm
  · -- 47
    cases hm
    exact ⟨fun a ha => ⟨rfl, rfl, by have ha : a + 1 < p.1 3 := ha; omega⟩, fun k hk => ⟨rfl, by have hk : k + 1 < p.1 0 := hk; omega⟩, fun h => Or.inl ⟨rfl, h⟩, Or.inl rfl, fun h _ => ⟨rfl, by have := hc.1; omega⟩⟩
  · -- 50
    have hm : ce_q (g 254 25 < 1090) (.inr (am_up (mi_dec (g 254 17 - 1) 3 ty a (g 268 (g 254 17 - 1).toNat) (g 268 (g 254 17 - 1).toNat) g) 268 (g 254 17 - 1).toNat (g 268 (g 254 17 - 1).toNat + 1), ty, so, bs, oc) : gx_R mi_S) = .inr s1 := hm
    unfold ce_q at hm
    split at hm
    · cases hm
      have k1 : ∀ c j, c ≠ 254 → ¬ (270 ≤ c ∧ c ≤ 276) → ¬ (c = 268 ∧ j = (g 254 17 - 1).toNat) → am_up (mi_dec (g 254 17 - 1) 3 ty a (g 268 (g 254 17 - 1).toNat) (g 268 (g 254 17 - 1).toNat) g) 268 (g 254 17 - 1).toNat (g 268 (g 254 17 - 1).toNat + 1) c j = g c j := fun c j h1 h2 h3 => by rw [p_up_n _ _ _ _ _ _ (by omega), mi_dcn (by omega) (by omega)]
      refine ⟨fun a ha => ?_, fun k hk => ⟨k1 262 k (by decide) (by decide) (by omega), by have hk : k + 1 < p.1 0 := hk; omega⟩, fun h => Or.inl ⟨rfl, h⟩, Or.inl rfl, fun h _ => ⟨rfl, h⟩⟩
      have ha : a + 1 < p.1 3 := ha
      exact ⟨k1 267 a (by decide) (by decide) (by omega), k1 268 a (by decide) (by decide) (by omega), by omega⟩
    · cases hm
  · -- 48
    cases hm
    have k1 : ∀ c j, c ≠ 254 → c ≠ 269 → am_up (am_up g 269 (g 254 17 - 1).toNat (g 254 33)) 254 55 0 c j = g c j := fun c j h1 h2 => by rw [p_up_c _ _ _ _ _ h1, p_up_c _ _ _ _ _ h2]
    exact ⟨fun a ha => ⟨k1 267 a (by decide) (by decide), k1 268 a (by decide) (by decide), by have ha : a + 1 < p.1 3 := ha; omega⟩, fun k hk => ⟨k1 262 k (by decide) (by decide), by have hk : k + 1 < p.1 0 := hk; omega⟩, fun h => Or.inl ⟨rfl, h⟩, Or.inl rfl, fun h _ => ⟨rfl, by have := hc.1; omega⟩⟩
  · -- 49
    have hm : mi_h (g, ty, so, bs, oc) (gx_b (mi_add 0 0 0 0 g) (mi_add 18 1 0 0)) = .inr s1 := hm
    obtain ⟨g2, w3, w4⟩ := gx_b_ok hm
    obtain ⟨g1, w5, w6⟩ := gx_b_ok w3
    cases w4
    have k0 : ∀ (k a b t : Int) (x : am_H) (c j : Nat), c ≠ 254 → ¬ (277 ≤ c ∧ c ≤ 281) → mi_put k a b t x c j = x c j := fun k a b t x c j h1 h2 => by
      unfold mi_put
      rw [p_up_c _ _ _ _ _ h1, p_up_c _ _ _ _ _ (by omega), p_up_c _ _ _ _ _ (by omega), p_up_c _ _ _ _ _ (by omega), p_up_c _ _ _ _ _ (by omega), p_up_c _ _ _ _ _ (by omega)]
    have k1 : ∀ c j, c ≠ 254 → ¬ (277 ≤ c ∧ c ≤ 281) → g2 c j = g c j := fun c j h1 h2 => by rw [mi_add_in w6, k0 _ _ _ _ _ _ _ h1 h2, mi_add_in w5, k0 _ _ _ _ _ _ _ h1 h2]
    exact ⟨fun a ha => ⟨k1 267 a (by decide) (by decide), k1 268 a (by decide) (by decide), by have ha : a + 1 < p.1 3 := ha; omega⟩, fun k hk => ⟨k1 262 k (by decide) (by decide), by have hk : k + 1 < p.1 0 := hk; omega⟩, fun h => Or.inl ⟨rfl, h⟩, Or.inl rfl, fun h => absurd h (by show ¬ 4 ≤ 3; decide)⟩
theorem SU_ev (B : bd K V pE S (e :: es) p s c) (hp : pr pw K V e p = .inr p1) (hm : mi V e s = .inr s1) (B1 : bd K V pE S es p1 s1 c1) (M1 : mx s1.1 S.1) (H : SU S.1 p s) : SU S.1 p1 s1 := by
  obtain ⟨k1, k2, k3, k4, k5⟩ := kr_ev hp hm B.2.1.1
  obtain ⟨H1, H2, H3, H4, H5, H6⟩ := H
  have h33 : 0 ≤ s.1 254 33 := B.2.1.1.1.2.2.2.1.1
  have b1 := B1.2.1.2.2.2.1
  obtain ⟨-, ⟨v14, v17, -⟩, ⟨u1, u2⟩, -, ⟨w1, w2⟩⟩ := B1.2.1.1
  obtain ⟨⟨p1b, p2b⟩, p4b, p5b⟩ := b1
  refine ⟨fun a ha => ?_, fun k hk => ?_, fun h => ?_, fun h => ?_, fun h => ?_, fun b hb => ?_⟩
  · have x64 : S.1 264 a = 1 ∨ S.1 264 a = 2 ∨ S.1 264 a = 3 := by
      rcases k4 with z | ⟨z1, z2, z3, -⟩
      · exact (H1 a (by omega)).2.2
      · by_cases ca : a < p.1 3
        · exact (H1 a ca).2.2
        · have ea : a = p.1 3 := by omega
          rw [ea, M1.2 264 17 rfl _ (by omega), z2]
          exact H3 z3
    by_cases ca : a + 1 < p1.1 3
    · obtain ⟨x1, x2, x3⟩ := k1 a ca
      rw [x1, x2]
      exact ⟨(H1 a x3).1, (H1 a x3).2.1, x64⟩
    · have ea : a = p1.1 3 - 1 := by omega
      obtain ⟨y1, y2⟩ := w2 (by omega)
      refine ⟨by rw [ea, y1]; omega, by rw [ea, y2]; omega, x64⟩
  · by_cases ck : k + 1 < p1.1 0
    · obtain ⟨x1, x2⟩ := k2 k ck
      rw [x1]; exact H2 k x2
    · have ek : k = p1.1 0 - 1 := by omega
      rw [ek, w1 (by omega)]; omega
  · rcases k3 h with ⟨z1, z2⟩ | z
    · rw [z1]; exact H3 z2
    · exact z
  · rcases k4 with z | ⟨z1, -, -, z4, z5⟩
    · obtain ⟨y1, y2⟩ := k5 h z
      rw [z, y1]; exact H4 y2
    · rw [z1, Nat.add_sub_cancel, M1.2 263 17 rfl _ (by omega), z4, z5]
  · by_cases he : e.1 ≤ 34
    · exfalso
      have := pz_ev he hp 9 (by decide)
      have := pr_body9 he hp
      omega
    · have pd := (pr_decl he hp).1.1
      rw [pd]
      by_cases z : p.1 9 = 6
      · obtain ⟨z1, -⟩ := (pr_decl he hp).2.1 z
        obtain ⟨n, x, y, w⟩ := e
        dsimp only at z1
        subst z1
        obtain ⟨cc, -, -⟩ := pr_q_in hp
        exact cc.2.2.1
      · exact H5 z
  · rw [be_ev hm] at hb
    have hd0 : 0 ≤ (s.2.2.2.1.headD (0, 0, 0, 0)).2.2.2 := by
      cases hs : s.2.2.2.1 with
      | nil => exact Int.le_refl 0
      | cons x l => exact H6 x (by rw [hs]; exact List.mem_cons_self)
    have tl : ∀ b ∈ s.2.2.2.1.tail, 0 ≤ b.2.2.2 := fun b hb => H6 b (List.mem_of_mem_tail hb)
    unfold be at hb
    dsimp only at hb
    split at hb
    · rcases List.mem_cons.1 hb with rfl | hb
      · exact h33
      · exact H6 b hb
    · rcases List.mem_cons.1 hb with rfl | hb
      · exact hd0
      · exact tl b hb
    · rcases List.mem_cons.1 hb with rfl | hb
      · exact Int.le_refl 0
      · exact tl b hb
    · exact tl b hb
    · exact tl b hb
    · rcases List.mem_cons.1 hb with rfl | hb
      · exact h33
      · exact H6 b hb
    · rcases List.mem_cons.1 hb with rfl | hb
      · exact hd0
      · exact tl b hb
    · exact tl b hb
    · exact H6 b hb
/-- a call's sub is its items' -/
def CL9 (S : am_H) (s : mi_S) : Prop := ∀ k : Nat, (k : Int) < s.1 254 33 → S 277 k = 9 ∨ S 277 k = 10 → S 289 (S 278 k).toNat = S 281 k
theorem CL9_ev (B : bd K V pE S (e :: es) p s c) (hp : pr pw K V e p = .inr p1) (hm : mi V e s = .inr s1) (B1 : bd K V pE S es p1 s1 c1) (M1 : mx s1.1 S.1) (Y1 : my s1.1 S.1) (H : CL9 S.1 s) : CL9 S.1 s1 := by
  refine it_all B hp hm B1 H (fun j r hr hk => ?_)
  have he := ie_body hr
  obtain ⟨q1, q2, -, -, q5⟩ := ie_end he hp hm B.2.1.1 B.2.2.1 M1 Y1 hr
  rw [q1] at hk
  rw [q2 (by omega) (by omega), q5]
  have R0 := B.2.2.2.1.1
  have R1 := B1.2.2.2.1.1
  have oc1 := oce_ev hm
  obtain ⟨n, x, y, z⟩ := e
  have n11 : n = 11 ∨ n = 12 := by
    clear q1 q2 q5 R0 R1 oc1 B B1 M1 Y1 H hm hp
    apply Classical.byContradiction
    intro hne
    have h11 : ¬ n = 11 := fun z => hne (Or.inl z)
    have h12 : ¬ n = 12 := fun z => hne (Or.inr z)
    unfold ie at hr
    dsimp only at hr
    split at hr
    all_goals first
      | (exact absurd rfl h11)
      | (exact absurd rfl h12)
      | (cases hr; done)
      | (have hr := List.mem_of_getElem? hr
         simp only [List.mem_cons, List.not_mem_nil, or_false] at hr
         first
         | (rcases hr with hr | hr | hr <;> rw [hr] at hk <;> dsimp only at hk <;> omega)
         | (rcases hr with hr | hr <;> rw [hr] at hk <;> dsimp only at hk <;> omega)
         | (rw [hr] at hk; dsimp only at hk; omega))
  rcases n11 with rfl | rfl
  · obtain ⟨cc, -, qq⟩ := pr_q_in hp
    have eo : s1.2.2.2.2 = s.1 254 39 :: s.2.2.2.2 := oc1
    have e3 : p1.1 3 = p.1 3 := by rw [qq]; rfl
    rw [eo, qq] at R1
    have : r = (9, s.1 254 39, 0, 0) := by
      have := (List.getElem?_eq_some_iff.1 hr).1
      have : j < 1 := this
      have : j = 0 := by omega
      subst this
      cases hr; rfl
    rw [this]
    exact R1.1.2.2.2.2
  · cases hq : p.2.2.1 with
    | nil =>
      have hp' := hp
      unfold pr at hp'
      dsimp only at hp'
      rw [hq] at hp'; cases hp'
    | cons q l =>
      rw [hq] at R0
      cases hs : s.2.2.2.2 with
      | nil => rw [hs] at R0; exact R0.elim
      | cons k ks =>
        rw [hs] at R0
        have : r = (10, k, 0, 0) := by
          have := (List.getElem?_eq_some_iff.1 hr).1
          have : j < 1 := this
          have : j = 0 := by omega
          subst this
          have hr : [((10 : Int), s.2.2.2.2.headD 0, (0 : Int), (0 : Int))][0]? = some r := hr
          rw [hs] at hr
          cases hr; rfl
        rw [this]
        exact R0.1.2.2.2.2
/-- every sub has an item -/
def NE (S : am_H) (p : pr_S) (s : mi_S) : Prop := (∀ a, a + 1 < hq p → S 269 a < S 269 (a + 1)) ∧ (p.1 9 ≠ 6 → 0 < hq p → S 269 (hq p - 1) < s.1 254 33)
theorem NE_ev (B : bd K V pE S (e :: es) p s c) (hp : pr pw K V e p = .inr p1) (hm : mi V e s = .inr s1) (B1 : bd K V pE S es p1 s1 c1) (F : FI S.1 p s) (H : NE S.1 p s) : NE S.1 p1 s1 := by
  rcases hq_ev B hp hm B1 with ⟨w, w1, w2, w3, w4, -⟩ | ⟨w, w1, w2, w3, -⟩ | ⟨⟨w, w', w''⟩, w1, w2⟩
  · refine ⟨fun a ha => H.1 a (by omega), fun h9 _ => ?_⟩
    rw [w1, w3]
    have f := F (hq p - 1) (by omega)
    have h49 : e.1 = 49 := by
      rcases w with w | w
      · exfalso
        have := pz_ev w hp 9 (by decide)
        omega
      · exact w
    rw [h49]
    have : (pw 0 49 : Int) = 2 := rfl
    omega
  · have p9 : p.1 9 = 5 := by
      obtain ⟨n, x, y, z⟩ := e
      dsimp only at w
      subst w
      obtain ⟨cc, -, -⟩ := pr_q_in hp
      exact cc.1
    refine ⟨fun a ha => ?_, fun h9 => ?_⟩
    · rw [w1] at ha
      by_cases c : a + 1 < hq p
      · exact H.1 a c
      · have e : a + 1 = hq p := by omega
        rw [e, w3, show a = hq p - 1 by omega]
        exact H.2 (by omega) (by omega)
    · exfalso
      obtain ⟨n, x, y, z⟩ := e
      dsimp only at w
      subst w
      obtain ⟨cc, -, q⟩ := pr_q_in hp
      rw [q] at h9; exact h9 rfl
  · have p9 : p.1 9 ≠ 6 := fun z => w' ((pr_decl w'' hp).2.1 z).1
    refine ⟨fun a ha => H.1 a (by omega), fun _ h0 => ?_⟩
    rw [w1, w2]
    exact H.2 p9 (by omega)
end
