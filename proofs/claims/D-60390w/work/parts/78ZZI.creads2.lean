/-! PURE LAYER, 114: the component's read() -/
section
variable {K K' P V sc ss n6 : Nat → Int} {cc cs : Nat → Nat} {b20 b21 b15 bv bl n0 n3 : Nat} {hm : am_H}
/-- where all begins -/
theorem rv_0 (ty so : Int) (h0 : ty = -1) : rv K' pr_0 (mt_0 hm, ty, so, [], []) := by
  have e : ∀ k, k = 14 ∨ k = 16 ∨ k = 17 ∨ k = 25 ∨ k = 33 ∨ k = 39 → mt_0 hm 254 k = 0 := by
    intro k hk
    unfold mt_0
    rcases hk with e | e | e | e | e | e <;> subst e <;> simp [p_up]
  have z : ∀ k : Nat, ¬ ((k : Int) < 0) := fun k => by omega
  refine ⟨⟨⟨by dsimp only; rw [e 14 (by omega)]; decide, fun k hk => ?_⟩, ⟨by dsimp only; rw [e 17 (by omega)]; decide, fun k hk => ?_⟩, ⟨by dsimp only; rw [e 25 (by omega)]; decide, fun k hk => ?_⟩, ⟨by dsimp only; rw [e 33 (by omega)]; decide, fun k hk => ?_⟩, ⟨by dsimp only; rw [e 39 (by omega)]; decide, fun k hk => ?_⟩⟩, ⟨?_, ?_, ?_, Nat.zero_le _, Nat.zero_le _, Nat.zero_le _⟩, ⟨fun h => ?_, fun h => ?_⟩, ⟨Or.inl h0, fun h => ?_⟩, fun h => ?_, fun h => ?_⟩
  · dsimp only at hk; rw [e 14 (by omega)] at hk; exact absurd hk (z k)
  · dsimp only at hk; rw [e 17 (by omega)] at hk; exact absurd hk (z k)
  · dsimp only at hk; rw [e 25 (by omega)] at hk; exact absurd hk (z k)
  · dsimp only at hk; rw [e 33 (by omega)] at hk; exact absurd hk (z k)
  · dsimp only at hk; rw [e 39 (by omega)] at hk; exact absurd hk (z k)
  · dsimp only; rw [e 14 (by omega)]; rfl
  · dsimp only; rw [e 17 (by omega)]; rfl
  · dsimp only; rw [e 16 (by omega)]; rfl
  · exact absurd h (by decide)
  · exact absurd h (by decide)
  · exact absurd h (by decide)
  · exact absurd h (by decide)
  · exact absurd h (by decide)
theorem pq_0 : pq pr_0 := ⟨fun _ => rfl, Or.inl rfl, fun h => absurd h (by decide), fun h => absurd h (by decide), fun h => absurd h (by decide), by decide, fun h => absurd rfl h⟩
theorem po_0 : po K' pr_0 := fun q hq => by cases hq
theorem pBd_0 : pBd pr_0 := by unfold pBd; decide
theorem rk_0 : rk K' V pr_0 (mt_0 hm, -1, 0, [], []) := by
  refine ⟨trivial, fun k hk _ => ?_⟩
  have : mt_0 hm 254 39 = 0 := by unfold mt_0; simp [p_up]
  dsimp only at hk
  omega
/-- the component's standing where a text is read -/
def cS (b20 b21 b15 bv bl : Nat) (n6 : Nat → Int) (g : am_H) : Prop := (g 212 20 = (b20 : Int) ∧ g 213 3 = (b20 : Int) ∧ g 212 21 = (b21 : Int) ∧ g 217 5 = (b21 : Int) ∧ g 212 22 = (b15 : Int) ∧ g 6 = n6) ∧ (g 8 3 = (bv : Int) ∧ g 8 4 = (bl : Int)) ∧ (0 ≤ g 235 4 ∧ g 235 4 ≤ 100000) ∧ (b20 ≤ 12 ∧ b21 ≤ 70 ∧ b15 ≤ 2000 ∧ bv ≤ 6000 ∧ bl ≤ 50000)
theorem pc_start_c (g : am_H) (a : Nat) (h1 : a ≠ 212) (h2 : a ≠ 235) : pc_start g a = g a := by
  unfold pc_start
  rw [p_up_c _ _ _ _ _ h1, p_up_c _ _ _ _ _ h1, p_up_c _ _ _ _ _ h1, p_up_c _ _ _ _ _ h2]
theorem pc_start_f (g : am_H) (k : Nat) (h1 : k ≠ 15) (h2 : k ≠ 16) (h3 : k ≠ 17) : pc_start g 212 k = g 212 k := by
  unfold pc_start
  rw [p_up_n _ _ _ _ _ _ (Or.inr h3), p_up_n _ _ _ _ _ _ (Or.inr h2), p_up_n _ _ _ _ _ _ (Or.inr h1), p_up_c _ _ _ _ _ (by decide)]
theorem pc_start_v (g : am_H) : pc_start g 212 17 = g 212 20 ∧ pc_start g 212 16 = g 212 21 ∧ pc_start g 212 15 = g 212 22 ∧ pc_start g 235 3 = 0 ∧ pc_start g 235 4 = g 235 4 := by
  unfold pc_start
  refine ⟨?_, ?_, ?_, ?_, ?_⟩ <;> simp [p_up]
theorem rc_0 {g : am_H} (C : cS b20 b21 b15 bv bl n6 g) (q : Int × Int × Int × Int × Int × List (Int × Int × Int × Int)) (hq : q.2.2.2.2.2 = []) : rc b20 b21 n6 pr_0 (pc_start g, q) := by
  obtain ⟨⟨c1, c2, c3, c4, c5, c6⟩, ⟨c7, c8⟩, ⟨c9, c10⟩, c11, c12, c13, c14, c15⟩ := C
  obtain ⟨v1, v2, v3, v4, v5⟩ := pc_start_v g
  refine ⟨⟨?_, ?_, ?_, c11, c12⟩, ⟨?_, ?_⟩, ⟨by decide, by decide, by decide, by decide, by decide, by decide, by decide⟩, ⟨?_, fun h => absurd h (by decide), fun h => absurd h (by decide)⟩, ⟨fun _ => ?_, fun h => absurd h (by decide)⟩, ⟨?_, ?_⟩, fun h => absurd h (by decide), fun h => absurd h (by decide), ⟨?_, Or.inr ⟨by decide, ?_⟩⟩, ?_⟩
  · dsimp only; rw [pc_start_f _ _ (by decide) (by decide) (by decide)]; exact c1
  · dsimp only; rw [pc_start_f _ _ (by decide) (by decide) (by decide)]; exact c3
  · dsimp only; rw [pc_start_c _ _ (by decide) (by decide)]; exact c6
  · dsimp only; rw [pc_start_c _ _ (by decide) (by decide), c2]; show (b20 : Int) = b20 + ((0 : Nat) : Int); omega
  · dsimp only; rw [pc_start_c _ _ (by decide) (by decide), c4]; show (b21 : Int) = b21 + ((0 : Nat) : Int); omega
  · dsimp only; rw [v1, c1]; show (b20 : Int) = b20 + ((0 : Nat) : Int) + (if (0 : Nat) = 1 then 1 else 0); rw [if_neg (by decide)]; omega
  · dsimp only; rw [v2, c3]; show (b21 : Int) = b21 + ((0 : Nat) : Int); omega
  · dsimp only; rw [v3]; omega
  · dsimp only; rw [v3]; show g 212 22 ≤ 2000 + ((0 : Nat) : Int); omega
  · dsimp only; rw [v5]; exact c9
  · dsimp only; rw [v5]; exact c10
  · show q.2.2.2.2.2.length = 0; rw [hq]; rfl
theorem rT_0 {g : am_H} {s : mi_S} (q : Int × Int × Int × Int × Int × List (Int × Int × Int × Int)) : rT b20 b21 V pr_0 s (g, q) := ⟨fun k hk => absurd hk (by show ¬ k < 0; omega), fun k hk => absurd hk (by show ¬ k < 0; omega), fun h => absurd h (by decide), fun h => absurd h (by decide), fun h => absurd h (by decide), fun h => absurd h (by decide), fun h => absurd h (by decide)⟩
theorem rU_refl (g : am_H) : rU b20 b21 g g := ⟨fun _ _ => ⟨rfl, rfl, rfl⟩, fun _ _ => ⟨rfl, rfl, rfl, rfl, rfl⟩, fun _ _ => rfl, fun _ _ => rfl⟩
theorem noN_0 {h : am_H} : noN K' P V sc ss h (mt_0 hm) := by
  have e : ∀ k, k = 14 ∨ k = 16 ∨ k = 17 ∨ k = 25 ∨ k = 33 ∨ k = 39 → mt_0 hm 254 k = 0 := by
    intro k hk
    unfold mt_0
    rcases hk with e | e | e | e | e | e <;> subst e <;> simp [p_up]
  exact ⟨fun k hk => by rw [e 14 (by omega)] at hk; omega, fun k hk => by rw [e 17 (by omega)] at hk; omega, fun k hk => by rw [e 25 (by omega)] at hk; omega, fun k hk => by rw [e 33 (by omega)] at hk; omega, fun k hk => by rw [e 39 (by omega)] at hk; omega⟩
/-- the second reading's start -/
theorem r2_0 {g h : am_H} (C : cS b20 b21 b15 bv bl n6 g → True) (c1 : g 212 20 = (b20 : Int)) (c3 : g 212 21 = (b21 : Int)) (c5 : g 212 22 = (b15 : Int)) (c7 : g 8 3 = (bv : Int)) (c8 : g 8 4 = (bl : Int)) (c9 : 0 ≤ g 235 4 ∧ g 235 4 ≤ 100000) (q : Int × Int × Int × Int × Int × List (Int × Int × Int × Int)) (hq : q.2.2.2.2.2 = []) : r2 K' P V sc ss cc b20 b21 b15 bv bl h (pc_start g) pr_0 (mt_0 hm, -1, 0, [], []) (pc_start g, q) := by
  obtain ⟨v1, v2, v3, v4, v5⟩ := pc_start_v g
  have e25 : mt_0 hm 254 25 = 0 := by unfold mt_0; simp [p_up]
  refine ⟨⟨fun _ _ => rfl, fun _ _ => rfl⟩, ⟨⟨?_, fun h => absurd h (by decide), fun h => absurd h (by decide)⟩, ⟨fun _ => ?_, fun h => absurd h (by decide)⟩, ⟨?_, fun h => absurd h (by decide), fun h => absurd h (by decide)⟩, ⟨fun h => absurd h (by decide), fun h => absurd h (by decide), fun h => absurd h (by decide), fun h => absurd h (by decide), fun h => absurd h (by decide)⟩⟩, ⟨fun v hv => ?_, fun h => absurd h (by decide), fun h => absurd h (by decide)⟩, ⟨fun h => absurd h (by decide), ?_, fun h => absurd rfl h, noN_0⟩, ⟨⟨?_, ?_⟩, ⟨?_, ?_⟩, ⟨?_, ?_⟩, ⟨?_, Or.inr ⟨by decide, ?_⟩⟩, ?_, by decide, by decide, by decide, by decide⟩, ⟨fun _ => rfl, fun q hq => by cases hq⟩⟩
  · dsimp only; rw [v1, c1]; show (b20 : Int) = b20 + ((0 : Nat) : Int) + (if (0 : Nat) = 1 then 1 else 0); rw [if_neg (by decide)]; omega
  · dsimp only; rw [v2, c3]; show (b21 : Int) = b21 + ((0 : Nat) : Int); omega
  · dsimp only; rw [v3, c5]; show (b15 : Int) = b15 + ((0 : Nat) : Int); omega
  · dsimp only at hv; rw [e25] at hv; omega
  · unfold nt_ty; rw [if_neg (fun z => z.1 rfl)]
  · dsimp only; rw [pc_start_c _ _ (by decide) (by decide)]; omega
  · dsimp only; rw [pc_start_c _ _ (by decide) (by decide), c7]; show (bv : Int) ≤ bv + ((0 : Nat) : Int) + 2 * ((0 : Nat) : Int); omega
  · dsimp only; rw [v4]; decide
  · dsimp only; rw [v4]; show (0 : Int) ≤ ((0 : Nat) : Int) + 2 * ((0 : Nat) : Int); omega
  · dsimp only; rw [pc_start_c _ _ (by decide) (by decide)]; omega
  · dsimp only; rw [pc_start_c _ _ (by decide) (by decide), c8]; show (bl : Int) ≤ bl + ((0 : Nat) : Int); omega
  · dsimp only; rw [v5]; exact c9.1
  · dsimp only; rw [v5]; exact c9.2
  · show q.2.2.2.2.2.length = 0; rw [hq]; rfl
end
