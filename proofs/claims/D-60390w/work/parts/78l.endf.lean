/-! PURE LAYER, 143: what stands in the end of a text without faults -/
section
variable {K P V sc ss : Nat → Int} {cs : Nat → Nat} {b21 b15 bv bl : Nat} {c0 hm : am_H} {pE : pr_S} {S : mi_S} {es : List gx_V} {c' : ce_S}
/-- no call is open where no body is -/
theorem pr_noc {w : Nat → Nat → Nat} : ∀ (es : List gx_V) (p : pr_S), (p.1 9 ≠ 6 → p.2.2.1 = []) → gx_fold (pr w K V) es p = .inr pE → (pE.1 9 ≠ 6 → pE.2.2.1 = [])
  | [], p, hp, h => by cases h; exact hp
  | e :: es, p, hp, h => by
    obtain ⟨p1, a1, a2⟩ := gx_b_ok h
    refine pr_noc es p1 (fun z => ?_) a2
    by_cases he : e.1 ≤ 34
    · have z9 := pz_ev he a1 9 (by decide)
      have z6 : p.1 9 = 6 := pr_body9 he a1
      exact absurd (z9.trans z6) z
    · obtain ⟨n, x, y, w⟩ := e
      dsimp only at he
      unfold pr at a1
      split at a1
      all_goals first
        | (cases a1; done)
        | (rename_i hn; have hn : n = _ := hn; subst hn; exfalso; revert he; decide)
        | skip
      all_goals (obtain ⟨hc, -, hp'⟩ := pr_q_in a1)
      all_goals (rw [hp'])
      all_goals first
        | (exact hc.2.2.2.1)
        | (refine hp ?_; have := hc.1; omega)
        | (refine hp ?_; have := hc.1.1; omega)
theorem hk_end (h1 : gx_fold (pr pw K V) es pr_0 = .inr pE) (h9 : pE.1 9 = 0 ∨ pE.1 9 = 3) (m1 : gx_fold (mi V) es (mt_0 hm, -1, 0, [], []) = .inr S) : ∀ k : Nat, (k : Int) < S.1 254 39 → pr_cs K V (S.1 283 k).toNat (S.1 284 k) := by
  have Rv0 : rv K pr_0 (mt_0 hm, -1, 0, [], []) := rv_0 (-1) 0 rfl
  have RkE := (rk_run es h1 m1 Rv0 pq_0 rk_0).1
  have o : pE.2.2.1 = [] := pr_noc es pr_0 (fun _ => rfl) h1 (by omega)
  have oc0 : S.2.2.2.2 = [] := by
    have ro := RkE.1
    rw [o] at ro
    cases hq : S.2.2.2.2 with
    | nil => rfl
    | cons a l => rw [hq] at ro; exact ro.elim
  exact fun k hk => RkE.2 k hk (by rw [oc0]; exact fun z => by cases z)
def ENDF (K P V sc ss : Nat → Int) (cs : Nat → Nat) (b21 b15 bv bl : Nat) (c0 : am_H) (p : pr_S) (S : mi_S) (c' : ce_S) (f : Nat → List (Int × Int × Int)) (a : Nat → Nat × List Nat) : Prop :=
  (LI K P V sc ss cs b21 c0 S.1 p S c' ∧ (∀ k : Nat, (k : Int) < S.1 254 33 → IFr K V (S.1 254 39) (row4 S.1 k)) ∧ VRs p S.1 ∧ SB S.1 p S) ∧ (FR S.1 p S ∧ JD S.1 p S ∧ WI bv p c' ∧ SU S.1 p S ∧ CL9 S.1 S ∧ NE S.1 p S) ∧ (∃ bt cur, CI K P V sc ss cs b21 b15 bv bl c0 S.1 p S c' f ∧ AI V P S.1 p S f a bt cur) ∧ rv K p S ∧ rm p S ∧ p.2.1 = []
/-- what stands at every event -/
def BI (K P V sc ss : Nat → Int) (cs : Nat → Nat) (b21 b15 bv bl : Nat) (c0 : am_H) (S : mi_S) (p : pr_S) (s : mi_S) (c : ce_S) : Prop := LI K P V sc ss cs b21 c0 S.1 p s c ∧ LB c ∧ (∀ k : Nat, (k : Int) < s.1 254 33 → IFr K V (S.1 254 39) (row4 S.1 k)) ∧ VRs p s.1 ∧ HS p s ∧ SB S.1 p s ∧ (FR S.1 p s ∧ JD S.1 p s ∧ WI bv p c ∧ SU S.1 p s ∧ CL9 S.1 s ∧ NE S.1 p s) ∧ (∃ f a bt cur, CI K P V sc ss cs b21 b15 bv bl c0 S.1 p s c f ∧ AI V P S.1 p s f a bt cur) ∧ rv K p s ∧ rm p s
theorem ld_end (hrm : rm pr_0 (mt_0 hm, -1, 0, [], [])) (h1 : gx_fold (pr pw K V) es pr_0 = .inr pE) (h9 : pE.1 9 = 0 ∨ pE.1 9 = 3) (m1 : gx_fold (mi V) es (mt_0 hm, -1, 0, [], []) = .inr S) (T : TR K P V sc ss cs b21 b15 S.1 c0 es pr_0 (mt_0 hm, -1, 0, [], []) (c0, 0, 0, 0, 0, 0, []) c') (c83 : c0 8 3 = (bv : Int)) (c84 : c0 8 4 = (bl : Int)) (c235 : c0 235 3 = 0) (hV : ∀ i, i < 1000 → K i = 3 → 0 ≤ V i) (HC : ∀ k : Nat, (k : Int) < S.1 254 39 → S.1 284 k ≤ 12) : ∃ f a, ENDF K P V sc ss cs b21 b15 bv bl c0 pE S c' f a := by
  have HK := hk_end h1 h9 m1
  have z33 : mt_0 hm 254 33 = 0 := by
    unfold mt_0
    rw [p_up_n _ _ _ _ _ _ (Or.inr (by decide)), p_up_n _ _ _ _ _ _ (Or.inr (by decide)), p_up_n _ _ _ _ _ _ (Or.inr (by decide)), p_up_s]
  have z25 : mt_0 hm 254 25 = 0 := by
    unfold mt_0
    rw [p_up_n _ _ _ _ _ _ (Or.inr (by decide)), p_up_n _ _ _ _ _ _ (Or.inr (by decide)), p_up_n _ _ _ _ _ _ (Or.inr (by decide)), p_up_n _ _ _ _ _ _ (Or.inr (by decide)), p_up_s]
  have B0 : bd K V pE S es pr_0 (mt_0 hm, -1, 0, [], []) (c0, 0, 0, 0, 0, 0, []) := ⟨⟨h1, m1⟩, ⟨rv_0 (-1) 0 rfl, hrm, pq_0, pBd_0, po_0⟩, trivial, ⟨trivial, fun _ => rfl⟩, fun z => absurd z (by decide), fun z => absurd z (by decide)⟩
  have nk : ∀ k : Nat, ¬ (k : Int) < (mt_0 hm, (-1 : Int), (0 : Int), ([] : List (Int × Int × Int × Int)), ([] : List Int)).1 254 33 := fun k hk => by
    dsimp only at hk
    rw [z33] at hk; omega
  have F0 : FI S.1 pr_0 (mt_0 hm, -1, 0, [], []) := fun a ha => absurd ha (Nat.not_lt_zero a)
  have tU0 : ∀ {α : Type} (hd it : Nat → List α) (fi : Nat → Int) (n : Nat), tU hd it fi 0 n = [] := fun _ _ _ _ => rfl
  have hq0 : hq pr_0 = 0 := rfl
  have I0 : BI K P V sc ss cs b21 b15 bv bl c0 S pr_0 (mt_0 hm, -1, 0, [], []) (c0, 0, 0, 0, 0, 0, []) := by
    refine ⟨⟨F0, ?_, ?_⟩, fun q hq => (by cases hq), fun k hk => absurd hk (nk k), ⟨fun v hv => ?_, fun z => absurd z (by decide)⟩, List.Pairwise.nil, fun k hk => absurd hk (nk k), ⟨⟨fun z => absurd z (by decide), fun k hk => absurd hk (nk k)⟩, ⟨⟨trivial, fun k hk => (by cases hk)⟩, fun k hk => absurd hk (nk k)⟩, ⟨by dsimp only; omega, ?_⟩, ⟨fun a ha => absurd ha (Nat.not_lt_zero a), fun a ha => absurd ha (Nat.not_lt_zero a), fun z => absurd z (by decide), fun z => absurd z (by decide), fun _ => rfl, fun b hb => (by cases hb)⟩, fun k hk => absurd hk (nk k), fun a ha => absurd ha (Nat.not_lt_zero _), fun _ z => absurd z (Nat.not_lt_zero _)⟩, ⟨fun _ => [], fun _ => (0, []), [], 0, ⟨⟨?_, ?_⟩, fun k hk => absurd hk (nk k), ⟨?_, ?_, ?_, ?_⟩, trivial, fun k hk => absurd hk (nk k)⟩, ⟨⟨fun z => absurd z (by decide), fun _ => rfl⟩, fun k hk => absurd hk (nk k), fun k hk => ⟨Nat.zero_le _, Nat.zero_le _⟩, trivial, fun k hk => absurd hk (nk k), fun z => absurd z (by decide), fun q hq => rfl⟩⟩, rv_0 (-1) 0 rfl, hrm⟩
    · rw [hq0, tU0]; exact c235
    · rw [hq0, tU0]; exact fun j v hj => (by cases hj)
    · dsimp only at hv
      rw [z25] at hv; omega
    · dsimp only
      rw [c83, Int.sub_self]; exact Nat.zero_le _
    · rw [hq0, tU0]; show c0 8 3 = _ + ((0 : Nat) : Int); omega
    · rw [hq0, tU0]; exact fun j v hj => (by cases hj)
    · rw [hq0, tU0]; exact List.nodup_nil
    · rw [hq0, tU0]; exact fun x hx => (by cases hx)
    · dsimp only; rw [c84]; exact Int.le_refl _
    · dsimp only; rw [c84, Int.sub_self]; exact Int.le_refl 0
  have I := tr_ind (P := P) (sc := sc) (ss := ss) (cs := cs) (b21 := b21) (b15 := b15) (c0 := c0) (Inv := BI K P V sc ss cs b21 b15 bv bl c0 S) HK hV
    (fun e es p p1 s s1 c c1 B hp hm hc B1 M1 Y1 ⟨i1, i2, i3, i4, i5, i6, ⟨j1, j2, j3, j4, j5, j6⟩, ⟨f, a, bt, cur, i7, i8⟩, _, _⟩ => by
      have h263 : e.1 = 48 → S.1 263 (p.1 3 - 1) = (p.1 0 : Int) - 1 ∧ 1 ≤ p.1 0 := fun he => by
        obtain ⟨n, x, y, z⟩ := e
        dsimp only at he
        subst he
        obtain ⟨cc, -, -⟩ := pr_q_in hp
        exact ⟨j4.2.2.2.1 (by rw [cc.1]; decide), B.2.1.1.2.2.1.1 (by rw [cc.1]; decide)⟩
      obtain ⟨f', g1, g2, g3⟩ := CI_ev B hp hm hc B1 M1 Y1 HK hV h263 i1.1 i5 i7
      obtain ⟨a', bt', cur', g4⟩ := AI_ev B hp hm B1 M1 Y1 HK HC i1.1 i5 g1 g2 j4.2.2.2.2.2 i8
      exact ⟨LI_ev B hp hm hc B1 M1 Y1 HK hV h263 i1, LB_ev B hp hc i2, IF_ev B hp hm B1 M1 Y1 i2 i3, VRs_ev hp hm B.2.1.1 i4, HS_ev B hp hm i5, SB_ev B hp hm B1 M1 Y1 i1.1 i6, ⟨FR_ev B hp hm B1 M1 Y1 j1, JD_ev B hp hm B1 M1 Y1 i5 j4.2.2.2.2.1 j2, WI_ev hp hc B.2.1.2.2.2.1.2.2 j3, SU_ev B hp hm B1 M1 j4, CL9_ev B hp hm B1 M1 Y1 j5, NE_ev B hp hm B1 i1.1 j6⟩, ⟨f', a', bt', cur', g3, g4⟩, B1.2.1.1, B1.2.1.2.1⟩) es B0 T I0
  obtain ⟨i1, i2, i3, i4, i5, i6, j, ⟨f, a, bt, cur, i7, i8⟩, i9, i10⟩ := I
  exact ⟨f, a, ⟨i1, i3, i4, i6⟩, j, ⟨bt, cur, i7, i8⟩, i9, i10, j.2.2.2.1.2.2.2.2.1 (by omega)⟩
end
