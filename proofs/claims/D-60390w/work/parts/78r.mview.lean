/-! PURE LAYER, 149: the model's tables behind load(), beside the events' -/
def MV (K P V sc ss t : Nat → Int) (n : Nat) (S g0 : am_H) : Prop :=
  (∀ c, c = 262 ∨ c = 263 ∨ c = 264 ∨ c = 267 ∨ c = 268 ∨ c = 269 ∨ c = 271 ∨ c = 272 ∨ c = 275 ∨ c = 276 ∨ c = 277 ∨ c = 281 ∨ c = 297 → g0 c = S c) ∧
  (∀ k : Nat, (k : Int) < S 254 33 → g0 278 k = if S 277 k = 4 ∨ S 277 k = 13 then m_var V S (S 281 k) (S 280 k).toNat else S 278 k) ∧
  (∀ k : Nat, (k : Int) < S 254 39 → g0 284 k = S 284 k ∧ g0 285 k = m_ko V S k ∧ (S 282 k ≠ -1 → g0 286 k = m_var V S (S 289 k) (S 282 k).toNat) ∧ (m_kc K V sc S k ≠ -1 → g0 287 k = m_kc K V sc S k ∧ g0 288 k = m_sof V ss S (m_kc K V sc S k) (S 283 k).toNat)) ∧
  (∀ k : Nat, (k : Int) < S 254 33 → (S 277 k = 1 → g0 279 k = V (S 280 k).toNat) ∧ (S 277 k ≠ 1 → g0 279 k = S 279 k) ∧ (S 277 k = 1 ∨ S 277 k = 11 → g0 303 k = P (S 280 k).toNat)) ∧
  (∀ j, j < n → g0 304 j = t j) ∧ (∀ s : Nat, (s : Int) < S 254 17 → g0 302 s = (s : Int) - m_fst S s s s) ∧ (g0 254 17 = S 254 17 ∧ g0 254 33 = S 254 33 ∧ g0 254 39 = S 254 39)
section
variable {S hr : am_H} {nm : Nat → Int}
theorem hA_ko (A : hA S hr) (k : Nat) : m_ko nm hr k = m_ko nm S k := by
  unfold m_ko
  rw [hA_var A, A.1 282 (by decide) (by decide) (by decide) (by decide), A.1 289 (by decide) (by decide) (by decide) (by decide)]
theorem hA_fst (A : hA S hr) (s : Nat) : ∀ m k, m_fst hr s m k = m_fst S s m k
  | 0, _ => rfl
  | m + 1, k => by
    unfold m_fst
    rw [A.1 263 (by decide) (by decide) (by decide) (by decide), hA_fst A s m]
end
section
variable {K P V sc ss t : Nat → Int} {n Z : Nat} {F : List (List Int)} {mn mM : Int} {hm hr h1 h7 g g0 : am_H} {S : mi_S} {l : List (Int × Int × Int)}
/-- the copies and the commands, too -/
theorem MV_of (B : mG t n F K V P sc ss Z mn mM hm) (A : hA S.1 hr) (x1 : ∀ a, a ≠ 254 → h1 a = ml_x (kM K Z) V sc ss hr a) (x2 : ∀ j, j ≠ 69 → j ≠ 70 → j ≠ 72 → h1 254 j = hr 254 j) (fr : p_fr mq_C mq_F hm h1) (rtS : rt (kM K Z) S.1) (IFs : ∀ k : Nat, (k : Int) < S.1 254 33 → IFr (kM K Z) V (S.1 254 39) (row4 S.1 k)) (e7 : ∀ a, a ≠ 254 → h7 a = h1 a) (e7' : ∀ j, j ≠ 4 → j ≠ 71 → j ≠ 74 → h7 254 j = h1 254 j) {N : Nat} (hN : S.1 254 33 = (N : Int)) (M : mCp h7 g n N) (C : CM (am_up g 254 76 0) g0 l) : MV (kM K Z) P V sc ss t n S.1 g0 := by
  obtain ⟨Tk, ht, -⟩ := B
  obtain ⟨-, t1, t2, t3, t4, t5, t6, t7⟩ := Tk
  obtain ⟨v1, v2, v3, v4⟩ := ml_x_v (K := kM K Z) (nm := V) (sc := sc) (ss := ss) (h := hr)
  obtain ⟨m1, m2, m3, m4⟩ := M
  have c0 : ∀ c, c ≠ 254 → c < 305 → g0 c = g c := fun c h1 h2 => by rw [C.fr h1 h2, p_up_c _ _ _ _ _ h1]
  have hA1 : ∀ a, a ≠ 254 → a ≠ 280 → a ≠ 284 → ¬ (290 ≤ a ∧ a ≤ 292) → hr a = S.1 a := A.1
  have h254 : ∀ j, j = 17 ∨ j = 33 ∨ j = 39 → hr 254 j = S.1 254 j := fun j hj => A.2.1 j (by omega) (by omega) (by omega) (by omega) (by omega) (by omega) (by omega) (by omega) (by omega) (by omega)
  have tok : ∀ c, c = 256 ∨ c = 258 ∨ c = 259 → h7 c = hm c := fun c hc => by
    rw [e7 c (by omega)]
    funext j
    refine fr c j ?_ ?_
    · rcases hc with rfl | rfl | rfl <;> rfl
    · rcases hc with rfl | rfl | rfl <;> rfl
  have e280 : h7 280 = hr 280 := by rw [e7 280 (by decide), x1 280 (by decide), v1 280 (by decide) (by decide) (by decide)]
  have e277 : h7 277 = S.1 277 := by rw [e7 277 (by decide), x1 277 (by decide), v1 277 (by decide) (by decide) (by decide), hA1 277 (by decide) (by decide) (by decide) (by decide)]
  refine ⟨fun c hc => ?_, fun k hk => ?_, fun k hk => ?_, fun k hk => ⟨fun hk1 => ?_, fun hk1 => ?_, fun hk1 => ?_⟩, fun j hj => ?_, fun s hs => ?_, ?_⟩
  · rw [c0 c (by omega) (by omega), m1 c (by omega) (by omega) (by omega), e7 c (by omega), x1 c (by omega), v1 c (by omega) (by omega) (by omega), hA1 c (by omega) (by omega) (by omega) (by omega)]
  · rw [c0 278 (by decide) (by decide), m1 278 (by decide) (by decide) (by decide), e7 278 (by decide), x1 278 (by decide), v2 k (by rw [h254 33 (by omega)]; exact hk), hA1 277 (by decide) (by decide) (by decide) (by decide), hA1 278 (by decide) (by decide) (by decide) (by decide), hA1 281 (by decide) (by decide) (by decide) (by decide), hA_var A]
    by_cases z : S.1 277 k = 4 ∨ S.1 277 k = 13
    · rw [if_pos z, if_pos z, (A.2.2.1 k hk).1 (by unfold mp_rel; omega)]
    · rw [if_neg z, if_neg z]
  · obtain ⟨y1, y2, y3⟩ := v3 k (by rw [h254 39 (by omega)]; exact hk)
    rw [hA1 282 (by decide) (by decide) (by decide) (by decide), hA1 289 (by decide) (by decide) (by decide) (by decide), hA_var A] at y2
    rw [hA_kc A, hA_sof A, hA1 283 (by decide) (by decide) (by decide) (by decide)] at y3
    rw [hA_ko A] at y1
    have q : ∀ c, 284 ≤ c → c ≤ 288 → g0 c = ml_x (kM K Z) V sc ss hr c := fun c h1 h2 => by rw [c0 c (by omega) (by omega), m1 c (by omega) (by omega) (by omega), e7 c (by omega), x1 c (by omega)]
    refine ⟨by rw [q 284 (by decide) (by decide), v1 284 (by decide) (by decide) (by decide)]; exact A.2.2.2 k hk, by rw [q 285 (by decide) (by decide)]; exact y1, fun z => by rw [q 286 (by decide) (by decide)]; exact y2 z, fun z => ?_⟩
    rw [q 287 (by decide) (by decide), q 288 (by decide) (by decide)]; exact y3 z
  · have r4 := (IFs k hk).2.2.1 hk1
    obtain ⟨z1, z2, z3, z4, z5⟩ := r4
    have z1 : 0 ≤ S.1 280 k := z1
    have z3 : kM K Z (S.1 280 k).toNat = 4 := z3
    have zz : (S.1 280 k).toNat ≤ Z := by
      apply Classical.byContradiction
      intro z
      unfold kM at z3
      rw [if_neg z] at z3; cases z3
    have k7 : kM K Z (S.1 280 k).toNat ≠ 7 := by rw [z3]; decide
    have kK : K (S.1 280 k).toNat = 4 := by rw [← kM_7 k7 zz]; exact z3
    rw [c0 279 (by decide) (by decide), m4 k (by omega), if_pos (by rw [e277]; exact hk1), tok 259 (by omega), e280, (A.2.2.1 k hk).1 (by unfold mp_rel; omega), (t6 _ zz).2.2.2 kK k7]
    omega
  · rw [c0 279 (by decide) (by decide), m4 k (by omega), if_neg (by rw [e277]; exact hk1), e7 279 (by decide), x1 279 (by decide), v1 279 (by decide) (by decide) (by decide), hA1 279 (by decide) (by decide) (by decide) (by decide)]
  · have zz : 0 ≤ S.1 280 k ∧ (S.1 280 k).toNat ≤ Z := by
      have : kM K Z (S.1 280 k).toNat ≠ 0 ∧ 0 ≤ S.1 280 k := by
        rcases hk1 with z | z
        · have r4 := (IFs k hk).2.2.1 z
          have z3 : kM K Z (S.1 280 k).toNat = 4 := r4.2.2.1
          exact ⟨by rw [z3]; decide, r4.1⟩
        · have r4 := (IFs k hk).2.2.2.2.2.1 z
          have z3 : kM K Z (S.1 280 k).toNat = 1 := r4.2.2
          exact ⟨by rw [z3]; decide, r4.1⟩
      refine ⟨this.2, ?_⟩
      apply Classical.byContradiction
      intro z
      apply this.1
      unfold kM
      rw [if_neg z]
    rw [c0 303 (by decide) (by decide), m3 k (by omega), tok 258 (by omega), e280, (A.2.2.1 k hk).1 (by unfold mp_rel; omega), (t6 _ zz.2).2.1]
  · rw [c0 304 (by decide) (by decide), m2 j hj, tok 256 (by omega)]; exact ht j hj
  · rw [c0 302 (by decide) (by decide), m1 302 (by decide) (by decide) (by decide), e7 302 (by decide), x1 302 (by decide), v4 s (by rw [h254 17 (by omega)]; exact hs), hA_fst A]
  · have q : ∀ j, j = 17 ∨ j = 33 ∨ j = 39 → g0 254 j = S.1 254 j := fun j hj => by rw [C.2.2.2.1 j (by omega), p_up_n _ _ _ _ _ _ (Or.inr (by omega)), m1 254 (by decide) (by decide) (by decide), e7' j (by omega) (by omega) (by omega), x2 j (by omega) (by omega) (by omega)]; exact h254 j hj
    exact ⟨q 17 (by omega), q 33 (by omega), q 39 (by omega)⟩
end
