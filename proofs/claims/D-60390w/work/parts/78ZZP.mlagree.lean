/-! PURE LAYER, 121: the model's heap behind the texts, beside the events' -/
/-- the same tables: what stands elsewhere does not matter -/
def hA (S h : am_H) : Prop := (∀ a, a ≠ 254 → a ≠ 280 → a ≠ 284 → ¬ (290 ≤ a ∧ a ≤ 292) → h a = S a) ∧ (∀ k, k ≠ 4 → k ≠ 10 → k ≠ 11 → k ≠ 12 → k ≠ 48 → k ≠ 49 → k ≠ 51 → k ≠ 61 → k ≠ 62 → k ≠ 69 → h 254 k = S 254 k) ∧ (∀ k : Nat, (k : Int) < S 254 33 → (mp_rel (S 277 k) → h 280 k = S 280 k) ∧ 0 ≤ h 280 k ∧ h 280 k ≤ 1001) ∧ (∀ k : Nat, (k : Int) < S 254 39 → h 284 k = S 284 k)
section
variable {S h : am_H} {K P nm sc ss : Nat → Int} (A : hA S h)
theorem hA_cof (A : hA S h) (t : Nat) : m_cof nm sc h t = m_cof nm sc S t := by
  unfold m_cof; rw [A.1 261 (by decide) (by decide) (by decide) (by decide), A.2.1 14 (by decide) (by decide) (by decide) (by decide) (by decide) (by decide) (by decide) (by decide) (by decide) (by decide)]
theorem hA_sof (A : hA S h) (c : Int) (t : Nat) : m_sof nm ss h c t = m_sof nm ss S c t := by
  unfold m_sof; rw [A.1 297 (by decide) (by decide) (by decide) (by decide), A.1 263 (by decide) (by decide) (by decide) (by decide), A.1 265 (by decide) (by decide) (by decide) (by decide), A.2.1 17 (by decide) (by decide) (by decide) (by decide) (by decide) (by decide) (by decide) (by decide) (by decide) (by decide)]
theorem hA_var (A : hA S h) (sub : Int) (t : Nat) : m_var nm h sub t = m_var nm S sub t := by
  have key : ∀ (n : Nat) (o f x : Int), m_varf nm h sub t n o f x = m_varf nm S sub t n o f x := by
    intro n
    induction n with
    | zero => intro o f x; rfl
    | succ n ih =>
      intro o f x
      unfold m_varf
      rw [A.1 273 (by decide) (by decide) (by decide) (by decide), A.1 271 (by decide) (by decide) (by decide) (by decide), A.1 270 (by decide) (by decide) (by decide) (by decide), A.1 263 (by decide) (by decide) (by decide) (by decide), A.1 272 (by decide) (by decide) (by decide) (by decide)]
      simp only [ih]
  unfold m_var
  rw [A.2.1 25 (by decide) (by decide) (by decide) (by decide) (by decide) (by decide) (by decide) (by decide) (by decide) (by decide)]
  exact key _ _ _ _
theorem hA_ty (A : hA S h) (x : Int) : nt_ty K P nm sc h x = nt_ty K P nm sc S x := by unfold nt_ty; rw [hA_cof A]
theorem hA_c (A : hA S h) (k : Nat) : nt_c P nm sc h k = nt_c P nm sc S k := by unfold nt_c; rw [A.1 261 (by decide) (by decide) (by decide) (by decide)]
theorem hA_tws (A : hA S h) (s : Nat) : ∀ (m : Nat) (b : Bool), m_tws nm h s m b = m_tws nm S s m b
  | 0, b => rfl
  | m + 1, b => by unfold m_tws; rw [hA_tws A s m, A.1 263 (by decide) (by decide) (by decide) (by decide), A.1 265 (by decide) (by decide) (by decide) (by decide)]
theorem hA_twv (A : hA S h) (v : Nat) : ∀ (m k : Nat) (b : Bool), m_twv nm h v m k b = m_twv nm S v m k b
  | 0, k, b => rfl
  | m + 1, k, b => by unfold m_twv; rw [hA_twv A v m, A.1 271 (by decide) (by decide) (by decide) (by decide), A.1 270 (by decide) (by decide) (by decide) (by decide), A.1 273 (by decide) (by decide) (by decide) (by decide)]
theorem hA_s (A : hA S h) (k : Nat) : nt_s K P nm sc h k = nt_s K P nm sc S k := by unfold nt_s; rw [hA_tws A, hA_ty A, A.1 265 (by decide) (by decide) (by decide) (by decide), A.1 266 (by decide) (by decide) (by decide) (by decide)]
theorem hA_v (A : hA S h) (k : Nat) : nt_v K P nm sc h k = nt_v K P nm sc S k := by unfold nt_v; rw [hA_twv A, hA_ty A, A.1 273 (by decide) (by decide) (by decide) (by decide), A.1 274 (by decide) (by decide) (by decide) (by decide)]
theorem hA_i (A : hA S h) (k : Nat) (hk : (k : Int) < S 254 33) : nt_i P nm h k = nt_i P nm S k := by
  unfold nt_i nt_cv
  rw [A.1 277 (by decide) (by decide) (by decide) (by decide), A.1 264 (by decide) (by decide) (by decide) (by decide), A.1 281 (by decide) (by decide) (by decide) (by decide), A.1 271 (by decide) (by decide) (by decide) (by decide), A.1 272 (by decide) (by decide) (by decide) (by decide), hA_var A]
  by_cases c1 : S 277 k = 3
  · rw [if_pos c1, if_pos c1, (A.2.2.1 k hk).1 (by unfold mp_rel; omega)]
  · rw [if_neg c1, if_neg c1]
    by_cases c2 : S 277 k = 4 ∨ S 277 k = 13
    · rw [if_pos c2, if_pos c2, (A.2.2.1 k hk).1 (by unfold mp_rel; omega)]
    · rw [if_neg c2, if_neg c2]
theorem hA_kc (A : hA S h) (k : Nat) : m_kc K nm sc h k = m_kc K nm sc S k := by
  unfold m_kc
  rw [A.1 282 (by decide) (by decide) (by decide) (by decide), A.1 263 (by decide) (by decide) (by decide) (by decide), A.1 289 (by decide) (by decide) (by decide) (by decide), A.1 274 (by decide) (by decide) (by decide) (by decide), hA_var A, hA_cof A, hA_cof A]
theorem hA_k (A : hA S h) (k : Nat) (hk : (k : Int) < S 254 39) : nt_k K P nm sc ss h k = nt_k K P nm sc ss S k := by
  unfold nt_k nt_k2 nt_cv m_ko m_me m_mo
  rw [hA_kc A, hA_sof A, hA_var A, A.2.2.2 k hk, A.1 282 (by decide) (by decide) (by decide) (by decide), A.1 283 (by decide) (by decide) (by decide) (by decide), A.1 289 (by decide) (by decide) (by decide) (by decide), A.1 264 (by decide) (by decide) (by decide) (by decide), A.1 271 (by decide) (by decide) (by decide) (by decide), A.1 272 (by decide) (by decide) (by decide) (by decide), A.1 300 (by decide) (by decide) (by decide) (by decide), A.1 301 (by decide) (by decide) (by decide) (by decide), A.1 267 (by decide) (by decide) (by decide) (by decide)]
theorem hA_cs (A : hA S h) : ∀ m c, nt_cs P nm sc h m c = nt_cs P nm sc S m c
  | 0, c => rfl
  | m + 1, c => by unfold nt_cs; rw [hA_c A, hA_cs A m]
theorem hA_ss (A : hA S h) : ∀ m c, nt_ss K P nm sc h m c = nt_ss K P nm sc S m c
  | 0, c => rfl
  | m + 1, c => by unfold nt_ss; rw [hA_s A, hA_ss A m]
theorem hA_vs (A : hA S h) : ∀ m c, nt_vs K P nm sc h m c = nt_vs K P nm sc S m c
  | 0, c => rfl
  | m + 1, c => by unfold nt_vs; rw [hA_v A, hA_vs A m]
theorem hA_is (A : hA S h) : ∀ m c, ((c + m : Nat) : Int) ≤ S 254 33 → nt_is P nm h m c = nt_is P nm S m c
  | 0, c, hc => rfl
  | m + 1, c, hc => by unfold nt_is; rw [hA_i A c (by omega), hA_is A m (c + 1) (by omega)]
theorem hA_ks (A : hA S h) : ∀ m c, ((c + m : Nat) : Int) ≤ S 254 39 → nt_ks K P nm sc ss h m c = nt_ks K P nm sc ss S m c
  | 0, c, hc => rfl
  | m + 1, c, hc => by unfold nt_ks; rw [hA_k A c (by omega), hA_ks A m (c + 1) (by omega)]
/-- the same notes -/
theorem hA_n (A : hA S h) (h33 : 0 ≤ S 254 33) (h39 : 0 ≤ S 254 39) : ml_n K P nm sc ss h = ml_n K P nm sc ss S := by
  have f := A.2.1
  unfold ml_n
  rw [f 14 (by decide) (by decide) (by decide) (by decide) (by decide) (by decide) (by decide) (by decide) (by decide) (by decide), f 17 (by decide) (by decide) (by decide) (by decide) (by decide) (by decide) (by decide) (by decide) (by decide) (by decide), f 25 (by decide) (by decide) (by decide) (by decide) (by decide) (by decide) (by decide) (by decide) (by decide) (by decide), f 33 (by decide) (by decide) (by decide) (by decide) (by decide) (by decide) (by decide) (by decide) (by decide) (by decide), f 39 (by decide) (by decide) (by decide) (by decide) (by decide) (by decide) (by decide) (by decide) (by decide) (by decide), hA_cs A, hA_ss A, hA_vs A, hA_is A _ _ (by omega), hA_ks A _ _ (by omega)]
theorem hA_main (A : hA S h) {mn mM : Int} : ∀ (m s : Nat) (r : Int), m_mainf nm mn mM h m s r = m_mainf nm mn mM S m s r
  | 0, s, r => rfl
  | m + 1, s, r => by
    unfold m_mainf
    rw [hA_main A m, A.1 264 (by decide) (by decide) (by decide) (by decide), A.1 267 (by decide) (by decide) (by decide) (by decide), A.1 265 (by decide) (by decide) (by decide) (by decide), A.1 261 (by decide) (by decide) (by decide) (by decide), A.1 263 (by decide) (by decide) (by decide) (by decide)]
/-- from the reading -/
theorem hA_of {K' V : Nat → Int} {Z i st : Nat} {gb g h' : am_H} (N : mp_N K' V P Z gb [] i 0 st g h') (v : Int) : hA g (am_up (am_up h' 254 4 v) 254 69 0) := by
  obtain ⟨n1, -, -, -, -, -, -, n8, n9, -⟩ := N
  refine ⟨fun a h1 h2 h3 h4 => ?_, fun k k1 k2 k3 k4 k5 k6 k7 k8 k9 k10 => ?_, fun k hk => ?_, fun k hk => ?_⟩
  · rw [p_up_c _ _ _ _ _ h1, p_up_c _ _ _ _ _ h1]
    funext j
    refine n1 a j ?_ ?_
    · unfold mp_C
      simp [h2, h3]
      omega
    · unfold mp_F
      simp [h1]
  · rw [p_up_n _ _ _ _ _ _ (Or.inr k10), p_up_n _ _ _ _ _ _ (Or.inr k1)]
    refine n1 254 k rfl ?_
    unfold mp_F
    simp [k2, k3, k4, k5, k6, k7, k8, k9]
  · rw [p_up_c _ _ _ _ _ (by decide), p_up_c _ _ _ _ _ (by decide)]
    exact n8 k hk
  · rw [p_up_c _ _ _ _ _ (by decide), p_up_c _ _ _ _ _ (by decide)]
    exact n9 k hk (fun z => by cases z)
end
section
variable {S : mi_S} {h : am_H} {K V P : Nat → Int} {Z : Nat} {p : pr_S} {t : Nat → Int} {n : Nat} {F : List (List Int)} {hm : am_H}
/-- what the checks ask for -/
theorem ml_pre (A : hA S.1 h) (Rv : rv (kM K Z) p S) (Rm : rm p S) (hw : ∀ k, p.2.2.2 k ≤ 2100) (T : tokR t n F K V P Z hm) (e257 : h 257 = hm 257) (e258 : h 258 = hm 258) (h300 : ∀ s : Nat, s < 60 → h 300 s = 0 ∨ h 300 s = 1) : mc_T (kM K Z) Z h ∧ mc_K (kM K Z) P Z h ∧ mc_Y Z h ∧ mc_I (kM K Z) Z h ∧ mc_C (kM K Z) Z h ∧ (∀ s : Nat, (s : Int) < h 254 17 → 0 ≤ h 263 s ∧ h 263 s < h 254 14) := by
  have mT := T.mpT
  have hZ := T.2.1
  have le : ∀ i, kM K Z i ≠ 0 → i ≤ Z := fun i h => by
    by_cases c : i ≤ Z
    · exact c
    · exfalso; unfold kM at h; rw [if_neg c] at h; exact h rfl
  have f := A.2.1
  have c14 := f 14 (by decide) (by decide) (by decide) (by decide) (by decide) (by decide) (by decide) (by decide) (by decide) (by decide)
  have c17 := f 17 (by decide) (by decide) (by decide) (by decide) (by decide) (by decide) (by decide) (by decide) (by decide) (by decide)
  have c25 := f 25 (by decide) (by decide) (by decide) (by decide) (by decide) (by decide) (by decide) (by decide) (by decide) (by decide)
  have c33 := f 33 (by decide) (by decide) (by decide) (by decide) (by decide) (by decide) (by decide) (by decide) (by decide) (by decide)
  have c39 := f 39 (by decide) (by decide) (by decide) (by decide) (by decide) (by decide) (by decide) (by decide) (by decide) (by decide)
  have e : ∀ a, a ≠ 254 → a ≠ 280 → a ≠ 284 → ¬ (290 ≤ a ∧ a ≤ 292) → h a = S.1 a := A.1
  obtain ⟨⟨⟨r1, r2⟩, ⟨r3, r4⟩, ⟨r5, r6⟩, ⟨r7, r8⟩, r9, r10⟩, ⟨w14, w17, -, w0, w3, -⟩, -⟩ := Rv
  obtain ⟨m1, m2, m3, -⟩ := Rm
  have b0 := hw 0
  have b1 := hw 1
  have b2 := hw 2
  refine ⟨⟨hZ, ⟨by omega, by omega, fun k hk => ?_⟩, ⟨by omega, by omega, fun k hk => ?_⟩, ⟨by omega, by omega, fun k hk => ?_⟩⟩, fun i hi => ?_, ⟨fun s hs => ?_, fun v hv => ?_⟩, ⟨by omega, by omega, fun k hk => ⟨?_, fun hr => ?_⟩⟩, ⟨⟨by omega, by omega, fun k hk => ⟨?_, ?_, ?_⟩⟩, fun s hs => ?_, h300, fun v hv => ?_⟩, fun s hs => ?_⟩
  · obtain ⟨u, u1, u2, u3⟩ := r2 k (by omega)
    rw [e 261 (by decide) (by decide) (by decide) (by decide)]
    exact ⟨u, u1, le u (by omega), u3⟩
  · obtain ⟨⟨u, u1, u2, u3⟩, -⟩ := r4 k (by omega)
    rw [e 265 (by decide) (by decide) (by decide) (by decide)]
    exact ⟨u, u1, le u (by omega), u3⟩
  · obtain ⟨⟨u, u1, u2, u3⟩, -⟩ := r6 k (by omega)
    rw [e 273 (by decide) (by decide) (by decide) (by decide)]
    exact ⟨u, u1, le u (by omega), u3⟩
  · obtain ⟨a1, a2, a3, -⟩ := mT.2.2 i hi
    rw [e257, e258]
    exact ⟨a1, a2, a3⟩
  · obtain ⟨-, -, u⟩ := r4 s (by omega)
    rw [e 266 (by decide) (by decide) (by decide) (by decide)]
    rcases u with u | ⟨u, u1, u2, u3⟩
    · exact Or.inl u
    · exact Or.inr ⟨u, u1, le u u3⟩
  · obtain ⟨-, u, u1, u2, u3⟩ := r6 v (by omega)
    rw [e 274 (by decide) (by decide) (by decide) (by decide)]
    exact Or.inr ⟨u, u1, le u u3⟩
  · obtain ⟨⟨u, u1, u2⟩, -⟩ := r8 k (by omega)
    rw [e 281 (by decide) (by decide) (by decide) (by decide)]
    exact ⟨u, u1, by omega⟩
  · rw [e 277 (by decide) (by decide) (by decide) (by decide)] at hr ⊢
    have hr2 : mp_rel (S.1 277 k) := by
      unfold mp_rel
      rcases hr with z | z | z
      · exact Or.inr (Or.inl z)
      · exact Or.inr (Or.inr (Or.inl z))
      · exact Or.inr (Or.inr (Or.inr (Or.inr z)))
    obtain ⟨u, u1, u2, u3, u4⟩ := (r8 k (by omega)).2 hr
    rw [(A.2.2.1 k (by omega)).1 hr2]
    exact ⟨u, u1, le u u3, u4⟩
  · obtain ⟨u, -⟩ := r10 k (by omega)
    rw [e 289 (by decide) (by decide) (by decide) (by decide), c17]
    exact u
  · obtain ⟨-, ⟨u, u1, u2, u3⟩, -⟩ := r10 k (by omega)
    rw [e 283 (by decide) (by decide) (by decide) (by decide)]
    exact ⟨u, u1, le u (by omega), u3⟩
  · obtain ⟨-, -, u⟩ := r10 k (by omega)
    rw [e 282 (by decide) (by decide) (by decide) (by decide)]
    rcases u with u | ⟨u, u1, u2, u3⟩
    · exact Or.inl u
    · exact Or.inr ⟨u, u1, le u (by omega), u3⟩
  · obtain ⟨-, u, -⟩ := r4 s (by omega)
    rw [e 263 (by decide) (by decide) (by decide) (by decide)]
    omega
  · obtain ⟨-, u, u1, u2, u3⟩ := r6 v (by omega)
    rw [e 274 (by decide) (by decide) (by decide) (by decide)]
    exact ⟨u, u1, le u u3⟩
  · obtain ⟨-, u, -⟩ := r4 s (by omega)
    rw [e 263 (by decide) (by decide) (by decide) (by decide), c14]
    exact u
end
