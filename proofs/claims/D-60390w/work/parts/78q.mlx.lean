/-! PURE LAYER, 148: what the checks leave in the model's tables -/
section
variable {K nm sc ss : Nat → Int} {h : am_H}
theorem kx_n {k : Nat} {x : am_H} {c j : Nat} (hc : ¬ (285 ≤ c ∧ c ≤ 288 ∧ j = k)) : m_kx K nm sc ss h k x c j = x c j := by
  unfold m_kx
  by_cases c1 : h 282 k = -1
  · rw [if_pos c1]
    by_cases c2 : m_kc K nm sc h k = -1
    · rw [if_pos c2, p_up_n _ _ _ _ _ _ (by omega)]
    · rw [if_neg c2, p_up_n _ _ _ _ _ _ (by omega), p_up_n _ _ _ _ _ _ (by omega), p_up_n _ _ _ _ _ _ (by omega)]
  · rw [if_neg c1]
    by_cases c2 : m_kc K nm sc h k = -1
    · rw [if_pos c2, p_up_n _ _ _ _ _ _ (by omega), p_up_n _ _ _ _ _ _ (by omega), p_up_n _ _ _ _ _ _ (by omega)]
    · rw [if_neg c2, p_up_n _ _ _ _ _ _ (by omega), p_up_n _ _ _ _ _ _ (by omega), p_up_n _ _ _ _ _ _ (by omega), p_up_n _ _ _ _ _ _ (by omega), p_up_n _ _ _ _ _ _ (by omega)]
theorem kx_v {k : Nat} {x : am_H} : m_kx K nm sc ss h k x 285 k = m_ko nm h k ∧ (h 282 k ≠ -1 → m_kx K nm sc ss h k x 286 k = m_var nm h (h 289 k) (h 282 k).toNat) ∧ (m_kc K nm sc h k ≠ -1 → m_kx K nm sc ss h k x 287 k = m_kc K nm sc h k ∧ m_kx K nm sc ss h k x 288 k = m_sof nm ss h (m_kc K nm sc h k) (h 283 k).toNat) := by
  unfold m_kx
  by_cases c1 : h 282 k = -1
  · have e : m_ko nm h k = 2 := by unfold m_ko; rw [if_pos c1]
    rw [if_pos c1]
    by_cases c2 : m_kc K nm sc h k = -1
    · rw [if_pos c2, p_up_s, e]
      exact ⟨rfl, fun z => absurd c1 z, fun z => absurd c2 z⟩
    · rw [if_neg c2, e]
      refine ⟨?_, fun z => absurd c1 z, fun _ => ⟨?_, ?_⟩⟩
      · rw [p_up_c _ _ _ _ _ (by decide), p_up_c _ _ _ _ _ (by decide), p_up_s]
      · rw [p_up_c _ _ _ _ _ (by decide), p_up_s]
      · rw [p_up_s]
  · rw [if_neg c1]
    by_cases c2 : m_kc K nm sc h k = -1
    · rw [if_pos c2]
      refine ⟨?_, fun _ => ?_, fun z => absurd c2 z⟩
      · rw [p_up_c _ _ _ _ _ (by decide), p_up_s]
      · rw [p_up_s]
    · rw [if_neg c2]
      refine ⟨?_, fun _ => ?_, fun _ => ⟨?_, ?_⟩⟩
      · rw [p_up_c _ _ _ _ _ (by decide), p_up_c _ _ _ _ _ (by decide), p_up_c _ _ _ _ _ (by decide), p_up_s]
      · rw [p_up_c _ _ _ _ _ (by decide), p_up_c _ _ _ _ _ (by decide), p_up_s]
      · rw [p_up_c _ _ _ _ _ (by decide), p_up_s]
      · rw [p_up_s]
theorem kxs_n : ∀ (m k : Nat) {x : am_H} {c j : Nat}, ¬ (285 ≤ c ∧ c ≤ 288 ∧ k ≤ j ∧ j < k + m) → m_kxs K nm sc ss h m k x c j = x c j
  | 0, _, _, _, _, _ => rfl
  | m + 1, k, x, c, j, hc => by
    show m_kxs K nm sc ss h m (k + 1) (m_kx K nm sc ss h k x) c j = _
    rw [kxs_n m (k + 1) (by omega), kx_n (by omega)]
theorem kxs_v : ∀ (m k : Nat) {x : am_H} {j : Nat}, k ≤ j → j < k + m → m_kxs K nm sc ss h m k x 285 j = m_ko nm h j ∧ (h 282 j ≠ -1 → m_kxs K nm sc ss h m k x 286 j = m_var nm h (h 289 j) (h 282 j).toNat) ∧ (m_kc K nm sc h j ≠ -1 → m_kxs K nm sc ss h m k x 287 j = m_kc K nm sc h j ∧ m_kxs K nm sc ss h m k x 288 j = m_sof nm ss h (m_kc K nm sc h j) (h 283 j).toNat)
  | 0, k, x, j, h1, h2 => by omega
  | m + 1, k, x, j, h1, h2 => by
    have e : m_kxs K nm sc ss h (m + 1) k x = m_kxs K nm sc ss h m (k + 1) (m_kx K nm sc ss h k x) := rfl
    rw [e]
    by_cases z : j = k
    · subst z
      rw [kxs_n m (j + 1) (by omega), kxs_n m (j + 1) (by omega), kxs_n m (j + 1) (by omega), kxs_n m (j + 1) (by omega)]
      exact kx_v
    · exact kxs_v m (k + 1) (by omega) (by omega)
theorem ia_n : ∀ (m k : Nat) {x : am_H} {c j : Nat}, ¬ (c = 278 ∧ k ≤ j ∧ j < k + m ∧ (h 277 j = 4 ∨ h 277 j = 13)) → m_ia nm h m k x c j = x c j
  | 0, _, _, _, _, _ => rfl
  | m + 1, k, x, c, j, hc => by
    show m_ia nm h m (k + 1) _ c j = _
    rw [ia_n m (k + 1) (by omega)]
    by_cases z : h 277 k = 4 ∨ h 277 k = 13
    · rw [if_pos z, p_up_n _ _ _ _ _ _ (by
        by_cases z1 : c = 278
        · by_cases z2 : j = k
          · exact absurd ⟨z1, by omega, by omega, by rw [z2]; exact z⟩ hc
          · exact Or.inr z2
        · exact Or.inl z1)]
    · rw [if_neg z]
theorem ia_v : ∀ (m k : Nat) {x : am_H} {j : Nat}, k ≤ j → j < k + m → h 277 j = 4 ∨ h 277 j = 13 → m_ia nm h m k x 278 j = m_var nm h (h 281 j) (h 280 j).toNat
  | 0, k, x, j, h1, h2, h3 => by omega
  | m + 1, k, x, j, h1, h2, h3 => by
    have e : m_ia nm h (m + 1) k x = m_ia nm h m (k + 1) (if h 277 k = 4 ∨ h 277 k = 13 then am_up x 278 k (m_var nm h (h 281 k) (h 280 k).toNat) else x) := rfl
    rw [e]
    by_cases z : j = k
    · subst z
      rw [ia_n m (j + 1) (by omega), if_pos h3, p_up_s]
    · exact ia_v m (k + 1) (by omega) (by omega) h3
theorem own_n : ∀ (m k : Nat) {x : am_H} {c j : Nat}, ¬ (c = 302 ∧ k ≤ j ∧ j < k + m) → m_own h m k x c j = x c j
  | 0, _, _, _, _, _ => rfl
  | m + 1, k, x, c, j, hc => by
    show m_own h m (k + 1) _ c j = _
    rw [own_n m (k + 1) (by omega), p_up_n _ _ _ _ _ _ (by omega)]
theorem own_v : ∀ (m k : Nat) {x : am_H} {j : Nat}, k ≤ j → j < k + m → m_own h m k x 302 j = (j : Int) - m_fst h j j j
  | 0, k, x, j, h1, h2 => by omega
  | m + 1, k, x, j, h1, h2 => by
    have e : m_own h (m + 1) k x = m_own h m (k + 1) (am_up x 302 k ((k : Int) - m_fst h k k k)) := rfl
    rw [e]
    by_cases z : j = k
    · subst z
      rw [own_n m (j + 1) (by omega), p_up_s]
    · exact own_v m (k + 1) (by omega) (by omega)
/-- the tables behind the checks -/
theorem ml_x_v : (∀ c, c ≠ 278 → ¬ (285 ≤ c ∧ c ≤ 288) → c ≠ 302 → ml_x K nm sc ss h c = h c) ∧ (∀ k : Nat, (k : Int) < h 254 33 → ml_x K nm sc ss h 278 k = if h 277 k = 4 ∨ h 277 k = 13 then m_var nm h (h 281 k) (h 280 k).toNat else h 278 k) ∧ (∀ k : Nat, (k : Int) < h 254 39 → ml_x K nm sc ss h 285 k = m_ko nm h k ∧ (h 282 k ≠ -1 → ml_x K nm sc ss h 286 k = m_var nm h (h 289 k) (h 282 k).toNat) ∧ (m_kc K nm sc h k ≠ -1 → ml_x K nm sc ss h 287 k = m_kc K nm sc h k ∧ ml_x K nm sc ss h 288 k = m_sof nm ss h (m_kc K nm sc h k) (h 283 k).toNat)) ∧ ∀ s : Nat, (s : Int) < h 254 17 → ml_x K nm sc ss h 302 s = (s : Int) - m_fst h s s s := by
  unfold ml_x
  refine ⟨fun c c1 c2 c3 => ?_, fun k hk => ?_, fun k hk => kxs_v _ _ (Nat.zero_le _) (by omega), fun s hs => ?_⟩
  · funext j
    rw [kxs_n _ _ (by omega), ia_n _ _ (by omega), own_n _ _ (by omega)]
  · rw [kxs_n _ _ (by omega)]
    by_cases z : h 277 k = 4 ∨ h 277 k = 13
    · rw [if_pos z]; exact ia_v _ _ (Nat.zero_le _) (by omega) z
    · rw [if_neg z, ia_n _ _ (fun w => z w.2.2.2), own_n _ _ (by omega)]
  · rw [kxs_n _ _ (by omega), ia_n _ _ (by omega)]
    exact own_v _ _ (Nat.zero_le _) (by omega)
end
