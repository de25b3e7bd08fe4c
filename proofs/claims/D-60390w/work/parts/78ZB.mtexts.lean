/-! PURE LAYER, 81: texts(): the model's reading of a text, whole -/
/-- where the reading begins -/
def mt_0 (h : am_H) : am_H := am_up (am_up (am_up (am_up (am_up (am_up (am_up (am_up (am_up h 254 11 0) 254 14 0) 254 16 0) 254 17 0) 254 25 0) 254 33 0) 254 39 0) 254 48 0) 254 49 0
/-- what is asked of the heap ahead of it -/
def mt_pre (K V P : Nat → Int) (Z : Nat) (h : am_H) : Prop := mp_T K V P Z h ∧ h 254 10 = 0 ∧ (0 ≤ h 254 51 ∧ h 254 51 ≤ 142)
theorem mt_0_n (h : am_H) (a k : Nat) (hk : ¬ (a = 254 ∧ (k = 11 ∨ k = 14 ∨ k = 16 ∨ k = 17 ∨ k = 25 ∨ k = 33 ∨ k = 39 ∨ k = 48 ∨ k = 49))) : mt_0 h a k = h a k := by
  unfold mt_0
  rw [p_up_n _ _ _ _ _ _ (by omega), p_up_n _ _ _ _ _ _ (by omega), p_up_n _ _ _ _ _ _ (by omega), p_up_n _ _ _ _ _ _ (by omega), p_up_n _ _ _ _ _ _ (by omega), p_up_n _ _ _ _ _ _ (by omega), p_up_n _ _ _ _ _ _ (by omega), p_up_n _ _ _ _ _ _ (by omega), p_up_n _ _ _ _ _ _ (by omega)]
theorem mt_0_z (h : am_H) (k : Nat) (hk : k = 11 ∨ k = 14 ∨ k = 16 ∨ k = 17 ∨ k = 25 ∨ k = 33 ∨ k = 39 ∨ k = 48 ∨ k = 49) : mt_0 h 254 k = 0 := by
  unfold mt_0
  rcases hk with rfl | rfl | rfl | rfl | rfl | rfl | rfl | rfl | rfl <;> simp [p_up]
section
variable {K K' V P : Nat → Int} {Z g : Nat} {h : am_H}
theorem mt_N (A : mt_pre K' V P Z h) (hI : mp_I K' Z 0) : mp_N K' V P Z (mt_0 h) [] 0 0 0 (mt_0 h) (mt_0 h) := by
  obtain ⟨a1, a2, a3⟩ := A
  have c : ∀ b, b ≠ 254 → mt_0 h b = h b := fun b hb => funext fun k => mt_0_n h b k (by omega)
  refine ⟨p_fr.refl _, p_fr.refl _, ⟨?_, mt_0_z h 11 (by simp), mt_0_z h 48 (by simp), mt_0_z h 49 (by simp), ?_⟩, ?_, hI, ?_, ⟨by decide, by decide⟩, ?_, ?_, ?_⟩
  · rw [mt_0_n h 254 10 (by omega)]; exact a2
  · rw [mt_0_n h 254 51 (by omega)]; exact a3
  · unfold mp_T at *; rw [c 257 (by decide), c 258 (by decide), c 260 (by decide)]; exact a1
  · unfold mp_ok
    rw [mt_0_z h 33 (by simp), mt_0_z h 39 (by simp), mt_0_z h 17 (by simp), mt_0_z h 14 (by simp), mt_0_z h 25 (by simp), mt_0_z h 16 (by simp)]
    omega
  · intro k hk; rw [mt_0_z h 33 (by simp)] at hk; omega
  · intro k hk; rw [mt_0_z h 39 (by simp)] at hk; omega
  · intro c hc; cases hc
theorem mt_H (A : mt_pre K' V P Z h) : mh 0 0 0 (mt_0 h 262 0) (mt_0 h 267 0) (mt_0 h 268 0) (mt_0 h) := by
  obtain ⟨a1, a2, a3⟩ := A
  refine ⟨mt_0_z h 14 (by simp), mt_0_z h 17 (by simp), mt_0_z h 16 (by simp), rfl, rfl, rfl, ?_, ?_⟩
  · intro z; omega
  · intro z; omega
theorem hp_cl {σ : Type} {C : gx_V → σ → gx_R σ} {g : Nat} (hg : 1 ≤ g) {s s1 : σ} (h39 : C (39, 0, 0, 0) s = .inr s1) : hp K V P C g s = hp_classes K V P C g g 0 0 0 0 0 s := by
  unfold hp gx_if
  by_cases c : K 0 ≠ 6
  · rw [if_pos c]
  · rw [if_neg c]
    obtain ⟨f, rfl⟩ : ∃ f, g = f + 1 := ⟨g - 1, by omega⟩
    unfold hp_classes hp_class
    rw [if_neg (by omega), h39, gx_b_inr]
    unfold hx_word gx_if
    rw [if_neg (by rintro ⟨z, -⟩; omega)]
    rfl
theorem mt_rm (A : mt_pre K' V P Z h) (ty so : Int) : rm pr_0 (mt_0 h, ty, so, [], []) := by
  obtain ⟨a1, a2, a3⟩ := A
  refine ⟨?_, ?_, ?_, ?_, rfl, rfl, by decide⟩
  · show mt_0 h 254 33 = 0; exact mt_0_z h 33 (by simp)
  · show 4 * mt_0 h 254 39 = 0; rw [mt_0_z h 39 (by simp)]; rfl
  · show 2 * mt_0 h 254 25 = 0; rw [mt_0_z h 25 (by simp)]; rfl
  · exact ⟨Or.inr (by decide), Or.inr (by decide)⟩
/-- texts() -/
theorem mt_texts (d L : Nat) (T : tx K K' V Z) (hg : 3 * Z + 2 ≤ g) (hg2 : g ≤ 900000) (A : mt_pre K' V P Z h) (hI : mp_I K' Z 0) :
    (∃ e : Int × Int, e.1 < 8 ∧ (∀ {σ : Type} (C : gx_V → σ → gx_R σ) (s : σ), ∃ es p, gx_fold (pr pw K' V) es pr_0 = .inr p ∧ gp false K V P C g s = gx_b (gx_fold C es s) fun _ => .inl e) ∧ ∃ gb h', am_D (d + 15) 17 51 [am_r (am_a 254)] (zS L, h) = pV L h' ∧ p_fr mp_C2 mp_F3 (mt_0 h) gb ∧ mp_B gb 4992 e h') ∨
    (∃ es p s', gx_fold (pr pw K' V) es pr_0 = .inr p ∧ ((∃ ph, (ph = 0 ∨ ph = 3) ∧ pD Z ph Z (p.1 8) p) ∧ p.1 14 = 0) ∧ (∀ {σ : Type} (C : gx_V → σ → gx_R σ) (s : σ), gp false K V P C g s = gx_fold C es s) ∧ gx_fold (mi V) es (mt_0 h, -1, 0, [], []) = .inr s' ∧ rm p s' ∧ ∃ h', am_D (d + 15) 17 51 [am_r (am_a 254)] (zS L, h) = pV L h' ∧ ∃ gb i st, mp_N K' V P Z gb [] i 0 st s'.1 h' ∧ p_fr mp_C2 mp_F3 (mt_0 h) s'.1) := by
  have eD : am_D (d + 15) 17 51 [am_r (am_a 254)] (zS L, h) = mT_1 d L (mt_0 h) := by rw [D_17_51]; rfl
  have all := mT_all d L hg2 (G0 := mt_0 h) g 0 0 0 0 0 (mt_0 h) (mt_0 h) (mt_0 h) (-1) 0 _ _ _ (mt_N A hI) (p_fr.refl _) (mt_H A)
  rw [← hp_cl (s1 := (mt_0 h, -1, 0, [], [])) (by omega) rfl] at all
  rcases tx_main (P := P) pw_ok T hg with ⟨e, h8, hG, hH⟩ | ⟨es, p, hf, hp, hG, hH⟩
  · obtain ⟨es, p, hf, hr⟩ := hH (mi V) (mt_0 h, -1, 0, [], [])
    obtain ⟨s', hm, -⟩ := mi_run es hf (mt_rm A (-1) 0)
    rw [hr, hm] at all
    obtain ⟨gb, h', e1, e2, e3⟩ := all h8
    exact Or.inl ⟨e, h8, hG, gb, h', by rw [eD]; exact e1, e2, e3⟩
  · obtain ⟨s', hm, R⟩ := mi_run es hf (mt_rm A (-1) 0)
    rw [hH, hm] at all
    obtain ⟨h', e1, gb, i, st, e2, e3⟩ := all
    exact Or.inr ⟨es, p, s', hf, hp, hG, hm, R, h', by rw [eD]; exact e1, gb, i, st, e2, e3⟩
end
