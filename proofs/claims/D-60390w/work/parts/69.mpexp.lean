/-! PURE LAYER, 39: the model's expressions: levels -/
section
variable (K V P : Nat → Int) (Z : Nat) (g0 : am_H)
/-- within an expression: levels, whether a term is needed, whether it stands behind do -/
def mp_E (ls : List (Int × Int × Int)) (nt dv : Int) (oc : List Int) (i deep st : Nat) (g h : am_H) : Prop := mp_N K V P Z g0 oc i deep st g h ∧ h 254 51 = ls.length ∧ mp_Ls ls h ∧ h 254 61 = nt ∧ h 254 62 = dv ∧ ls.length ≤ deep + 1
end
/-- the loop; behind a term, then the loop -/
noncomputable def mx_L (d L : Nat) (h : am_H) : Option am_O := am_E (am_D (d + 8)) m_17_46 (.inl 0) [some (am_r (am_a 254))] [] (zS L, h)
noncomputable def mx_B (d L : Nat) (u : Option am_V) (h : am_H) : Option am_O := am_xV (zS L) (am_E (am_D (d + 7)) m_17_49 (.inl 0) [some (am_r (am_a 254)), u] [] (zS L, h)) (am_up1 (zS L)) (mx_L d L)
section
variable {K V P : Nat → Int} {Z : Nat} {g0 : am_H} {oc : List Int} {i deep st : Nat} {g h : am_H} (d L : Nat) {β : Type} {ls : List (Int × Int × Int)} {nt dv : Int}
/-- an event that adds an item, and its place in the code -/
theorem mn_add {m : Nat} {kk : Int → am_H → Option am_O} {q : Int × Int × List (Int × Int × Int × Int) × List Int} {F : mi_S → gx_R β} {ok : β → Option am_O → Prop} (N : mp_N K V P Z g0 oc i deep st g h) (k a b t t2 : Int) (ht : mp_rel k → t2 = t) (hr : 0 ≤ t2 ∧ t2 ≤ 1001)
    (hk : ∀ h1, mp_N K V P Z g0 oc i deep st (mi_put k a b t g) h1 → (∀ c j, c ≠ 277 → c ≠ 278 → c ≠ 279 → c ≠ 280 → c ≠ 281 → ¬ (c = 254 ∧ j = 33) → h1 c j = h c j) → mo L (kk (g 254 33) h1) g0 m (F (mi_put k a b t g, q)) ok) :
    mo L (am_xI (zS L) (am_D (d + 1) 17 25 [am_r (am_a 254), am_i k, am_i a, am_i b, am_i t2] (zS L, h)) (am_up1 (zS L)) kk) g0 m (gx_b (mi_h (g, q) (mi_add k a b t g)) F) ok := by
  unfold mi_add ce_q
  by_cases c : g 254 33 < 4900
  · obtain ⟨h1, e, N1, f⟩ := mp_add d L N c k a b t t2 ht hr
    rw [if_pos c, e, p_xI]
    exact hk h1 N1 f
  · rw [if_neg c]; exact fun z => absurd z (by decide)
theorem mp_E.fr {h1 : am_H} {g1 : am_H} (E : mp_E K V P Z g0 ls nt dv oc i deep st g h) (N : mp_N K V P Z g0 oc i deep st g1 h1) (f : ∀ c j, c ≠ 277 → c ≠ 278 → c ≠ 279 → c ≠ 280 → c ≠ 281 → ¬ (c = 254 ∧ j = 33) → h1 c j = h c j) : mp_E K V P Z g0 ls nt dv oc i deep st g1 h1 := by
  refine ⟨N, ?_, E.2.2.1.cell (funext fun j => ?_) (funext fun j => ?_) (funext fun j => ?_), ?_, ?_, E.2.2.2.2.2⟩
  · rw [f 254 51 (by decide) (by decide) (by decide) (by decide) (by decide) (by simp)]; exact E.2.1
  · exact f 290 j (by decide) (by decide) (by decide) (by decide) (by decide) (by simp)
  · exact f 291 j (by decide) (by decide) (by decide) (by decide) (by decide) (by simp)
  · exact f 292 j (by decide) (by decide) (by decide) (by decide) (by decide) (by simp)
  · rw [f 254 61 (by decide) (by decide) (by decide) (by decide) (by decide) (by simp)]; exact E.2.2.2.1
  · rw [f 254 62 (by decide) (by decide) (by decide) (by decide) (by decide) (by simp)]; exact E.2.2.2.2.1
/-- go() -/
theorem mp_E.go (E : mp_E K V P Z g0 ls nt dv oc i deep st g h) (hK : K i ≠ 0 ∧ K i ≠ 6 ∧ K i ≠ 7) : am_D (d + 1) 17 21 [am_r (am_a 254)] (zS L, h) = pV L (am_up h 254 10 ((i + 1 : Nat) : Int)) ∧ mp_E K V P Z g0 ls nt dv oc (i + 1) deep st g (am_up h 254 10 ((i + 1 : Nat) : Int)) := by
  obtain ⟨e, N1⟩ := mp_go d L E.1 hK
  refine ⟨e, N1, ?_, E.2.2.1.cell (p_up_c _ _ _ _ _ (by decide)) (p_up_c _ _ _ _ _ (by decide)) (p_up_c _ _ _ _ _ (by decide)), ?_, ?_, E.2.2.2.2.2⟩
  · rw [p_up_n _ _ _ _ _ _ (Or.inr (by decide))]; exact E.2.1
  · rw [p_up_n _ _ _ _ _ _ (Or.inr (by decide))]; exact E.2.2.2.1
  · rw [p_up_n _ _ _ _ _ _ (Or.inr (by decide))]; exact E.2.2.2.2.1
/-- needsTerm is set -/
theorem mp_E.nt_ (E : mp_E K V P Z g0 ls nt dv oc i deep st g h) (v : Int) : mp_E K V P Z g0 ls v dv oc i deep st g (am_up h 254 61 v) := by
  refine ⟨E.1.hup 254 61 v rfl rfl rfl, ?_, E.2.2.1.cell (p_up_c _ _ _ _ _ (by decide)) (p_up_c _ _ _ _ _ (by decide)) (p_up_c _ _ _ _ _ (by decide)), p_up_s _ _ _ _, ?_, E.2.2.2.2.2⟩
  · rw [p_up_n _ _ _ _ _ _ (Or.inr (by decide))]; exact E.2.1
  · rw [p_up_n _ _ _ _ _ _ (Or.inr (by decide))]; exact E.2.2.2.2.1
/-- push(sort), once more is open -/
theorem mp_push (E : mp_E K V P Z g0 ls nt dv oc i deep st g h) (so : Int) : am_D (d + 1) 17 42 [am_r (am_a 254), am_i so] (zS L, h) = pV L (am_up (am_up (am_up h 290 ls.length so) 291 ls.length 0) 254 51 ((ls.length : Int) + 1)) ∧ (∀ deep2, mp_N K V P Z g0 oc i deep2 st g h → ls.length + 1 ≤ deep2 + 1 → mp_E K V P Z g0 ((so, 0, h 292 ls.length) :: ls) nt dv oc i deep2 st g (am_up (am_up (am_up h 290 ls.length so) 291 ls.length 0) 254 51 ((ls.length : Int) + 1))) := by
  have bd := E.1.bd
  have ll := E.2.2.2.2.2
  rw [D_17_42, E.2.1, p_idx (by omega) (by omega), p_idx (by omega) (by omega), Int.toNat_natCast, p_w (by omega) (by omega)]
  refine ⟨rfl, fun deep2 N2 hl => ⟨((N2.hup 290 _ so rfl rfl rfl).hup 291 _ 0 rfl rfl rfl).lvl _ (by have := N2.bd; omega), ?_, ?_, ?_, ?_, ?_⟩⟩
  · rw [p_up_s]; simp
  · refine ⟨?_, ?_, ?_, E.2.2.1.same fun k hk => ⟨?_, ?_, ?_⟩⟩
    · rw [p_up_c _ _ _ _ _ (by decide), p_up_c _ _ _ _ _ (by decide), p_up_s]
    · rw [p_up_c _ _ _ _ _ (by decide), p_up_s]
    · rw [p_up_c _ _ _ _ _ (by decide), p_up_c _ _ _ _ _ (by decide), p_up_c _ _ _ _ _ (by decide)]
    · rw [p_up_c _ _ _ _ _ (by decide), p_up_c _ _ _ _ _ (by decide), p_up_n _ _ _ _ _ _ (Or.inr (by omega))]
    · rw [p_up_c _ _ _ _ _ (by decide), p_up_n _ _ _ _ _ _ (Or.inr (by omega)), p_up_c _ _ _ _ _ (by decide)]
    · rw [p_up_c _ _ _ _ _ (by decide), p_up_c _ _ _ _ _ (by decide), p_up_c _ _ _ _ _ (by decide)]
  · rw [p_up_n _ _ _ _ _ _ (Or.inr (by decide)), p_up_c _ _ _ _ _ (by decide), p_up_c _ _ _ _ _ (by decide)]; exact E.2.2.2.1
  · rw [p_up_n _ _ _ _ _ _ (Or.inr (by decide)), p_up_c _ _ _ _ _ (by decide), p_up_c _ _ _ _ _ (by decide)]; exact E.2.2.2.2.1
  · simp; omega
theorem mb_push {m : Nat} {e : Int × Int} (B : mp_B g0 m e h) (hm : m ≤ 4910) (hl : h 254 51 ≤ 60) (so : Int) : ∃ h', am_D (d + 1) 17 42 [am_r (am_a 254), am_i so] (zS L, h) = pV L h' ∧ mp_B g0 (m + 1) e h' ∧ h' 254 51 = h 254 51 + 1 := by
  have b := B.2.2.2.2.2.2.2.2.1
  rw [D_17_42, p_idx (by omega) (by omega), p_idx (by omega) (by omega), p_w (by omega) (by omega)]
  refine ⟨_, rfl, ((B.up 290 _ so rfl rfl).up 291 _ 0 rfl rfl).lv _ (by omega) (by omega), p_up_s _ _ _ _⟩
/-- the loop, where a term is needed, and where one is through -/
theorem mx_L_term (E : mp_E K V P Z g0 ls nt dv oc i deep st g h) (hn : nt ≠ 0) (hl : ls ≠ []) : mx_L d L h = am_xV (zS L) (am_D (d + 8) 17 47 [am_r (am_a 254)] (zS L, h)) (am_up1 (zS L)) (mx_L d L) := by
  have : 0 < ls.length := List.length_pos_iff.mpr hl
  unfold mx_L
  rw [q_17_46_0, E.1.fa, if_pos rfl, E.2.1, if_pos (by omega), E.2.2.2.1, if_neg hn]
theorem mx_L_behind (E : mp_E K V P Z g0 ls nt dv oc i deep st g h) (hn : nt = 0) (hl : ls ≠ []) : mx_L d L h = mx_B d L none h := by
  have : 0 < ls.length := List.length_pos_iff.mpr hl
  have e : mx_L d L h = am_xV (zS L) (am_D (d + 8) 17 49 [am_r (am_a 254)] (zS L, h)) (am_up1 (zS L)) (mx_L d L) := by
    unfold mx_L
    rw [q_17_46_0, E.1.fa, if_pos rfl, E.2.1, if_pos (by omega), E.2.2.2.1, if_pos hn]
  rw [e]
  rfl
theorem mx_L_bad {m : Nat} {e : Int × Int} (B : mp_B g0 m e h) : mx_L d L h = pV L h := by
  have b1 := B.2.1
  unfold mx_L
  rw [q_17_46_0, if_neg (by rw [B.2.2.1]; omega)]
theorem mb_L (m : Nat) : mb L g0 m m (mx_L d L) := fun _ h1 B => ⟨h1, mx_L_bad d L B, B⟩
end
