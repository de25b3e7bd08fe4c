/-! PURE LAYER, 60: the model's parameters -/
/-- parameters, from a type on -/
def hw {σ : Type} (K V P : Nat → Int) (C : gx_V → σ → gx_R σ) (f j n : Nat) (s : σ) : gx_R (Nat × σ) := gx_b (hx_type K V P C j s) fun r => gx_if (K r.1 = 2) (hx_sx K P r.1) (gx_if (n < 12) (2, P r.1) (gx_b (C (46, (r.1 : Int), 0, 0) r.2) fun s1 => gx_b (hx_next r.1) fun j2 => hp_pars K V P C f j2 (n + 1) s1))
theorem hw_pars {σ : Type} {K V P : Nat → Int} {C : gx_V → σ → gx_R σ} (f i n : Nat) (s : σ) : hp_pars K V P C (f + 1) i n s = if gx_sg K V 41 i then .inr (i + 1, s) else gx_b (if n = 0 then .inr i else hx_sign K V P 44 i) fun j => hw K V P C f j n s := rfl
noncomputable def mw_E (d L : Nat) (l : List (Option am_V)) (h : am_H) : Option am_O := am_E (am_D (d + 3)) m_17_33 (.inl 3) l [] (zS L, h)
section
variable {K V P : Nat → Int} {Z : Nat} {g0 : am_H} {deep st : Nat} (d L : Nat) {ty so : Int} {cn sn vn : Nat} {fn ln : Int}
theorem mi_46 (V : Nat → Int) (i : Int) (g : am_H) (ty so : Int) : mi V (46, i, 0, 0) (g, ty, so, [], []) = ce_q (g 254 25 < 1090) (.inr (am_up (mi_dec (g 254 17 - 1) 2 ty i (g 267 (g 254 17 - 1).toNat) (g 267 (g 254 17 - 1).toNat) g) 267 (g 254 17 - 1).toNat (g 267 (g 254 17 - 1).toNat + 1), ty, so, [], [])) := rfl
/-- behind a fault: what is left of the parameters -/
theorem mb_wend (x1 x2 : Int) (u3 : Option am_V) {m : Nat} {e : Int × Int} {h : am_H} (B : mp_B g0 m e h) : mw_E d L [some (am_r (am_a 254)), some (am_i x1), some (am_i x2), u3] h = pV L h := by
  have b1 := B.2.1
  unfold mw_E
  rw [q_17_33_3, mb_needSign d L B, p_xV, if_neg (c := h 254 11 = 0) (by rw [B.2.2.1]; omega)]
  split <;> rfl
/-- where parameters end -/
def mw_P (K V P : Nat → Int) (Z : Nat) (g0 : am_H) (L deep st cn sn vn : Nat) (fn ln : Int) (so : Int) (a : Nat × mi_S) (D : Option am_O) : Prop := ∃ h', D = pV L h' ∧ (mp_N K V P Z g0 [] a.1 deep st a.2.1 h' ∧ (∃ n', mh cn sn vn fn n' ln a.2.1) ∧ a.2.2.2 = (so, [], []))
/-- the ) behind the last one -/
theorem mw_close {i n : Nat} {g h : am_H} (x1 : Int) (u3 : Option am_V) (N : mp_N K V P Z g0 [] i deep st g h) (H : mh cn sn vn fn n ln g) : mo L (mw_E d L [some (am_r (am_a 254)), some (am_i x1), some (am_i 0), u3] h) g0 4920 (gx_b (hx_sign K V P 41 i) fun j => (.inr (j, (g, ty, so, [], [])) : gx_R (Nat × mi_S))) (mw_P K V P Z g0 L deep st cn sn vn fn ln so) := by
  unfold mw_E
  rw [q_17_33_3, if_pos rfl]
  refine mn_sign (m := 4900) d L N 41 (by omega) (mbk_ret L (by omega)) (fun h5 N5 => ?_)
  exact ⟨h5, rfl, N5, ⟨n, H⟩, rfl⟩
/-- behind a name -/
noncomputable def mw_A (d L : Nat) (x1 v : Int) (h : am_H) : Option am_O := am_xI (zS L) (am_D (d + 3) 17 19 [am_r (am_a 254), am_i 44] (zS L, h)) (am_up1 (zS L)) fun v15 h14 => if (v15 : Int) = 0 then am_E (am_D (d + 3)) m_17_33 (.inl 3) [some (am_r (am_a 254)), some (am_i x1), some (am_i v15), some (am_i v)] [] (zS L, h14) else am_xV (zS L) (am_D (d + 3) 17 21 [am_r (am_a 254)] (zS L, h14)) (am_up1 (zS L)) fun h16 => am_E (am_D (d + 3)) m_17_33 (.inl 3) [some (am_r (am_a 254)), some (am_i x1), some (am_i v15), some (am_i v)] [] (zS L, h16)
theorem mb_wA (x1 v : Int) {m : Nat} {e : Int × Int} {h : am_H} (B : mp_B g0 m e h) : mw_A d L x1 v h = pV L h := by
  obtain ⟨w, e1, hw⟩ := mb_isSign (d + 2) L B 44
  have e2 := mb_wend d L x1 w (some (am_i v)) B
  unfold mw_E at e2
  unfold mw_A
  rw [e1, p_xI, mb_go (d + 2) L B, p_xV, e2]
  split <;> rfl
/-- behind a type -/
noncomputable def mw_T (d L : Nat) (x1 v : Int) (h3 : am_H) : Option am_O := if (0 : Int) < h3 254 11 then some (.inl none, (zS L, h3)) else am_idx (h3 254 10) 2002 fun k5 => if (h3 257 k5 : Int) = 1 then am_idx x1 61 fun k6 => am_xV (zS L) (am_D (d + 3) 17 29 [am_r (am_a 254), am_i (h3 267 k6), am_i 12, am_i (h3 254 10)] (zS L, h3)) (am_up1 (zS L)) fun h7 => am_idx x1 61 fun k8 => am_idx x1 61 fun k9 => am_xV (zS L) (am_D (d + 3) 17 30 [am_r (am_a 254), am_i x1, am_i 2, am_i v, am_i (h7 254 10), am_i (h7 267 k8), am_i (h7 267 k9)] (zS L, h7)) (am_up1 (zS L)) fun h10 => am_idx x1 61 fun k11 => am_idx x1 61 fun k12 => am_xV (zS L) (am_D (d + 3) 17 21 [am_r (am_a 254)] (zS L, (am_up h10 267 k12 (am_w (h10 267 k11 + 1))))) (am_up1 (zS L)) (mw_A d L x1 v) else am_xV (zS L) (am_D (d + 3) 17 18 [am_r (am_a 254)] (zS L, h3)) (am_up1 (zS L)) fun h17 => some (.inl none, (zS L, h17))
theorem mw_1 (x1 : Int) (u3 : Option am_V) {i : Nat} {g h : am_H} (N : mp_N K V P Z g0 [] i deep st g h) : mw_E d L [some (am_r (am_a 254)), some (am_i x1), some (am_i 1), u3] h = am_xI (zS L) (am_D (d + 3) 17 31 [am_r (am_a 254)] (zS L, h)) (am_up1 (zS L)) (mw_T d L x1) := by
  conv => lhs; unfold mw_E
  rw [q_17_33_3, if_neg (by decide), N.fa, if_pos rfl]
  rfl
/-- one parameter -/
theorem mw_one {α : Type} {F : Nat → mi_S → gx_R α} {ok : α → Option am_O → Prop} (hsn : 1 ≤ sn) {i n : Nat} {g h : am_H} {u3 : Option am_V} (N : mp_N K V P Z g0 [] i deep st g h) (H : mh cn sn vn fn n ln g) (hk : ∀ g1 h1, mp_N K V P Z g0 [] (i + 2) deep st g1 h1 → mh cn sn vn fn (n + 1) ln g1 → mo L (mw_A d L ((sn : Int) - 1) i h1) g0 4920 (F (i + 2) (g1, (i : Int), so, [], [])) ok) :
    mo L (mw_E d L [some (am_r (am_a 254)), some (am_i ((sn : Int) - 1)), some (am_i 1), u3] h) g0 4920 (gx_b (hx_type K V P (mi V) i (g, ty, so, [], [])) fun r => gx_if (K r.1 = 2) (hx_sx K P r.1) (gx_if (n < 12) (2, P r.1) (gx_b (mi V (46, (r.1 : Int), 0, 0) r.2) fun s1 => gx_b (hx_next r.1) fun j2 => F j2 s1))) ok := by
  have s17 := H.2.1
  have o17 := N.ok.2.2.1
  have at_ : ((sn : Int) - 1).toNat = sn - 1 ∧ 0 ≤ (sn : Int) - 1 ∧ (sn : Int) - 1 < 61 := ⟨by omega, by omega, by omega⟩
  rw [mw_1 d L _ _ N]
  refine mn_type d L N (fun v e h1 B1 => ?_) (fun h1 N1 => ?_)
  · have b1 := B1.2.1
    unfold mw_T
    rw [if_pos (by rw [B1.2.2.1]; exact b1)]
    exact ⟨h1, rfl, B1.le (by omega)⟩
  · have lt := N1.lt
    have kq := mp_k_eq N1.rg
    have e267 : h1 267 (sn - 1) = n := by rw [N1.eq 267 _ rfl (by simp [mp_F])]; exact H.2.2.2.2.1
    unfold mw_T gx_if
    rw [N1.fa, if_neg (by decide), N1.nx, p_idx (by omega) (by omega), Int.toNat_natCast, N1.kd]
    show mo L _ g0 4920 (if K (i + 1) = 2 then if n < 12 then gx_b (mi V (46, ((i + 1 : Nat) : Int), 0, 0) (g, (i : Int), so, [], [])) fun s1 => F (i + 1 + 1) s1 else .inl (2, P (i + 1)) else .inl (hx_sx K P (i + 1))) ok
    by_cases k2 : K (i + 1) = 2
    · rw [if_pos k2, if_pos (kq.2.1.mpr k2), p_idx at_.2.1 at_.2.2, at_.1, e267, D_17_29]
      by_cases hn : n < 12
      · rw [if_pos hn, if_pos (by omega), p_xV, p_idx at_.2.1 at_.2.2, at_.1, p_idx at_.2.1 at_.2.2, at_.1, e267, N1.nx, mi_46]
        unfold ce_q
        by_cases hc : g 254 25 < 1090
        · obtain ⟨e2, N2⟩ := mq_dec (d + 2) L N1 hc ((sn : Int) - 1) 2 i ((i + 1 : Nat) : Int) n n
          have H2 := H.dec ((sn : Int) - 1) 2 i ((i + 1 : Nat) : Int) n n
          obtain ⟨h14, h17, h16, h262, h267, h268, h60, h60b⟩ := H2
          have k267 : mi_dec ((sn : Int) - 1) 2 i ((i + 1 : Nat) : Int) n n h1 267 (sn - 1) = n := by rw [mi_dec_n _ _ _ _ _ _ _ _ _ (by omega) (by omega)]; exact e267
          have N3 := N2.both 267 (sn - 1) ((n : Int) + 1) rfl rfl rfl (N2.ok.upc (by decide))
          obtain ⟨e4, N4⟩ := mp_go (d + 2) L N3 (by omega)
          rw [if_pos hc, gx_b_inr, e2, p_xV, p_idx at_.2.1 at_.2.2, at_.1, p_idx at_.2.1 at_.2.2, at_.1, k267, p_w (x := (n : Int) + 1) (by omega) (by omega), e4, p_xV, s17, at_.1, H.2.2.2.2.1]
          refine hk _ _ N4 ⟨?_, ?_, ?_, ?_, ?_, ?_, ?_, ?_⟩
          · simp [p_up]; exact h14
          · simp [p_up]; exact h17
          · simp [p_up]; exact h16
          · simp [p_up]; exact h262
          · simp [p_up]
          · simp [p_up]; exact h268
          · rw [p_up_c _ _ _ _ _ (by decide)]; exact h60
          · rw [p_up_c _ _ _ _ _ (by decide)]; exact h60b
        · rw [if_neg hc]; exact fun z => absurd z (by decide)
      · obtain ⟨h2, e2, B2⟩ := mp_wrong (d + 1) L N1 2 (by decide) (i + 1) N1.iz
        obtain ⟨h3, e3, B3⟩ := mb_dec (d + 2) L B2 (by omega) ((sn : Int) - 1) 2 i (h2 254 10) (h2 267 (sn - 1)) (h2 267 (sn - 1))
        have B4 := B3.up 267 (sn - 1) (am_w (h3 267 (sn - 1) + 1)) rfl rfl
        rw [if_neg hn, if_neg (by omega), e2, p_xV, p_xV, p_idx at_.2.1 at_.2.2, at_.1, p_idx at_.2.1 at_.2.2, at_.1, e3, p_xV, p_idx at_.2.1 at_.2.2, at_.1, p_idx at_.2.1 at_.2.2, at_.1, mb_go (d + 2) L B4, p_xV, mb_wA d L _ _ B4]
        exact fun _ => ⟨_, rfl, B4.le (by omega)⟩
    · obtain ⟨h2, e2, B2⟩ := mp_syntax (d + 1) L N1
      rw [if_neg k2, if_neg (fun z => k2 (kq.2.1.mp z)), e2, p_xV]
      exact fun _ => ⟨h2, rfl, B2.le (by omega)⟩
/-- parameters, behind the ( or a comma -/
theorem mw_all (hsn : 1 ≤ sn) : ∀ (f i n : Nat) g h u3 ty, mp_N K V P Z g0 [] i deep st g h → mh cn sn vn fn n ln g → mo L (mw_E d L [some (am_r (am_a 254)), some (am_i ((sn : Int) - 1)), some (am_i 1), u3] h) g0 4920 (hw K V P (mi V) f i n (g, ty, so, [], [])) (mw_P K V P Z g0 L deep st cn sn vn fn ln so)
  | 0, i, n, g, h, u3, ty, N, H => by
    unfold hw
    exact mw_one d L hsn N H (fun g1 h1 N1 H1 => fun z => absurd z (by decide))
  | f + 1, i, n, g, h, u3, ty, N, H => by
    unfold hw
    refine mw_one d L hsn N H (fun g1 h1 N1 H1 => ?_)
    unfold mw_A
    rw [hw_pars, mp_isSign (d + 2) L N1, p_xI]
    by_cases s : gx_sg K V 44 (i + 2)
    · have n41 : ¬ gx_sg K V 41 (i + 2) := fun z => absurd (s.2.symm.trans z.2) (by decide)
      have hK : K (i + 2) ≠ 0 ∧ K (i + 2) ≠ 6 ∧ K (i + 2) ≠ 7 := ⟨by rw [s.1]; decide, by rw [s.1]; decide, by rw [s.1]; decide⟩
      obtain ⟨e2, N2⟩ := mp_go (d + 2) L N1 hK
      rw [if_neg n41, if_neg (c := n + 1 = 0) (by omega), hx_sign_t s, gx_b_inr, pB_t s, if_neg (by decide), e2, p_xV]
      exact mw_all hsn f _ _ _ _ _ _ N2 H1
    · rw [pB_f s, if_pos rfl]
      have t := mw_close (ty := (i : Int)) (so := so) d L ((sn : Int) - 1) (some (am_i i)) N1 H1
      unfold mw_E at t
      by_cases c : gx_sg K V 41 (i + 2)
      · rw [hx_sign_t c, gx_b_inr] at t
        rw [if_pos c]
        exact t
      · rw [hx_sign_f c] at t
        rw [if_neg c, if_neg (c := n + 1 = 0) (by omega), hx_sign_f s]
        exact t
/-- parameters() -/
theorem mq_pars {α : Type} {i G m2 : Nat} {g h : am_H} {k : am_H → Option am_O} {F : Nat × mi_S → gx_R α} {ok : α → Option am_O → Prop} (hsn : 1 ≤ sn) (N : mp_N K V P Z g0 [] i deep st g h) (H : mh cn sn vn fn 0 ln g) (hb : mb L g0 4920 m2 k) (hk : ∀ j g1 h1 n' ty', mp_N K V P Z g0 [] j deep st g1 h1 → mh cn sn vn fn n' ln g1 → mo L (k h1) g0 m2 (F (j, (g1, ty', so, [], []))) ok) :
    mo L (am_xV (zS L) (am_D (d + 4) 17 33 [am_r (am_a 254), am_i ((sn : Int) - 1)] (zS L, h)) (am_up1 (zS L)) k) g0 m2 (gx_b (hx_sign K V P 40 i) fun j3 => gx_b (hp_pars K V P (mi V) G j3 0 (g, ty, so, [], [])) F) ok := by
  have fin : ∀ (D : Option am_O) (r : gx_R (Nat × mi_S)), mo L D g0 4920 r (mw_P K V P Z g0 L deep st cn sn vn fn ln so) → mo L (am_xV (zS L) D (am_up1 (zS L)) k) g0 m2 (gx_b r F) ok := by
    intro D r hr
    refine mo_bV (Po := fun (a : Nat × mi_S) h' => mp_N K V P Z g0 [] a.1 deep st a.2.1 h' ∧ (∃ n', mh cn sn vn fn n' ln a.2.1) ∧ a.2.2.2 = (so, [], [])) hr hb ?_
    rintro ⟨j, g1, ty1, q1⟩ h1 - ⟨N1, ⟨n1, H1⟩, eq⟩
    have eq : q1 = (so, [], []) := eq
    subst eq
    exact hk j g1 h1 n1 ty1 N1 H1
  rw [D_17_33, p_xVV]
  have hb0 : mb L g0 4900 m2 (fun h1 => am_xV (zS L) (am_xI (zS L) (am_D (d + 3) 17 19 [am_r (am_a 254), am_i 41] (zS L, h1)) (am_up1 (zS L)) fun v3 h2 => if (v3 : Int) = 0 then am_E (am_D (d + 3)) m_17_33 (.inl 3) [some (am_r (am_a 254)), some (am_i ((sn : Int) - 1)), some (am_i 1), none] [] (zS L, h2) else am_E (am_D (d + 3)) m_17_33 (.inl 3) [some (am_r (am_a 254)), some (am_i ((sn : Int) - 1)), some (am_i 0), none] [] (zS L, h2)) (am_up1 (zS L)) k) := by
    intro e h1 B
    obtain ⟨w, e1, -⟩ := mb_isSign (d + 2) L B 41
    have e2 := fun x => mb_wend d L ((sn : Int) - 1) x none B
    unfold mw_E at e2
    show ∃ h', am_xV (zS L) (am_xI (zS L) (am_D (d + 3) 17 19 [am_r (am_a 254), am_i 41] (zS L, h1)) (am_up1 (zS L)) _) (am_up1 (zS L)) k = pV L h' ∧ _
    rw [e1, p_xI, e2, e2]
    have e3 : (if w = 0 then pV L h1 else pV L h1) = pV L h1 := by split <;> rfl
    rw [e3, p_xV]
    exact hb e h1 (B.le (by omega))
  refine mn_sign (m := 4900) d L N 40 (by omega) hb0 (fun h1 N1 => ?_)
  rw [mp_isSign (d + 2) L N1, p_xI]
  refine fin _ _ ?_
  cases G with
  | zero => exact fun z => absurd z (by decide)
  | succ f =>
    rw [hw_pars]
    by_cases c : gx_sg K V 41 (i + 1)
    · have t := mw_close (ty := ty) (so := so) d L ((sn : Int) - 1) none N1 H
      unfold mw_E at t
      rw [hx_sign_t c, gx_b_inr] at t
      rw [if_pos c, pB_t c, if_neg (by decide)]
      exact t
    · rw [if_neg c, if_pos rfl, gx_b_inr, pB_f c, if_pos rfl]
      have t := mw_all (so := so) d L hsn f (i + 1) 0 g h1 none ty N1 H
      unfold mw_E at t
      exact t
theorem mb_pars {m : Nat} {e : Int × Int} {h : am_H} (B : mp_B g0 m e h) (x1 : Int) : am_D (d + 4) 17 33 [am_r (am_a 254), am_i x1] (zS L, h) = pV L h := by
  obtain ⟨w, e1, -⟩ := mb_isSign (d + 2) L B 41
  have e2 := fun x => mb_wend d L x1 x none B
  unfold mw_E at e2
  rw [D_17_33, mb_needSign d L B, p_xV, e1, p_xI, e2, e2]
  split <;> rfl
end
