/-! PURE LAYER, 61: the model's sub -/
/-- locals, and what follows -/
noncomputable def mu_L (d L : Nat) (u1 u2 : Option am_V) (h : am_H) : Option am_O := am_E (am_D (d + 13)) m_17_34 (.inl 8) [some (am_r (am_a 254)), u1, u2] [] (zS L, h)
noncomputable def mu_9 (d L : Nat) (u1 u2 : Option am_V) (h : am_H) : Option am_O := am_E (am_D (d + 13)) m_17_34 (.inl 9) [some (am_r (am_a 254)), u1, u2] [] (zS L, h)
section
variable {K V P : Nat → Int} {Z : Nat} {g0 : am_H} {deep st : Nat} (d L : Nat) {ty so : Int} {cn sn vn : Nat} {fn pn ln : Int} {u1 u2 : Option am_V} {i : Nat} {g h : am_H} {G : Nat}
theorem mb_u9 (h17 : 1 ≤ g0 254 17 ∧ g0 254 17 ≤ 60) {m : Nat} : mb L g0 m m (mu_9 d L u1 u2) := by
  intro e h1 B
  have b1 := B.2.1
  have e17 : h1 254 17 = g0 254 17 := B.1 254 17 rfl rfl
  have B1 := (B.up 269 (g0 254 17 - 1).toNat (h1 254 33) rfl rfl).up 254 55 0 rfl rfl
  have t := ms_bad d L B1
  unfold ms_L at t
  unfold mu_9
  rw [q_17_34_9, e17, p_w (by omega) (by omega), p_idx (by omega) (by omega), D_17_36, t, p_xV, if_pos (by rw [B1.2.2.1]; exact b1)]
  exact ⟨_, rfl, B1⟩
theorem mb_uL (h17 : 1 ≤ g0 254 17 ∧ g0 254 17 ≤ 60) {m : Nat} : mb L g0 m m (mu_L d L u1 u2) := by
  intro e h1 B
  have b1 := B.2.1
  have t := mb_u9 (u1 := u1) (u2 := u2) d L h17 e h1 B
  unfold mu_9 at t
  unfold mu_L
  rw [q_17_34_8, if_neg (by rw [B.2.2.1]; omega)]
  exact t
/-- the last } of a sub -/
theorem ms_last (Q : mp_Q K V P Z g0 [] i (deep + 1) st g h) (hn : ¬ gx_stm K V i) : mo L (ms_L d L h) g0 4980 (hx_sign K V P 125 i) (fun j D => ∃ h1, D = pV L h1 ∧ (j = i + 1 ∧ mp_N K V P Z g0 [] (i + 1) deep st g h1)) := by
  by_cases hs : gx_sg K V 125 i
  · have t := mp_closeSign (d + 8) L Q.1 125
    rw [hx_sign_t hs] at t
    obtain ⟨h1, e1, -, N1, eh⟩ := t
    have l := Q.2.1
    simp at l
    rw [ms_end d L Q.1 hs, hx_sign_t hs, e1, p_xV, N1.eq 254 55 rfl rfl, l, if_pos rfl, q_17_36_1, if_pos rfl]
    exact ⟨h1, rfl, rfl, N1⟩
  · rw [hx_sign_f hs]
    intro _
    obtain ⟨h1, e1, B1⟩ := ms_syn d L Q.1 hs hn
    exact ⟨h1, e1, B1.le (by omega)⟩
theorem mi_48 (V : Nat → Int) (g : am_H) : mi V (48, 0, 0, 0) (g, ty, so, [], []) = .inr (am_up (am_up g 269 (g 254 17 - 1).toNat (g 254 33)) 254 55 0, ty, so, [], []) := rfl
theorem mi_49 (V : Nat → Int) (g : am_H) : mi V (49, 0, 0, 0) (g, ty, so, [], []) = gx_b (mi_add 0 0 0 0 g) fun g1 => gx_b (mi_add 18 1 0 0 g1) fun g2 => .inr (g2, ty, so, [], []) := by
  show mi_h _ (gx_b (mi_add 0 0 0 0 g) (mi_add 18 1 0 0)) = _
  unfold mi_h
  rw [gx_b_assoc]
/-- statements and the end -/
theorem mu_body (hG : G ≤ 900000) (hsn : 1 ≤ sn) (N : mp_N K V P Z g0 [] i 2 st g h) (H : mh cn sn vn fn pn ln g) : mo L (mu_9 d L u1 u2 h) g0 4990 (gx_b (mi V (48, 0, 0, 0) (g, ty, so, [], [])) fun s3 => gx_b (hs K V P (mi V) G G 0 2 st i s3) fun r4 => gx_b (hx_sign K V P 125 r4.1) fun j5 => gx_b (mi V (49, 0, 0, 0) r4.2.2) fun s4 => .inr (j5, r4.2.1, s4)) (fun a D => ∃ h', D = pV L h' ∧ (mp_N K V P Z g0 [] a.1 1 a.2.1 a.2.2.1 h' ∧ mh cn sn vn fn pn ln a.2.2.1 ∧ a.2.2.2 = (ty, so, [], []))) := by
  have s17 := H.2.1
  have o17 := N.ok.2.2.1
  rw [mi_48, gx_b_inr]
  have N1 := N.both 269 (g 254 17 - 1).toNat (g 254 33) rfl rfl rfl (N.ok.upc (by decide))
  have N2 := N1.both 254 55 0 rfl rfl rfl (N1.ok.f (by omega))
  have H2 : mh cn sn vn fn pn ln (am_up (am_up g 269 (g 254 17 - 1).toNat (g 254 33)) 254 55 0) := H.same (fun a ha => by rw [p_up_c _ _ _ _ _ (by omega), p_up_c _ _ _ _ _ (by omega)]) (fun k hk => by rw [p_up_n _ _ _ _ _ _ (Or.inr (by omega)), p_up_c _ _ _ _ _ (by decide)])
  have Q2 : mp_Q K V P Z g0 [] i 2 st (am_up (am_up g 269 (g 254 17 - 1).toNat (g 254 33)) 254 55 0) (am_up (am_up h 269 (g 254 17 - 1).toNat (g 254 33)) 254 55 0) := ⟨N2, by rw [p_up_s]; rfl, trivial, by decide⟩
  have as_ : ∀ s3 : mi_S, (gx_b (hs K V P (mi V) G G 0 2 st i s3) fun r4 => gx_b (hx_sign K V P 125 r4.1) fun j5 => gx_b (mi V (49, 0, 0, 0) r4.2.2) fun s4 => (.inr (j5, r4.2.1, s4) : gx_R (Nat × Nat × mi_S))) = gx_b (gx_b (hs K V P (mi V) G G 0 2 st i s3) fun r4 => gx_b (hx_sign K V P 125 r4.1) fun j5 => .inr (j5, r4.2)) fun r => gx_b (mi V (49, 0, 0, 0) r.2.2) fun s4 => .inr (r.1, r.2.1, s4) := by
    intro s3
    simp only [gx_b_assoc, gx_b_inr]
  have main : mo L (ms_L d L (am_up (am_up h 269 (g 254 17 - 1).toNat (g 254 33)) 254 55 0)) g0 4980 (gx_b (hs K V P (mi V) G G 0 2 st i (am_up (am_up g 269 (g 254 17 - 1).toNat (g 254 33)) 254 55 0, ty, so, [], [])) fun r4 => gx_b (hx_sign K V P 125 r4.1) fun j5 => (.inr (j5, r4.2) : gx_R (Nat × Nat × mi_S))) (fun a D => ∃ h', D = pV L h' ∧ (mp_N K V P Z g0 [] a.1 1 a.2.1 a.2.2.1 h' ∧ mh cn sn vn fn pn ln a.2.2.1 ∧ a.2.2.2 = (ty, so, [], []))) := by
    refine mo_bD ((ms_all d L hG G).1 [] 2 st i _ _ ty so Q2) ?_
    rintro ⟨a1, a2, ⟨g3, q3⟩⟩ ea ⟨h3, e3, Q3, eq3, no3⟩
    have eq3 : q3 = (ty, so, [], []) := eq3
    subst eq3
    have H3 : mh cn sn vn fn pn ln g3 := H2.fs (mi_fs_s _ _ _ _ _ _ _ _ ea)
    rw [e3]
    refine mo_bD (ms_last d L Q3 (no3 rfl)) ?_
    rintro j5 - ⟨h5, e5, rfl, N5⟩
    exact ⟨h5, e5, N5, H3, rfl⟩
  rw [as_]
  unfold mu_9
  rw [q_17_34_9, N.eq 254 17 rfl rfl, N.eq 254 33 rfl rfl, p_w (by omega) (by omega), p_idx (by omega) (by omega), D_17_36]
  refine mo_bV main ?_ ?_
  · intro e h1 B
    have b1 := B.2.1
    show ∃ h', (if (0 : Int) < h1 254 11 then _ else _) = pV L h' ∧ _
    rw [if_pos (by rw [B.2.2.1]; exact b1)]
    exact ⟨h1, rfl, B.le (by omega)⟩
  · rintro ⟨a1, a2, ⟨g3, q3⟩⟩ h3 - ⟨N3, H3, eq3⟩
    have eq3 : q3 = (ty, so, [], []) := eq3
    subst eq3
    have N3 : mp_N K V P Z g0 [] a1 1 a2 g3 h3 := N3
    have lt := N3.lt
    rw [N3.fa, if_neg (by decide), N3.nx]
    show mo L _ g0 4990 (gx_b (mi V (49, 0, 0, 0) (g3, ty, so, [], [])) fun s4 => .inr (a1, a2, s4)) _
    rw [mi_49, gx_b_assoc]
    refine mn_add0 (d + 12) L N3 0 0 0 0 a1 (by unfold mp_rel; omega) (by omega) (fun h4 N4 _ => ?_)
    rw [gx_b_assoc, N4.nx]
    refine mn_add0 (d + 12) L N4 18 1 0 0 a1 (by unfold mp_rel; omega) (by omega) (fun h5 N5 _ => ?_)
    exact ⟨h5, rfl, N5, (H3.fs (mi_fs_put _ _ _ _ _)).fs (mi_fs_put _ _ _ _ _), rfl⟩
/-- locals -/
theorem mu_all {α : Type} {F : Nat × mi_S → gx_R α} {ok : α → Option am_O → Prop} (hsn : 1 ≤ sn) (h17 : 1 ≤ g0 254 17 ∧ g0 254 17 ≤ 60)
    (hk : ∀ j g1 h1 ty' n', mp_N K V P Z g0 [] j 2 st g1 h1 → mh cn sn vn fn pn n' g1 → mo L (mu_9 d L u1 u2 h1) g0 4990 (F (j, (g1, ty', so, [], []))) ok) :
    ∀ (f i n : Nat) g h ty, mp_N K V P Z g0 [] i 2 st g h → mh cn sn vn fn pn n g → mo L (mu_L d L u1 u2 h) g0 4990 (gx_b (hp_locs K V P (mi V) G f i n (g, ty, so, [], [])) F) ok
  | 0, _, _, _, _, _, _, _ => fun z => absurd z (by decide)
  | f + 1, i, n, g, h, ty, N, H => by
    have s17 := H.2.1
    have o17 := N.ok.2.2.1
    unfold hp_locs
    conv => arg 2; unfold mu_L
    rw [q_17_34_8, N.fa, if_pos rfl, mp_isWord (d + 12) L N, p_xI]
    by_cases w : gx_wd K V 6 i
    · rw [if_pos w, if_neg (by rw [pB_t w]; decide), N.eq 254 17 rfl rfl, s17, p_w (by omega) (by omega), gx_b_assoc]
      show mo L _ g0 4990 (gx_b (gx_b (hx_type K V P (mi V) (i + 1) (g, ty, so, [], [])) fun r => gx_b (hp_varn K V P (mi V) G r.1 n r.2) fun r2 => hp_locs K V P (mi V) G f r2.1 r2.2.1 r2.2.2) F) ok
      rw [gx_b_assoc]
      simp only [gx_b_assoc]
      refine mq_declares (f := fun j s => hp_varn K V P (mi V) G j n s) (Po := fun a h' => mp_N K V P Z g0 [] a.1 2 st a.2.2.1 h' ∧ mh cn sn vn fn pn a.2.1 a.2.2.1 ∧ a.2.2.2 = (((i + 1 : Nat) : Int), so, [], [])) (d + 9) L N w.1 ((mb_uL (u1 := u1) (u2 := u2) d L h17).le (m1 := 4990) (by omega)) (fun h1 N1 => mv_loc (d + 9) L G (i + 2) n g h1 none none hsn N1 H) ?_
      rintro ⟨a1, a2, ⟨g3, q3⟩⟩ h3 ⟨N3, H3, eq3⟩
      have eq3 : q3 = (((i + 1 : Nat) : Int), so, [], []) := eq3
      subst eq3
      exact mu_all hsn h17 hk f a1 a2 g3 h3 _ N3 H3
    · rw [if_neg w, if_pos (by rw [pB_f w]), gx_b_inr]
      exact hk _ _ _ _ _ N H
end
