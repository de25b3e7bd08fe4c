/-! PURE LAYER, 59: the model's statics, fields, locals -/
section
variable {K V P : Nat → Int} {Z : Nat} {g0 : am_H} {deep st : Nat} (d L : Nat) {ty so : Int} {cn sn vn : Nat} {fn pn ln : Int}
theorem mi_42t (V : Nat → Int) (i : Int) (g : am_H) : mi V (42, i, 1, 0) (g, ty, so, [], []) = ce_q (g 254 25 < 1090) (.inr (am_up (mi_dec (-1) 1 ty i (g 262 (g 254 14 - 1).toNat) (g 262 (g 254 14 - 1).toNat) g) 262 (g 254 14 - 1).toNat (g 262 (g 254 14 - 1).toNat + 1), ty, so, [], [])) := rfl
theorem mi_42f (V : Nat → Int) (i : Int) (g : am_H) : mi V (42, i, 0, 0) (g, ty, so, [], []) = ce_q (g 254 25 < 1090) (.inr (am_up (am_up (mi_dec (-1) 0 ty i (g 254 60) (g 254 16) g) 254 16 (g 254 16 + 1)) 254 60 (g 254 60 + 1), ty, so, [], [])) := rfl
theorem mi_50 (V : Nat → Int) (i : Int) (g : am_H) : mi V (50, i, 0, 0) (g, ty, so, [], []) = ce_q (g 254 25 < 1090) (.inr (am_up (mi_dec (g 254 17 - 1) 3 ty i (g 268 (g 254 17 - 1).toNat) (g 268 (g 254 17 - 1).toNat) g) 268 (g 254 17 - 1).toNat (g 268 (g 254 17 - 1).toNat + 1), ty, so, [], [])) := rfl
/-- statics -/
theorem mv_stat (f i n : Nat) (g h : am_H) (u5 u6 : Option am_V) (hcn : 1 ≤ cn) (N : mp_N K V P Z g0 [] i deep st g h) (H : mh cn sn n fn pn ln g) : mo L (mv_E d L 1 [some (am_r (am_a 254)), some (am_i (-1)), some (am_i 0), some (am_i ty), some (am_i 1), u5, u6] [] h) g0 4910 (hp_decl K V P (mi V) false f i n (g, ty, so, [], [])) (fun a D => ∃ h', D = pV L h' ∧ (mp_N K V P Z g0 [] a.1 deep st a.2.2.1 h' ∧ mh cn sn a.2.1 fn pn ln a.2.2.1 ∧ a.2.2.2 = (ty, so, [], []))) := by
  rw [hv_decl]
  refine mv_all d L (-1) 0 _ (fun n g => mh cn sn n fn pn ln g) ?_ ?_ ?_ f i n g h u5 u6 N H
  · intro n i g h x4 u6 N H
    rw [if_pos rfl, N.eq 254 16 rfl rfl, H.2.2.1]
  · intro i g hc
    show mi V (42, (i : Int), 0, 0) (g, ty, so, [], []) = _
    rw [mi_42f]; unfold ce_q; rw [if_neg hc]
  · intro n i g h u4 N H hn hc
    obtain ⟨e1, N1⟩ := mq_dec (d + 2) L N hc (-1) 0 ty i (g 254 60) n
    have o1 := N1.ok
    have H1 := H.dec (-1) 0 ty i (g 254 60) n
    obtain ⟨h14, h17, h16, h262, h267, h268, h60, h60b⟩ := H1
    have h60b := h60b hcn
    have g60 : mi_dec (-1) 0 ty i (g 254 60) n g 254 60 = g 254 60 := mi_dec_n _ _ _ _ _ _ _ _ _ (by omega) (by omega)
    have n2 := N1.both 254 16 ((n : Int) + 1) rfl rfl rfl (by
      unfold mp_ok at *
      rw [p_up_s, p_up_n _ _ _ _ _ 33 (Or.inr (by omega)), p_up_n _ _ _ _ _ 39 (Or.inr (by omega)), p_up_n _ _ _ _ _ 17 (Or.inr (by omega)), p_up_n _ _ _ _ _ 14 (Or.inr (by omega)), p_up_n _ _ _ _ _ 25 (Or.inr (by omega))]
      exact ⟨o1.1, o1.2.1, o1.2.2.1, o1.2.2.2.1, o1.2.2.2.2.1, o1.2.2.2.2.2.1, by omega, o1.2.2.2.2.2.2.2⟩)
    have o2 := n2.ok
    have n3 := n2.both 254 60 (g 254 60 + 1) rfl rfl rfl (o2.f (by decide))
    have k16 : mi_dec (-1) 0 ty i (g 254 60) n h 254 16 = n := by rw [mi_dec_n _ _ _ _ _ _ _ _ _ (by omega) (by omega), N.eq 254 16 rfl rfl]; exact H.2.2.1
    have k60 : mi_dec (-1) 0 ty i (g 254 60) n h 254 60 = g 254 60 := by rw [mi_dec_n _ _ _ _ _ _ _ _ _ (by omega) (by omega), N.eq 254 60 rfl rfl]
    refine ⟨am_up (am_up (mi_dec (-1) 0 ty i (g 254 60) n g) 254 16 ((n : Int) + 1)) 254 60 (g 254 60 + 1), _, u4, some (am_i i), some (am_i n), ?_, ?_, n3, ?_⟩
    · show mi V (42, (i : Int), 0, 0) (g, ty, so, [], []) = _
      rw [mi_42f]; unfold ce_q; rw [if_pos hc, H.2.2.1]
    · rw [if_pos rfl]
      unfold mv_E
      rw [q_17_32_8, N.eq 254 60 rfl rfl, e1, p_xV, if_pos rfl, k16, k60, p_w (x := (n : Int) + 1) (by omega) (by omega), p_w (x := g 254 60 + 1) (by omega) (by omega), q_17_32_9, if_neg (by decide), if_neg (by decide)]
    · refine ⟨?_, ?_, ?_, ?_, ?_, ?_, ?_, ?_⟩
      · simp [p_up]; exact h14
      · simp [p_up]; exact h17
      · simp [p_up]
      · simp [p_up]; exact h262
      · simp [p_up]; exact h267
      · simp [p_up]; exact h268
      · simp [p_up]; omega
      · intro _; simp [p_up]; omega
/-- fields -/
theorem mv_field (f i n : Nat) (g h : am_H) (u5 u6 : Option am_V) (hcn : 1 ≤ cn) (N : mp_N K V P Z g0 [] i deep st g h) (H : mh cn sn vn n pn ln g) : mo L (mv_E d L 1 [some (am_r (am_a 254)), some (am_i (-1)), some (am_i 1), some (am_i ty), some (am_i 1), u5, u6] [] h) g0 4910 (hp_decl K V P (mi V) true f i n (g, ty, so, [], [])) (fun a D => ∃ h', D = pV L h' ∧ (mp_N K V P Z g0 [] a.1 deep st a.2.2.1 h' ∧ mh cn sn vn a.2.1 pn ln a.2.2.1 ∧ a.2.2.2 = (ty, so, [], []))) := by
  rw [hv_decl]
  have at_ : ∀ {g : am_H} {n : Nat}, mh cn sn vn n pn ln g → (g 254 14 - 1).toNat = cn - 1 ∧ 0 ≤ g 254 14 - 1 := fun H => ⟨by rw [H.1]; omega, by rw [H.1]; omega⟩
  refine mv_all d L (-1) 1 _ (fun n g => mh cn sn vn n pn ln g) ?_ ?_ ?_ f i n g h u5 u6 N H
  · intro n i g h x4 u6 N H
    have o := N.ok.2.2.2.1
    have a := at_ H
    rw [if_neg (by decide), if_pos rfl, N.eq 254 14 rfl rfl, p_w (by omega) (by omega), p_idx a.2 (by omega), a.1, N.eq 262 _ rfl (by simp [mp_F]), H.2.2.2.1]
  · intro i g hc
    show mi V (42, (i : Int), 1, 0) (g, ty, so, [], []) = _
    rw [mi_42t]; unfold ce_q; rw [if_neg hc]
  · intro n i g h u4 N H hn hc
    obtain ⟨e1, N1⟩ := mq_dec (d + 2) L N hc (-1) 1 ty i n n
    have o := N.ok.2.2.2.1
    have a := at_ H
    have H1 := H.dec (-1) 1 ty i n n
    obtain ⟨h14, h17, h16, h262, h267, h268, h60, h60b⟩ := H1
    have n2 := N1.both 262 (cn - 1) ((n : Int) + 1) rfl rfl rfl (N1.ok.upc (by decide))
    have k14 : mi_dec (-1) 1 ty i n n h 254 14 = g 254 14 := by rw [mi_dec_n _ _ _ _ _ _ _ _ _ (by omega) (by omega), N.eq 254 14 rfl rfl]
    refine ⟨am_up (mi_dec (-1) 1 ty i n n g) 262 (cn - 1) ((n : Int) + 1), _, u4, some (am_i i), some (am_i n), ?_, ?_, n2, ?_⟩
    · show mi V (42, (i : Int), 1, 0) (g, ty, so, [], []) = _
      rw [mi_42t]; unfold ce_q; rw [if_pos hc, a.1, H.2.2.2.1]
    · rw [if_neg (by decide)]
      unfold mv_E
      rw [q_17_32_8, e1, p_xV, if_neg (by decide), q_17_32_9, if_pos rfl, k14, p_w (x := g 254 14 - 1) (by omega) (by omega), p_idx a.2 (by omega), a.1, if_neg (by decide), p_w (x := (n : Int) + 1) (by omega) (by omega)]
    · refine ⟨?_, ?_, ?_, ?_, ?_, ?_, ?_, ?_⟩
      · simp [p_up]; exact h14
      · simp [p_up]; exact h17
      · simp [p_up]; exact h16
      · simp [p_up]
      · simp [p_up]; exact h267
      · simp [p_up]; exact h268
      · simp [p_up]; omega
      · intro z; have := h60b z; simp [p_up]; omega
/-- locals -/
theorem mv_loc (f i n : Nat) (g h : am_H) (u5 u6 : Option am_V) (hsn : 1 ≤ sn) (N : mp_N K V P Z g0 [] i deep st g h) (H : mh cn sn vn fn pn n g) : mo L (mv_E d L 1 [some (am_r (am_a 254)), some (am_i ((sn : Int) - 1)), some (am_i 3), some (am_i ty), some (am_i 1), u5, u6] [] h) g0 4910 (hp_varn K V P (mi V) f i n (g, ty, so, [], [])) (fun a D => ∃ h', D = pV L h' ∧ (mp_N K V P Z g0 [] a.1 deep st a.2.2.1 h' ∧ mh cn sn vn fn pn a.2.1 a.2.2.1 ∧ a.2.2.2 = (ty, so, [], []))) := by
  rw [hv_varn]
  have s17 := H.2.1
  have o17 := N.ok.2.2.1
  have at_ : ((sn : Int) - 1).toNat = sn - 1 ∧ 0 ≤ (sn : Int) - 1 ∧ (sn : Int) - 1 < 61 := ⟨by omega, by omega, by omega⟩
  refine mv_all d L ((sn : Int) - 1) 3 _ (fun n g => mh cn sn vn fn pn n g) ?_ ?_ ?_ f i n g h u5 u6 N H
  · intro n i g h x4 u6 N H
    rw [if_neg (by decide), if_neg (by decide), p_idx at_.2.1 at_.2.2, at_.1, N.eq 268 _ rfl (by simp [mp_F]), H.2.2.2.2.2.1]
  · intro i g hc
    show mi V (50, (i : Int), 0, 0) (g, ty, so, [], []) = _
    rw [mi_50]; unfold ce_q; rw [if_neg hc]
  · intro n i g h u4 N H hn hc
    obtain ⟨e1, N1⟩ := mq_dec (d + 2) L N hc ((sn : Int) - 1) 3 ty i n n
    have H1 := H.dec ((sn : Int) - 1) 3 ty i n n
    obtain ⟨h14, h17, h16, h262, h267, h268, h60, h60b⟩ := H1
    have n2 := N1.both 268 (sn - 1) ((n : Int) + 1) rfl rfl rfl (N1.ok.upc (by decide))
    refine ⟨am_up (mi_dec ((sn : Int) - 1) 3 ty i n n g) 268 (sn - 1) ((n : Int) + 1), _, u4, some (am_i i), some (am_i n), ?_, ?_, n2, ?_⟩
    · show mi V (50, (i : Int), 0, 0) (g, ty, so, [], []) = _
      rw [mi_50]; unfold ce_q; rw [if_pos hc, H.2.1, at_.1, H.2.2.2.2.2.1]
    · rw [if_neg (by decide)]
      unfold mv_E
      rw [q_17_32_8, e1, p_xV, if_neg (by decide), q_17_32_9, if_neg (by decide), if_pos rfl, p_idx at_.2.1 at_.2.2, at_.1, p_w (x := (n : Int) + 1) (by omega) (by omega)]
    · refine ⟨?_, ?_, ?_, ?_, ?_, ?_, ?_, ?_⟩
      · simp [p_up]; exact h14
      · simp [p_up]; exact h17
      · simp [p_up]; exact h16
      · simp [p_up]; exact h262
      · simp [p_up]; exact h267
      · simp [p_up]
      · simp [p_up]; omega
      · intro z; have := h60b z; simp [p_up]; omega
/-- declares(): behind the word, for whatever is declared -/
theorem mq_declares {α : Type} {i : Nat} {g h : am_H} {m2 : Nat} {x1 x2 : Int} {k : am_H → Option am_O} {f : Nat → mi_S → gx_R (Nat × Nat × mi_S)} {Po : Nat × Nat × mi_S → am_H → Prop} {F : Nat × Nat × mi_S → gx_R α} {ok : α → Option am_O → Prop} (N : mp_N K V P Z g0 [] i deep st g h) (hK : K i = 1) (hb : mb L g0 4910 m2 k)
    (hX : ∀ h1, mp_N K V P Z g0 [] (i + 2) deep st g h1 → mo L (mv_E d L 1 [some (am_r (am_a 254)), some (am_i x1), some (am_i x2), some (am_i ((i + 1 : Nat) : Int)), some (am_i 1), none, none] [] h1) g0 4910 (f (i + 2) (g, ((i + 1 : Nat) : Int), so, [], [])) (fun a D => ∃ h', D = pV L h' ∧ Po a h'))
    (hk : ∀ a h1, Po a h1 → mo L (k h1) g0 m2 (F a) ok) :
    mo L (am_xV (zS L) (am_D (d + 4) 17 32 [am_r (am_a 254), am_i x1, am_i x2] (zS L, h)) (am_up1 (zS L)) k) g0 m2 (gx_b (hx_type K V P (mi V) (i + 1) (g, ty, so, [], [])) fun r => gx_b (f r.1 r.2) F) ok := by
  obtain ⟨e1, N1⟩ := mp_go (d + 2) L N (by omega)
  have bd : mb L g0 4900 4910 (fun h2 => am_D (d + 3) 17 22 [am_r (am_a 254), am_i 59] (zS L, h2)) := (mbk_sign (m := 4910) d L 59).le (by omega)
  have hb1 : ∀ v : Int, mb L g0 4900 4910 (mv_E d L 1 [some (am_r (am_a 254)), some (am_i x1), some (am_i x2), some (am_i v), some (am_i 1), none, none] []) := by
    intro v e h1 B1
    unfold mv_E
    have b1 := B1.2.1
    rw [q_17_32_1, if_neg (by decide), if_neg (by rw [B1.2.2.1]; omega), mb_needSign d L B1, p_xV]
    exact ⟨h1, rfl, B1.le (by omega)⟩
  rw [D_17_32, e1, p_xV, p_xVI]
  refine mn_type d L N1 (fun v => mb_V (hb1 v) hb) (fun h2 N2 => ?_)
  exact mo_bV (hX h2 N2) hb (fun a h3 _ p => hk a h3 p)
theorem mb_declares {h : am_H} {m : Nat} {e : Int × Int} (B : mp_B g0 m e h) (x1 x2 : Int) : am_D (d + 4) 17 32 [am_r (am_a 254), am_i x1, am_i x2] (zS L, h) = pV L h := by
  obtain ⟨v, e1⟩ := mb_type d L B
  have b1 := B.2.1
  rw [D_17_32, mb_go (d + 2) L B, p_xV, e1, p_xI, q_17_32_1, if_neg (by decide), if_neg (by rw [B.2.2.1]; omega), mb_needSign d L B, p_xV]
end
