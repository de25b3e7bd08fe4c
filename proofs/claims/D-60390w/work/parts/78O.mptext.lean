/-! PURE LAYER, 63: the model's classes, the whole text -/
noncomputable def mT_1 (d L : Nat) (h : am_H) : Option am_O := am_E (am_D (d + 14)) m_17_51 (.inl 1) [some (am_r (am_a 254))] [] (zS L, h)
noncomputable def mT_3 (d L : Nat) (h : am_H) : Option am_O := am_E (am_D (d + 14)) m_17_51 (.inl 3) [some (am_r (am_a 254))] [] (zS L, h)
noncomputable def mT_5 (d L : Nat) (h : am_H) : Option am_O := am_E (am_D (d + 14)) m_17_51 (.inl 5) [some (am_r (am_a 254))] [] (zS L, h)
noncomputable def mT_9 (d L : Nat) (h : am_H) : Option am_O := am_E (am_D (d + 14)) m_17_51 (.inl 9) [some (am_r (am_a 254))] [] (zS L, h)
noncomputable def mT_c (d L : Nat) (h : am_H) : Option am_O := am_xV (zS L) (am_D (d + 14) 17 28 [am_r (am_a 254), am_i 125] (zS L, h)) (am_up1 (zS L)) (mT_1 d L)
theorem mO_fr {α : Type} {L : Nat} {D : Option am_O} {G0 gb : am_H} {m : Nat} {r : gx_R α} {ok : α → Option am_O → Prop} (f : p_fr mp_C2 mp_F3 G0 gb) (h : mO L D gb m r ok) : mO L D G0 m r ok := by
  cases r with
  | inl e => intro z; obtain ⟨g1, h', e1, f1, B⟩ := h z; exact ⟨g1, h', e1, f.trans f1, B⟩
  | inr a => exact h
theorem mO_le {α : Type} {L : Nat} {D : Option am_O} {G0 : am_H} {m m2 : Nat} {r : gx_R α} {ok : α → Option am_O → Prop} (h : mO L D G0 m r ok) (hm : m ≤ m2) : mO L D G0 m2 r ok := by
  cases r with
  | inl e => intro z; obtain ⟨g1, h', e1, f1, B⟩ := h z; exact ⟨g1, h', e1, f1, B.le hm⟩
  | inr a => exact h
section
variable {K V P : Nat → Int} {Z : Nat} {g0 : am_H} {deep st : Nat} (d L : Nat) {ty so : Int} {cn sn vn : Nat} {fn pn ln : Int} {i : Nat} {g h : am_H} {G : Nat}
theorem mb_T1 {m : Nat} : mb L g0 m m (mT_1 d L) := by
  intro e h1 B
  have b1 := B.2.1
  unfold mT_1
  rw [q_17_51_1, if_neg (by rw [B.2.2.1]; omega)]
  exact ⟨h1, rfl, B⟩
theorem mb_Tc {m : Nat} (hm : m ≤ 4998) : mb L g0 m (m + 1) (mT_c d L) := mb_V (mbk_close (d + 10) L (by omega) 125) (mb_T1 d L)
theorem mb_T9 {m : Nat} (hm : m ≤ 4998) : mb L g0 m (m + 1) (mT_9 d L) := by
  intro e h1 B
  have b1 := B.2.1
  have t := mb_Tc (d := d) (L := L) hm e h1 B
  unfold mT_c mT_1 at t
  unfold mT_9
  rw [q_17_51_9, if_neg (by rw [B.2.2.1]; omega)]
  exact t
theorem mb_T5 {m : Nat} (hm : m ≤ 4998) : mb L g0 m (m + 1) (mT_5 d L) := by
  intro e h1 B
  have b1 := B.2.1
  have t := mb_T9 (d := d) (L := L) hm e h1 B
  unfold mT_9 at t
  unfold mT_5
  rw [q_17_51_5, if_neg (by rw [B.2.2.1]; omega)]
  exact t
/-- statics and fields -/
theorem mT_vars (hcn : 1 ≤ cn) : ∀ (f i vn fn : Nat) g h ty, mp_N K V P Z g0 [] i 1 st g h → mh cn sn vn fn pn ln g → mo L (mT_5 d L h) g0 4990 (hp_vars K V P (mi V) G f i vn fn (g, ty, so, [], [])) (fun a D => ∃ h1, D = mT_9 d L h1 ∧ mp_N K V P Z g0 [] a.1 1 st a.2.2.2.1 h1 ∧ mh cn sn a.2.1 a.2.2.1 pn ln a.2.2.2.1 ∧ ∃ ty', a.2.2.2.2 = (ty', so, [], []))
  | 0, _, _, _, _, _, _, _, _ => fun z => absurd z (by decide)
  | f + 1, i, vn, fn, g, h, ty, N, H => by
    unfold hp_vars
    conv => arg 2; unfold mT_5
    rw [q_17_51_5, N.fa, if_pos rfl, mp_isWord (d + 13) L N, p_xI]
    by_cases w5 : gx_wd K V 5 i
    · rw [if_pos w5, if_neg (by rw [pB_t w5]; decide), q_17_51_6, mp_isWord (d + 13) L N, p_xI, if_neg (by rw [pB_t w5]; decide)]
      show mo L _ g0 4990 (gx_b (hx_type K V P (mi V) (i + 1) (g, ty, so, [], [])) fun r => gx_b (hp_decl K V P (mi V) false G r.1 vn r.2) fun r2 => hp_vars K V P (mi V) G f r2.1 r2.2.1 fn r2.2.2) _
      refine mq_declares (f := fun j s => hp_decl K V P (mi V) false G j vn s) (Po := fun a h' => mp_N K V P Z g0 [] a.1 1 st a.2.2.1 h' ∧ mh cn sn a.2.1 fn pn ln a.2.2.1 ∧ a.2.2.2 = (((i + 1 : Nat) : Int), so, [], [])) (d + 10) L N w5.1 (fun e h1 B => (mb_T5 (m := 4989) d L (by omega)) e h1 (B.le (by omega))) (fun h1 N1 => mv_stat (d + 10) L G (i + 2) vn g h1 none none hcn N1 H) ?_
      rintro ⟨a1, a2, ⟨g3, q3⟩⟩ h3 ⟨N3, H3, eq3⟩
      have eq3 : q3 = (((i + 1 : Nat) : Int), so, [], []) := eq3
      subst eq3
      exact mT_vars hcn f a1 a2 fn g3 h3 _ N3 H3
    · rw [if_neg w5, if_pos (by rw [pB_f w5]), mp_isWord (d + 13) L N, p_xI]
      by_cases w4 : gx_wd K V 4 i
      · rw [if_pos w4, if_neg (by rw [pB_t w4]; decide), q_17_51_6, mp_isWord (d + 13) L N, p_xI, if_pos (by rw [pB_f w5])]
        show mo L _ g0 4990 (gx_b (hx_type K V P (mi V) (i + 1) (g, ty, so, [], [])) fun r => gx_b (hp_decl K V P (mi V) true G r.1 fn r.2) fun r2 => hp_vars K V P (mi V) G f r2.1 vn r2.2.1 r2.2.2) _
        refine mq_declares (f := fun j s => hp_decl K V P (mi V) true G j fn s) (Po := fun a h' => mp_N K V P Z g0 [] a.1 1 st a.2.2.1 h' ∧ mh cn sn vn a.2.1 pn ln a.2.2.1 ∧ a.2.2.2 = (((i + 1 : Nat) : Int), so, [], [])) (d + 10) L N w4.1 (fun e h1 B => (mb_T5 (m := 4989) d L (by omega)) e h1 (B.le (by omega))) (fun h1 N1 => mv_field (d + 10) L G (i + 2) fn g h1 none none hcn N1 H) ?_
        rintro ⟨a1, a2, ⟨g3, q3⟩⟩ h3 ⟨N3, H3, eq3⟩
        have eq3 : q3 = (((i + 1 : Nat) : Int), so, [], []) := eq3
        subst eq3
        exact mT_vars hcn f a1 vn a2 g3 h3 _ N3 H3
      · rw [if_neg w4, if_pos (by rw [pB_f w4])]
        exact ⟨h, rfl, N, H, ty, rfl⟩
/-- subs -/
theorem mT_subs (hG : G ≤ 900000) {G0 : am_H} : ∀ (f st i sn : Nat) g0 g h ty so pn ln, mp_N K V P Z g0 [] i 1 st g h → p_fr mp_C2 mp_F3 G0 g → mh cn sn vn fn pn ln g → mO L (mT_9 d L h) G0 4991 (hp_subs K V P (mi V) G f st i sn (g, ty, so, [], [])) (fun a D => ∃ h1, D = mT_c d L h1 ∧ ∃ gb pn' ln' ty' so', mp_N K V P Z gb [] a.1 1 a.2.1 a.2.2.2.1 h1 ∧ p_fr mp_C2 mp_F3 G0 a.2.2.2.1 ∧ mh cn a.2.2.1 vn fn pn' ln' a.2.2.2.1 ∧ a.2.2.2.2 = (ty', so', [], []))
  | 0, _, _, _, _, _, _, _, _, _, _, _, _, _ => fun z => absurd z (by decide)
  | f + 1, st, i, sn, g0, g, h, ty, so, pn, ln, N, fr, H => by
    unfold hp_subs
    conv => arg 2; unfold mT_9
    -- a sub
    have go : K i = 1 → mO L (am_xV (zS L) (am_D (d + 14) 17 34 [am_r (am_a 254)] (zS L, h)) (am_up1 (zS L)) (mT_9 d L)) G0 4991 (gx_b (hp_sub K V P (mi V) G st i sn (g, ty, so, [], [])) fun r => hp_subs K V P (mi V) G f r.2.1 r.1 (sn + 1) r.2.2) (fun a D => ∃ h1, D = mT_c d L h1 ∧ ∃ gb pn' ln' ty' so', mp_N K V P Z gb [] a.1 1 a.2.1 a.2.2.2.1 h1 ∧ p_fr mp_C2 mp_F3 G0 a.2.2.2.1 ∧ mh cn a.2.2.1 vn fn pn' ln' a.2.2.2.1 ∧ a.2.2.2.2 = (ty', so', [], [])) := by
      intro hK
      refine mO_bO (Po := fun a h' => ∃ gb pn' ln' ty' so', mp_N K V P Z gb [] a.1 1 a.2.1 a.2.2.1 h' ∧ p_fr mp_C2 mp_F3 g a.2.2.1 ∧ mh cn (sn + 1) vn fn pn' ln' a.2.2.1 ∧ a.2.2.2 = (ty', so', [], [])) (mO_fr fr (mq_sub d L hG N H hK)) (fun gb => mb_T9 (m := 4990) d L (by omega)) ?_
      rintro ⟨a1, a2, ⟨g3, q3⟩⟩ h3 - ⟨gb, pn', ln', ty', so', N3, fr3, H3, eq3⟩
      have eq3 : q3 = (ty', so', [], []) := eq3
      subst eq3
      exact mT_subs hG f a2 a1 (sn + 1) gb g3 h3 ty' so' pn' ln' N3 (fr.trans fr3) H3
    rw [q_17_51_9, N.fa, if_pos rfl, mp_isWord (d + 13) L N, p_xI]
    by_cases w1 : gx_wd K V 1 i
    · rw [if_pos (Or.inl w1), if_neg (by rw [pB_t w1]; decide)]
      exact go w1.1
    · rw [if_pos (by rw [pB_f w1]), mp_isWord (d + 13) L N, p_xI]
      by_cases w2 : gx_wd K V 2 i
      · rw [if_pos (Or.inr (Or.inl w2)), if_neg (by rw [pB_t w2]; decide)]
        exact go w2.1
      · rw [if_pos (by rw [pB_f w2]), mp_isWord (d + 13) L N, p_xI]
        by_cases w3 : gx_wd K V 3 i
        · rw [if_pos (Or.inr (Or.inr w3)), if_neg (by rw [pB_t w3]; decide)]
          exact go w3.1
        · have nw : ¬ (gx_wd K V 1 i ∨ gx_wd K V 2 i ∨ gx_wd K V 3 i) := by
            rintro (z | z | z)
            · exact w1 z
            · exact w2 z
            · exact w3 z
          rw [if_neg nw, if_pos (by rw [pB_f w3])]
          exact ⟨h, rfl, g0, pn, ln, ty, so, N, fr, H, rfl⟩
/-- a class is entered -/
def mi_cls (t : Int) (g : am_H) : am_H := am_up (am_up (am_up (am_up g 261 (g 254 14).toNat t) 262 (g 254 14).toNat 0) 254 14 (g 254 14 + 1)) 254 60 0
theorem mi_40 (V : Nat → Int) (t : Int) (g : am_H) : mi V (40, t, 0, 0) (g, ty, so, [], []) = .inr (mi_cls t g, ty, so, [], []) := rfl
theorem mp_N.cls (N : mp_N K V P Z g0 [] i deep st g h) (hc : g 254 14 < 12) (t : Int) : mp_N K V P Z g0 [] i deep st (mi_cls t g) (mi_cls t h) := by
  have o := N.ok
  unfold mi_cls
  rw [N.eq 254 14 rfl rfl]
  have n1 := N.both 261 (g 254 14).toNat t rfl rfl rfl (o.upc (by decide))
  have n2 := n1.both 262 (g 254 14).toNat 0 rfl rfl rfl (n1.ok.upc (by decide))
  have o2 := n2.ok
  have o14 := o.2.2.2.1
  have n3 := n2.both 254 14 (g 254 14 + 1) rfl rfl rfl (by
    unfold mp_ok at *
    rw [p_up_s, p_up_n _ _ _ _ _ 33 (Or.inr (by omega)), p_up_n _ _ _ _ _ 39 (Or.inr (by omega)), p_up_n _ _ _ _ _ 16 (Or.inr (by omega)), p_up_n _ _ _ _ _ 17 (Or.inr (by omega)), p_up_n _ _ _ _ _ 25 (Or.inr (by omega))]
    exact ⟨o2.1, o2.2.1, o2.2.2.1, by omega, o2.2.2.2.2⟩)
  have o3 := n3.ok
  exact n3.both 254 60 0 rfl rfl rfl (o3.f (by decide))
theorem mh.cls (H : mh cn sn vn fn pn ln g) (t : Int) : mh (cn + 1) sn vn 0 pn ln (mi_cls t g) := by
  obtain ⟨h14, h17, h16, h262, h267, h268, h60, h60b⟩ := H
  have e14 : (g 254 14).toNat = cn := by rw [h14]; omega
  unfold mi_cls
  rw [e14, h14]
  refine ⟨?_, ?_, ?_, ?_, ?_, ?_, ?_, ?_⟩
  · simp [p_up]
  · simp [p_up]; exact h17
  · simp [p_up]; exact h16
  · simp [p_up]
  · simp [p_up]; exact h267
  · simp [p_up]; exact h268
  · simp [p_up]
  · intro _; simp [p_up]; omega
theorem mi_cls_fr (t : Int) (g : am_H) : p_fr mp_C2 mp_F3 g (mi_cls t g) := ((((p_fr.refl g).upc _ _ _ rfl).upc _ _ _ rfl).upf _ _ _ rfl).upf _ _ _ rfl
theorem hx_opens_0 (c : Int) (j : Nat) : hx_opens K V P c 0 j = hx_sign K V P c j := by
  unfold hx_opens hx_sign hx_open gx_if
  rw [if_pos (c := 0 < 25) (by decide)]
/-- where a text ends -/
def mT_P (K V P : Nat → Int) (Z : Nat) (G0 : am_H) (L : Nat) (a : mi_S) (D : Option am_O) : Prop := ∃ h', D = pV L h' ∧ ∃ gb i st, mp_N K V P Z gb [] i 0 st a.1 h' ∧ p_fr mp_C2 mp_F3 G0 a.1
/-- classes -/
theorem mT_all (hG : G ≤ 900000) {G0 : am_H} : ∀ (f st i cn vn sn : Nat) g0 g h ty so fn pn ln, mp_N K V P Z g0 [] i 0 st g h → p_fr mp_C2 mp_F3 G0 g → mh cn sn vn fn pn ln g → mO L (mT_1 d L h) G0 4992 (hp_classes K V P (mi V) G f st i cn vn sn (g, ty, so, [], [])) (mT_P K V P Z G0 L)
  | 0, _, _, _, _, _, _, _, _, _, _, _, _, _, _, _, _ => fun z => absurd z (by decide)
  | f + 1, st, i, cn, vn, sn, g0, g, h, ty, so, fn, pn, ln, N, fr, H => by
    have lt := N.lt
    have kq := mp_k_eq N.rg
    have N := N.rb
    unfold hp_classes
    conv => arg 2; unfold mT_1
    rw [q_17_51_1, N.fa, if_pos rfl, N.nx, p_idx (by omega) (by omega), Int.toNat_natCast, N.kd]
    by_cases k0 : K i = 0
    · rw [if_pos k0, if_pos (kq.1.mpr k0)]
      exact ⟨h, rfl, g, i, st, N, fr⟩
    · rw [if_neg k0, if_neg (fun z => k0 (kq.1.mp z))]
      unfold hp_class
      show mO L _ G0 4992 (gx_b (gx_b (hx_word K V P 0 i) _) _) _
      rw [gx_b_assoc]
      have b3 : ∀ {gb : am_H} {e : Int × Int} {h1 : am_H}, mp_B gb 4900 e h1 → mT_3 d L h1 = pV L h1 := by
        intro gb e h1 B
        have b1 := B.2.1
        unfold mT_3
        rw [q_17_51_3, if_pos (by rw [B.2.2.1]; exact b1)]
      refine mO_bV fr (mp_needWord (d + 11) L N 0) ?_ ?_
      · intro e h1 B
        have b1 := B.2.1
        have t := b3 B
        unfold mT_3 at t
        show ∃ h', (if h1 254 11 = 0 then _ else if h1 254 11 = 0 then _ else am_E (am_D (d + 14)) m_17_51 (.inl 3) [some (am_r (am_a 254))] [] (zS L, h1)) = pV L h' ∧ mp_B g 4992 e h'
        rw [if_neg (by rw [B.2.2.1]; omega), if_neg (by rw [B.2.2.1]; omega), t]
        exact ⟨h1, rfl, B.le (by omega)⟩
      · rintro j h1 - ⟨rfl, N1⟩
        have lt1 := N1.lt
        have kq1 := mp_k_eq N1.rg
        rw [N1.fa, if_pos rfl, N1.nx, p_idx (by omega) (by omega), Int.toNat_natCast, N1.kd]
        unfold gx_if
        by_cases k2 : K (i + 1) = 2
        · rw [if_pos k2, if_pos (kq1.2.1.mpr k2), if_pos rfl, N1.eq 254 14 rfl rfl, H.1, D_17_29]
          by_cases hc : cn < 12
          · have N2 := N1.cls (by rw [H.1]; omega) ((i + 1 : Nat) : Int)
            have H2 := H.cls ((i + 1 : Nat) : Int)
            have o14 := N1.ok.2.2.2.1
            obtain ⟨e3, N3⟩ := mp_go (d + 13) L N2 (by omega)
            have es : am_up (am_up (am_up (am_up h1 261 (h1 254 14).toNat (h1 254 10)) 262 (h1 254 14).toNat 0) 254 14 (am_w (h1 254 14 + 1))) 254 60 0 = mi_cls ((i + 1 : Nat) : Int) h1 := by
              unfold mi_cls
              rw [N1.nx, p_w (x := h1 254 14 + 1) (by rw [N1.eq 254 14 rfl rfl]; omega) (by rw [N1.eq 254 14 rfl rfl]; omega)]
            have i14 : 0 ≤ h1 254 14 ∧ h1 254 14 < 13 := by rw [N1.eq 254 14 rfl rfl]; omega
            rw [if_pos hc, if_pos (by omega), p_xV, q_17_51_3, N1.fa, if_neg (by decide), p_idx i14.1 i14.2, p_idx i14.1 i14.2, es, e3, p_xV, mi_40]
            show mO L _ G0 4992 (gx_b (gx_b (hx_sign K V P 123 (i + 1 + 1)) fun j2 => gx_b (hp_vars K V P (mi V) G G j2 vn 0 (mi_cls ((i + 1 : Nat) : Int) g, ty, so, [], [])) fun r => gx_b (hp_subs K V P (mi V) G G st r.1 sn r.2.2.2) fun r2 => gx_b (hx_sign K V P 125 r2.1) fun j3 => .inr (j3, r2.2.1, r.2.1, r2.2.2.1, r2.2.2.2)) fun r => hp_classes K V P (mi V) G f r.2.1 r.1 (cn + 1) r.2.2.1 r.2.2.2.1 r.2.2.2.2) _
            simp only [gx_b_assoc, gx_b_inr]
            rw [← hx_opens_0]
            refine mO_bV (k := mT_5 d L) fr (mp_openSign (d + 11) L N3 123) (fun e h4 B => (mb_T5 (m := 4991) d L (by omega)) e h4 (B.le (by omega))) ?_
            rintro j2 h4 - ⟨rfl, -, N4, -⟩
            refine mO_b (mO_of fr (by omega) (mT_vars (so := so) d L (by omega) G (i + 1 + 1 + 1) vn 0 _ h4 ty N4 H2)) ?_
            rintro ⟨a1, a2, a3, ⟨g5, q5⟩⟩ - ⟨h5, e5, N5, H5, ty5, eq5⟩
            have eq5 : q5 = (ty5, so, [], []) := eq5
            subst eq5
            rw [e5]
            have N5 : mp_N K V P Z g [] a1 1 st g5 h5 := N5
            have fr5 : p_fr mp_C2 mp_F3 G0 g5 := fr.trans (N5.2.1.mono rfl rfl)
            have t := mT_subs (vn := a2) (fn := a3) (cn := cn + 1) d L hG G st a1 sn g g5 h5 ty5 so pn ln N5 fr5 H5
            refine mO_b (mO_le t (by omega)) ?_
            rintro ⟨b1, b2, b3', ⟨g6, q6⟩⟩ - ⟨h6, e6, gb, pn', ln', ty', so', N6, fr6, H6, eq6⟩
            have eq6 : q6 = (ty', so', [], []) := eq6
            subst eq6
            rw [e6]
            have N6 := N6.rb
            refine mO_bV (k := mT_1 d L) fr6 (mp_closeSign (d + 10) L N6 125) (fun e h7 B => (mb_T1 d L) e h7 (B.le (by omega))) ?_
            rintro j7 h7 - ⟨rfl, N7, -⟩
            exact mT_all hG f b2 (b1 + 1) (cn + 1) a2 b3' _ g6 h7 ty' so' _ pn' ln' N7 fr6 H6
          · obtain ⟨h2, e2, B2⟩ := mp_wrong (d + 12) L N1 2 (by decide) (i + 1) N1.iz
            have t := b3 B2
            unfold mT_3 at t
            rw [if_neg hc, if_neg (by omega), e2, p_xV, p_xV, t]
            exact fun _ => ⟨g, h2, rfl, fr, B2.le (by omega)⟩
        · obtain ⟨h2, e2, B2⟩ := mp_syntax (d + 12) L N1
          have b1 := B2.2.1
          have t := b3 B2
          unfold mT_3 at t
          rw [if_neg k2, if_neg (fun z => k2 (kq1.2.1.mp z)), e2, p_xV, if_neg (by rw [B2.2.2.1]; omega), t]
          exact fun _ => ⟨g, h2, rfl, fr, B2.le (by omega)⟩
end
