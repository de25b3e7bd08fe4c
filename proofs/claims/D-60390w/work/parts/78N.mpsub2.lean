/-! PURE LAYER, 62: the model's sub, whole -/
def mp_F3 : List (Nat × Nat) := (254, 17) :: mp_F2
/-- outcomes where the base may have moved -/
def mO {α : Type} (L : Nat) (D : Option am_O) (G0 : am_H) (m : Nat) (r : gx_R α) (ok : α → Option am_O → Prop) : Prop := match r with
  | .inl e => e.1 < 8 → ∃ gb h', D = pV L h' ∧ p_fr mp_C2 mp_F3 G0 gb ∧ mp_B gb m e h'
  | .inr a => ok a D
theorem mO_of {α : Type} {L : Nat} {D : Option am_O} {G0 gb : am_H} {m m2 : Nat} {r : gx_R α} {ok : α → Option am_O → Prop} (f : p_fr mp_C2 mp_F3 G0 gb) (hm : m ≤ m2) (h : mo L D gb m r ok) : mO L D G0 m2 r ok := by
  cases r with
  | inl e => intro z; obtain ⟨h', e1, B⟩ := h z; exact ⟨gb, h', e1, f, B.le hm⟩
  | inr a => exact h
theorem mO_b {α β : Type} {L : Nat} {D : Option am_O} {G0 : am_H} {m : Nat} {r : gx_R α} {f : α → gx_R β} {Q : α → Option am_O → Prop} {ok : β → Option am_O → Prop} (h : mO L D G0 m r Q) (hk : ∀ a, r = .inr a → Q a D → mO L D G0 m (f a) ok) : mO L D G0 m (gx_b r f) ok := by
  cases r with
  | inl e => exact h
  | inr a => exact hk a rfl h
/-- mo, then mO -/
theorem mO_bV {α β : Type} {L : Nat} {D : Option am_O} {G0 gb : am_H} {m m2 : Nat} {r : gx_R α} {Po : α → am_H → Prop} {k : am_H → Option am_O} {f : α → gx_R β} {ok : β → Option am_O → Prop}
    (fr : p_fr mp_C2 mp_F3 G0 gb) (hX : mo L D gb m r (fun a D => ∃ h1, D = pV L h1 ∧ Po a h1)) (hb : mb L gb m m2 k) (hk : ∀ a h1, r = .inr a → Po a h1 → mO L (k h1) G0 m2 (f a) ok) : mO L (am_xV (zS L) D (am_up1 (zS L)) k) G0 m2 (gx_b r f) ok := by
  cases r with
  | inl e =>
    intro z
    obtain ⟨h1, e1, B⟩ := hX z
    obtain ⟨h2, e2, B2⟩ := hb e h1 B
    exact ⟨gb, h2, by rw [e1, p_xV, e2], fr, B2⟩
  | inr a =>
    obtain ⟨h1, e1, p⟩ := hX
    rw [e1, p_xV]
    exact hk a h1 rfl p
/-- mO, then mO -/
theorem mO_bO {α β : Type} {L : Nat} {D : Option am_O} {G0 : am_H} {m m2 : Nat} {r : gx_R α} {Po : α → am_H → Prop} {k : am_H → Option am_O} {f : α → gx_R β} {ok : β → Option am_O → Prop}
    (hX : mO L D G0 m r (fun a D => ∃ h1, D = pV L h1 ∧ Po a h1)) (hb : ∀ gb, mb L gb m m2 k) (hk : ∀ a h1, r = .inr a → Po a h1 → mO L (k h1) G0 m2 (f a) ok) : mO L (am_xV (zS L) D (am_up1 (zS L)) k) G0 m2 (gx_b r f) ok := by
  cases r with
  | inl e =>
    intro z
    obtain ⟨gb, h1, e1, fr, B⟩ := hX z
    obtain ⟨h2, e2, B2⟩ := hb gb e h1 B
    exact ⟨gb, h2, by rw [e1, p_xV, e2], fr, B2⟩
  | inr a =>
    obtain ⟨h1, e1, p⟩ := hX
    rw [e1, p_xV]
    exact hk a h1 rfl p
section
variable {K V P : Nat → Int} {Z : Nat} {g0 : am_H} {deep st : Nat} (d L : Nat) {ty so : Int} {cn sn vn : Nat} {fn pn ln : Int} {i : Nat} {g h : am_H} {G : Nat}
theorem mp_N.rb {oc : List Int} (N : mp_N K V P Z g0 oc i deep st g h) : mp_N K V P Z g oc i deep st g h := ⟨N.1, p_fr.refl g, N.2.2⟩
/-- the same is written on both sides; the base is the new one -/
theorem mp_N.bothr {oc : List Int} (N : mp_N K V P Z g0 oc i deep st g h) (a k : Nat) (v : Int) (ha : [277, 280, 283, 284, 257, 258, 260].contains a = false) (hn : (a == 254 && (k == 10 || k == 11 || k == 48 || k == 49 || k == 51 || k == 33 || k == 39)) = false) (ok : mp_ok (am_up g a k v)) : mp_N K V P Z (am_up g a k v) oc i deep st (am_up g a k v) (am_up h a k v) := by
  obtain ⟨f1, f2, ⟨n1, n2, n3, n4, n5⟩, tk, it, -, bd, a1, a2, a3⟩ := N
  have c : ∀ (x : am_H) (b : Nat), [277, 280, 283, 284, 257, 258, 260].contains b = true → am_up x a k v b = x b := fun x b hb => p_up_c _ _ _ _ _ (fun z => by rw [z, ha] at hb; cases hb)
  have c4 : ∀ (x : am_H) (j : Nat), (j = 10 ∨ j = 11 ∨ j = 48 ∨ j = 49 ∨ j = 51 ∨ j = 33 ∨ j = 39) → am_up x a k v 254 j = x 254 j := by
    intro x j hj
    refine p_up_n _ _ _ _ _ _ ?_
    by_cases e : 254 = a
    · right
      intro z
      rw [← e, ← z] at hn
      rcases hj with rfl | rfl | rfl | rfl | rfl | rfl | rfl <;> exact absurd hn (by decide)
    · exact Or.inl e
  refine ⟨pc_fr_both f1 _ _ _, p_fr.refl _, ⟨?_, ?_, ?_, ?_, ?_⟩, ?_, it, ok, bd, ?_, ?_, ?_⟩
  · rw [c4 h 10 (by simp)]; exact n1
  · rw [c4 h 11 (by simp)]; exact n2
  · rw [c4 h 48 (by simp)]; exact n3
  · rw [c4 h 49 (by simp)]; exact n4
  · rw [c4 h 51 (by simp)]; exact n5
  · unfold mp_T at *; rw [c g 257 rfl, c g 258 rfl, c g 260 rfl]; exact tk
  · rw [c4 g 33 (by simp), c g 277 rfl, c g 280 rfl, c h 280 rfl]; exact a1
  · rw [c4 g 39 (by simp), c g 284 rfl, c h 284 rfl]; exact a2
  · rw [c4 g 39 (by simp), c g 283 rfl]; exact a3
/-- a sub is entered -/
def mi_sub (so t ty : Int) (g : am_H) : am_H := am_up (am_up (am_up (am_up (am_up (am_up (am_up (am_up (am_up g 263 (g 254 17).toNat (g 254 14 - 1)) 264 (g 254 17).toNat so) 265 (g 254 17).toNat t) 266 (g 254 17).toNat ty) 267 (g 254 17).toNat 0) 268 (g 254 17).toNat 0) 269 (g 254 17).toNat (g 254 33)) 254 17 (g 254 17 + 1)) 254 50 0
theorem mi_45 (V : Nat → Int) (t : Int) (g : am_H) : mi V (45, t, 0, 0) (g, ty, so, [], []) = .inr (mi_sub so t ty g, ty, so, [], []) := rfl
theorem mp_N.sub (N : mp_N K V P Z g0 [] i deep st g h) (hc : g 254 17 < 60) (so t ty : Int) : mp_N K V P Z (mi_sub so t ty g) [] i deep st (mi_sub so t ty g) (mi_sub so t ty h) := by
  have o := N.ok
  have o17 := o.2.2.1
  unfold mi_sub
  rw [N.eq 254 17 rfl rfl, N.eq 254 14 rfl rfl, N.eq 254 33 rfl rfl]
  have n1 := N.bothr 263 (g 254 17).toNat (g 254 14 - 1) rfl rfl (o.upc (by decide))
  have n2 := n1.bothr 264 (g 254 17).toNat so rfl rfl (n1.ok.upc (by decide))
  have n3 := n2.bothr 265 (g 254 17).toNat t rfl rfl (n2.ok.upc (by decide))
  have n4 := n3.bothr 266 (g 254 17).toNat ty rfl rfl (n3.ok.upc (by decide))
  have n5 := n4.bothr 267 (g 254 17).toNat 0 rfl rfl (n4.ok.upc (by decide))
  have n6 := n5.bothr 268 (g 254 17).toNat 0 rfl rfl (n5.ok.upc (by decide))
  have n7 := n6.bothr 269 (g 254 17).toNat (g 254 33) rfl rfl (n6.ok.upc (by decide))
  have o7 := n7.ok
  have n8 := n7.bothr 254 17 (g 254 17 + 1) rfl rfl (by
    unfold mp_ok at *
    rw [p_up_s, p_up_n _ _ _ _ _ 33 (Or.inr (by omega)), p_up_n _ _ _ _ _ 39 (Or.inr (by omega)), p_up_n _ _ _ _ _ 16 (Or.inr (by omega)), p_up_n _ _ _ _ _ 14 (Or.inr (by omega)), p_up_n _ _ _ _ _ 25 (Or.inr (by omega))]
    exact ⟨o7.1, o7.2.1, by omega, o7.2.2.2⟩)
  have o8 := n8.ok
  exact n8.bothr 254 50 0 rfl rfl (o8.f (by decide))
theorem mi_sub_fr (so t ty : Int) (g : am_H) : p_fr mp_C2 mp_F3 g (mi_sub so t ty g) := ((((((((((p_fr.refl g).upc _ _ _ rfl).upc _ _ _ rfl).upc _ _ _ rfl).upc _ _ _ rfl).upc _ _ _ rfl).upc _ _ _ rfl).upc _ _ _ rfl).upf _ _ _ rfl).upf _ _ _ rfl)
theorem mh.sub (H : mh cn sn vn fn pn ln g) (so t ty : Int) : mh cn (sn + 1) vn fn 0 0 (mi_sub so t ty g) := by
  obtain ⟨h14, h17, h16, h262, h267, h268, h60, h60b⟩ := H
  have e17 : (g 254 17).toNat = sn := by rw [h17]; omega
  unfold mi_sub
  rw [e17, h17]
  refine ⟨?_, ?_, ?_, ?_, ?_, ?_, ?_, ?_⟩
  · simp [p_up]; exact h14
  · simp [p_up]
  · simp [p_up]; exact h16
  · simp [p_up]; exact h262
  · simp [p_up]
  · simp [p_up]
  · simp [p_up]; exact h60
  · simp [p_up]; exact h60b
/-- a sub, from its name on -/
theorem mq_sub3 (hG : G ≤ 900000) (N : mp_N K V P Z g0 [] i 1 st g h) (H : mh cn sn vn fn pn ln g) : mO L (am_E (am_D (d + 13)) m_17_34 (.inl 3) [some (am_r (am_a 254)), some (am_i so), some (am_i ty)] [] (zS L, h)) g 4990
    (gx_if (K i = 2) (hx_sx K P i) (gx_if (sn < 60) (2, P i) (
    gx_b (mi V (45, (i : Int), 0, 0) (g, ty, so, [], [])) fun s1 => gx_b (hx_next i) fun j2 => gx_b (mi V (51, 0, 0, 0) s1) fun s1 => gx_b (hx_sign K V P 40 j2) fun j3 => gx_b (hp_pars K V P (mi V) G j3 0 s1) fun r2 => gx_b (mi V (47, 0, 0, 0) r2.2) fun s2 =>
    gx_b (hx_opens K V P 123 1 r2.1) fun j4 => gx_b (hp_locs K V P (mi V) G G j4 0 s2) fun r3 => gx_b (mi V (48, 0, 0, 0) r3.2) fun s3 => gx_b (hs K V P (mi V) G G 0 2 st r3.1 s3) fun r4 => gx_b (hx_sign K V P 125 r4.1) fun j5 => gx_b (mi V (49, 0, 0, 0) r4.2.2) fun s4 => .inr (j5, r4.2.1, s4))))
    (fun a D => ∃ h', D = pV L h' ∧ ∃ gb pn' ln' ty', mp_N K V P Z gb [] a.1 1 a.2.1 a.2.2.1 h' ∧ p_fr mp_C2 mp_F3 g a.2.2.1 ∧ mh cn (sn + 1) vn fn pn' ln' a.2.2.1 ∧ a.2.2.2 = (ty', so, [], [])) := by
  have lt := N.lt
  have kq := mp_k_eq N.rg
  have s17 := H.2.1
  have o17 := N.ok.2.2.1
  have N := N.rb
  unfold gx_if
  rw [q_17_34_3, N.fa, if_neg (by decide), N.nx, p_idx (by omega) (by omega), Int.toNat_natCast, N.kd]
  by_cases k2 : K i = 2
  · rw [if_pos k2, if_pos (kq.2.1.mpr k2), N.eq 254 17 rfl rfl, s17, D_17_29]
    by_cases hc : sn < 60
    · rw [if_pos hc, if_pos (by omega), p_xV, N.fa, if_neg (by decide), mi_45, gx_b_inr]
      have N1 := N.sub (by omega) so i ty
      have H1 := H.sub so i ty
      obtain ⟨e2, N2⟩ := mp_go (d + 12) L N1 (by omega)
      have ho := N.ok.2.2.2.1
      have es : am_up (am_up (am_up (am_up (am_up (am_up (am_up (am_up (am_up h 263 (h 254 17).toNat (am_w (h 254 14 - 1))) 264 (h 254 17).toNat so) 265 (h 254 17).toNat (h 254 10)) 266 (h 254 17).toNat ty) 267 (h 254 17).toNat 0) 268 (h 254 17).toNat 0) 269 (h 254 17).toNat (h 254 33)) 254 17 (am_w (h 254 17 + 1))) 254 50 0 = mi_sub so i ty h := by
        unfold mi_sub
        rw [N.nx, p_w (x := h 254 14 - 1) (by rw [N.eq 254 14 rfl rfl]; omega) (by rw [N.eq 254 14 rfl rfl]; omega), p_w (x := h 254 17 + 1) (by rw [N.eq 254 17 rfl rfl]; omega) (by rw [N.eq 254 17 rfl rfl]; omega)]
      have i17 : 0 ≤ h 254 17 ∧ h 254 17 < 61 := by rw [N.eq 254 17 rfl rfl]; omega
      rw [p_idx i17.1 i17.2, p_idx i17.1 i17.2, p_idx i17.1 i17.2, p_idx i17.1 i17.2, p_idx i17.1 i17.2, p_idx i17.1 i17.2, p_idx i17.1 i17.2, es, e2, p_xV, N2.eq 254 17 rfl rfl, H1.2.1, p_w (by omega) (by omega)]
      refine mO_of (mi_sub_fr so i ty g) (Nat.le_refl _) ?_
      have g17 : 1 ≤ mi_sub so i ty g 254 17 ∧ mi_sub so i ty g 254 17 ≤ 60 := by rw [H1.2.1]; omega
      have bL : mb L (mi_sub so i ty g) 4980 4990 (mu_L d L (some (am_i so)) (some (am_i ty))) := fun e h1 B => (mb_uL d L g17) e h1 (B.le (by omega))
      have b7 : mb L (mi_sub so i ty g) 4920 4990 (fun h11 => am_E (am_D (d + 13)) m_17_34 (.inl 7) [some (am_r (am_a 254)), some (am_i so), some (am_i ty)] [] (zS L, h11)) := by
        intro e h1 B
        obtain ⟨h2, e2, B2⟩ := mb_openSign (d + 10) L B (by omega) 123
        show ∃ h', am_E (am_D (d + 13)) m_17_34 (.inl 7) _ [] (zS L, h1) = pV L h' ∧ _
        rw [q_17_34_7, e2, p_xV]
        exact bL e h2 (B2.le (by omega))
      show mo L _ (mi_sub so i ty g) 4990 (gx_b (hx_sign K V P 40 (i + 1)) fun j3 => gx_b (hp_pars K V P (mi V) G j3 0 (mi_sub so i ty g, ty, so, [], [])) fun r2 => _) _
      refine mq_pars (d + 9) L (by omega) N2 H1 b7 (fun j g1 h1 n' ty' N3 H3 => ?_)
      show mo L _ (mi_sub so i ty g) 4990 (gx_b (hx_opens K V P 123 1 j) fun j4 => gx_b (hp_locs K V P (mi V) G G j4 0 (g1, ty', so, [], [])) fun r3 => gx_b (mi V (48, 0, 0, 0) r3.2) fun s3 => gx_b (hs K V P (mi V) G G 0 2 st r3.1 s3) fun r4 => gx_b (hx_sign K V P 125 r4.1) fun j5 => gx_b (mi V (49, 0, 0, 0) r4.2.2) fun s4 => .inr (j5, r4.2.1, s4)) _
      rw [q_17_34_7]
      refine mo_bV (mp_openSign (d + 10) L N3 123) (bL.le (by omega)) ?_
      rintro j4 h4 - ⟨rfl, -, N4, -⟩
      refine mu_all (u1 := some (am_i so)) (u2 := some (am_i ty)) d L (by omega) g17 ?_ G (j + 1) 0 g1 h4 ty' N4 H3
      intro j5 g5 h5 ty5 n5 N5 H5
      refine mo_imp (mu_body (ty := ty5) (so := so) d L hG (by omega) N5 H5) ?_
      rintro ⟨a1, a2, ⟨g6, q6⟩⟩ - ⟨h6, e6, N6, H6, eq6⟩
      exact ⟨h6, e6, _, _, _, ty5, N6, (mi_sub_fr so i ty g).trans (N6.2.1.mono rfl rfl), H6, eq6⟩
    · obtain ⟨h1, e1, B1⟩ := mp_wrong (d + 11) L N 2 (by decide) i N.iz
      have b1 := B1.2.1
      rw [if_neg hc, if_neg (by omega), e1, p_xV, p_xV, if_pos (by rw [B1.2.2.1]; exact b1)]
      exact fun _ => ⟨g, h1, rfl, p_fr.refl g, B1.le (by omega)⟩
  · obtain ⟨h1, e1, B1⟩ := mp_syntax (d + 11) L N
    rw [if_neg k2, if_neg (fun z => k2 (kq.2.1.mp z)), e1, p_xV]
    exact fun _ => ⟨g, h1, rfl, p_fr.refl g, B1.le (by omega)⟩
/-- sub() -/
theorem mq_sub (hG : G ≤ 900000) (N : mp_N K V P Z g0 [] i 1 st g h) (H : mh cn sn vn fn pn ln g) (hK : K i = 1) : mO L (am_D (d + 14) 17 34 [am_r (am_a 254)] (zS L, h)) g 4990 (hp_sub K V P (mi V) G st i sn (g, ty, so, [], []))
    (fun a D => ∃ h', D = pV L h' ∧ ∃ gb pn' ln' ty' so', mp_N K V P Z gb [] a.1 1 a.2.1 a.2.2.1 h' ∧ p_fr mp_C2 mp_F3 g a.2.2.1 ∧ mh cn (sn + 1) vn fn pn' ln' a.2.2.1 ∧ a.2.2.2 = (ty', so', [], [])) := by
  have lt := N.lt
  have N := N.rb
  have im : ∀ {D : Option am_O} {r : gx_R (Nat × Nat × mi_S)} {so' : Int}, mO L D g 4990 r (fun a D => ∃ h', D = pV L h' ∧ ∃ gb pn' ln' ty', mp_N K V P Z gb [] a.1 1 a.2.1 a.2.2.1 h' ∧ p_fr mp_C2 mp_F3 g a.2.2.1 ∧ mh cn (sn + 1) vn fn pn' ln' a.2.2.1 ∧ a.2.2.2 = (ty', so', [], [])) → mO L D g 4990 r (fun a D => ∃ h', D = pV L h' ∧ ∃ gb pn' ln' ty' so', mp_N K V P Z gb [] a.1 1 a.2.1 a.2.2.1 h' ∧ p_fr mp_C2 mp_F3 g a.2.2.1 ∧ mh cn (sn + 1) vn fn pn' ln' a.2.2.1 ∧ a.2.2.2 = (ty', so', [], [])) := by
    intro D r so' hr
    cases r with
    | inl e => exact hr
    | inr a => obtain ⟨h', e, gb, pn', ln', ty', x⟩ := hr; exact ⟨h', e, gb, pn', ln', ty', so', x⟩
  obtain ⟨e1, N1⟩ := mp_go (d + 12) L N (by omega)
  have lt1 := N1.lt
  rw [D_17_34, N.nx, p_idx (by omega) (by omega), Int.toNat_natCast, N.vl (Or.inl hK), e1, p_xV, mp_isWord (d + 12) L N1, p_xI]
  have ev : Int.toNat (i : Int) = i := Int.toNat_natCast i
  have e44 : mi V (44, (i : Int), 0, 0) (g, ty, so, [], []) = .inr (g, -1, V i, [], []) := by
    show (.inr (g, -1, V (i : Int).toNat, [], []) : gx_R mi_S) = _
    rw [ev]
  unfold hp_sub
  rw [e44, gx_b_inr]
  by_cases w : gx_wd K V 10 (i + 1)
  · have hK2 : K (i + 1) ≠ 0 ∧ K (i + 1) ≠ 6 ∧ K (i + 1) ≠ 7 := ⟨by rw [w.1]; decide, by rw [w.1]; decide, by rw [w.1]; decide⟩
    obtain ⟨e2, N2⟩ := mp_go (d + 12) L N1 hK2
    rw [if_neg (by rw [pB_t w]; decide), if_pos rfl, e2, p_xV]
    have t := mq_sub3 (ty := -1) (so := V i) d L hG N2 H
    show mO L _ g 4990 (gx_b (if gx_wd K V 10 (i + 1) then _ else _) _) _
    rw [if_pos w]
    exact im t
  · rw [if_pos (by rw [pB_f w])]
    show mO L _ g 4990 (gx_b (if gx_wd K V 10 (i + 1) then _ else _) _) _
    rw [if_neg w]
    have b3 : ∀ v : Int, mb L g 4900 4990 (fun h5 => if (v : Int) = (-1) then am_xV (zS L) (am_D (d + 13) 17 21 [am_r (am_a 254)] (zS L, h5)) (am_up1 (zS L)) fun h7 => am_E (am_D (d + 13)) m_17_34 (.inl 3) [some (am_r (am_a 254)), some (am_i (V i)), some (am_i v)] [] (zS L, h7) else am_E (am_D (d + 13)) m_17_34 (.inl 3) [some (am_r (am_a 254)), some (am_i (V i)), some (am_i v)] [] (zS L, h5)) := by
      intro v e h1 B
      have b1 := B.2.1
      show ∃ h', (if v = -1 then _ else _) = pV L h' ∧ _
      rw [mb_go (d + 12) L B, p_xV, q_17_34_3, if_pos (c := (0 : Int) < h1 254 11) (by rw [B.2.2.1]; exact b1)]
      refine ⟨h1, ?_, B.le (by omega)⟩
      split <;> rfl
    rcases mp_type (d + 10) L N1 with ⟨c, e2, N2⟩ | ⟨c, v, h1, e2, B1⟩
    · have et : hx_type K V P (mi V) (i + 1) (g, -1, V i, [], []) = .inr (i + 2, (g, ((i + 1 : Nat) : Int), V i, [], [])) := by
        unfold hx_type gx_if
        rw [if_pos c]
        rfl
      rw [et, gx_b_inr, e2, p_xI, if_neg (by omega)]
      exact im (mq_sub3 d L hG N2 H)
    · have et : hx_type K V P (mi V) (i + 1) (g, -1, V i, [], []) = .inl (hx_sx K P (i + 1)) := by
        unfold hx_type gx_if
        rw [if_neg c]
      obtain ⟨h2, e3, B2⟩ := b3 v _ h1 B1
      rw [et, e2, p_xI]
      exact fun _ => ⟨g, h2, e3, p_fr.refl g, B2⟩
end
