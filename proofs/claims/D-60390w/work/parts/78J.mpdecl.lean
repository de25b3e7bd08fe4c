/-! PURE LAYER, 58: the model's declarations -/
section
variable {K V P : Nat → Int} {Z : Nat} {g0 : am_H} {i deep st : Nat} {g h : am_H} (d L : Nat) {ty so : Int} {q : List (Int × Int × Int × Int) × List Int}
/-- type() -/
theorem mp_type (N : mp_N K V P Z g0 [] i deep st g h) : ((gx_wd K V 7 i ∨ gx_wd K V 8 i ∨ gx_wd K V 9 i ∨ K i = 2) ∧ am_D (d + 3) 17 31 [am_r (am_a 254)] (zS L, h) = pI L i (am_up h 254 10 ((i + 1 : Nat) : Int)) ∧ mp_N K V P Z g0 [] (i + 1) deep st g (am_up h 254 10 ((i + 1 : Nat) : Int))) ∨ (¬ (gx_wd K V 7 i ∨ gx_wd K V 8 i ∨ gx_wd K V 9 i ∨ K i = 2) ∧ ∃ v h', am_D (d + 3) 17 31 [am_r (am_a 254)] (zS L, h) = pI L v h' ∧ mp_B g0 4900 (hx_sx K P i) h') := by
  have lt := N.lt
  have kq := mp_k_eq N.rg
  have fin : (K i = 1 ∨ K i = 2) → (am_xV (zS L) (am_D (d + 2) 17 21 [am_r (am_a 254)] (zS L, h)) (am_up1 (zS L)) fun h1 => some (.inl (some (am_i (am_w (h1 254 10 - 1)))), (zS L, h1))) = pI L i (am_up h 254 10 ((i + 1 : Nat) : Int)) ∧ mp_N K V P Z g0 [] (i + 1) deep st g (am_up h 254 10 ((i + 1 : Nat) : Int)) := by
    intro hk
    obtain ⟨e, N1⟩ := mp_go (d + 1) L N (by omega)
    rw [e, p_xV, p_up_s, p_w (by omega) (by omega), show ((i + 1 : Nat) : Int) - 1 = i by omega]
    exact ⟨rfl, N1⟩
  rw [D_17_31, mp_isWord (d + 1) L N, p_xI]
  by_cases w7 : gx_wd K V 7 i
  · left
    rw [if_neg (by rw [pB_t w7]; decide), q_17_31_3, if_neg (by decide)]
    exact ⟨Or.inl w7, fin (Or.inl w7.1)⟩
  rw [if_pos (by rw [pB_f w7]), mp_isWord (d + 1) L N, p_xI]
  by_cases w8 : gx_wd K V 8 i
  · left
    rw [if_neg (by rw [pB_t w8]; decide), q_17_31_3, if_neg (by decide)]
    exact ⟨Or.inr (Or.inl w8), fin (Or.inl w8.1)⟩
  rw [if_pos (by rw [pB_f w8]), mp_isWord (d + 1) L N, p_xI]
  by_cases w9 : gx_wd K V 9 i
  · left
    rw [if_neg (by rw [pB_t w9]; decide), q_17_31_3, if_neg (by decide)]
    exact ⟨Or.inr (Or.inr (Or.inl w9)), fin (Or.inl w9.1)⟩
  rw [if_pos (by rw [pB_f w9]), q_17_31_3, if_pos rfl, N.nx, p_idx (by omega) (by omega), Int.toNat_natCast, N.kd]
  by_cases k2 : K i = 2
  · left
    rw [if_pos (kq.2.1.mpr k2)]
    exact ⟨Or.inr (Or.inr (Or.inr k2)), fin (Or.inr k2)⟩
  · right
    obtain ⟨h1, e1, B1⟩ := mp_syntax d L N
    rw [if_neg (fun z => k2 (kq.2.1.mp z)), e1, p_xV]
    exact ⟨by rintro (z | z | z | z); exact w7 z; exact w8 z; exact w9 z; exact k2 z, _, h1, rfl, B1⟩
theorem mb_type {m : Nat} {e : Int × Int} (B : mp_B g0 m e h) : ∃ v, am_D (d + 3) 17 31 [am_r (am_a 254)] (zS L, h) = pI L v h := by
  have b := B.2.2.2.2.1
  have fin : ∀ s0 : Int, ∃ v, am_E (am_D (d + 2)) m_17_31 (.inl 3) [some (am_r (am_a 254)), none] [am_i s0] (zS L, h) = pI L v h := by
    intro s0
    rw [q_17_31_3, mb_go (d + 1) L B, mb_syntax d L B, p_xV]
    split
    · rw [p_idx b.1 (by omega)]; split <;> exact ⟨_, rfl⟩
    · exact ⟨_, rfl⟩
  obtain ⟨v7, e7, -⟩ := mb_isWord (d + 1) L B 7
  obtain ⟨v8, e8, -⟩ := mb_isWord (d + 1) L B 8
  obtain ⟨v9, e9, -⟩ := mb_isWord (d + 1) L B 9
  rw [D_17_31, e7, p_xI, e8, p_xI, e9, p_xI]
  split
  · split
    · split
      · exact fin _
      · exact fin _
    · exact fin _
  · exact fin _
theorem mn_type {α : Type} {m2 : Nat} {k : Int → am_H → Option am_O} {F : Nat × mi_S → gx_R α} {ok : α → Option am_O → Prop} (N : mp_N K V P Z g0 [] i deep st g h) (hb : ∀ v, mb L g0 4900 m2 (k v)) (hk : ∀ h1, mp_N K V P Z g0 [] (i + 1) deep st g h1 → mo L (k i h1) g0 m2 (F (i + 1, (g, (i : Int), so, q))) ok) : mo L (am_xI (zS L) (am_D (d + 3) 17 31 [am_r (am_a 254)] (zS L, h)) (am_up1 (zS L)) k) g0 m2 (gx_b (hx_type K V P (mi V) i (g, ty, so, q)) F) ok := by
  unfold hx_type gx_if
  rcases mp_type d L N with ⟨c, e, N1⟩ | ⟨c, v, h1, e, B1⟩
  · rw [if_pos c, e, p_xI]
    exact hk _ N1
  · rw [if_neg c, e, p_xI]
    intro _
    exact hb v _ h1 B1
/-- declare() -/
theorem mq_dec (N : mp_N K V P Z g0 [] i deep st g h) (hc : g 254 25 < 1090) (x1 x2 x3 x4 x5 x6 : Int) : am_D (d + 1) 17 30 [am_r (am_a 254), am_i x1, am_i x2, am_i x3, am_i x4, am_i x5, am_i x6] (zS L, h) = pV L (mi_dec x1 x2 x3 x4 x5 x6 h) ∧ mp_N K V P Z g0 [] i deep st (mi_dec x1 x2 x3 x4 x5 x6 g) (mi_dec x1 x2 x3 x4 x5 x6 h) := by
  have o := N.ok
  have o25 := o.2.2.2.2.1
  have o14 := o.2.2.2.1
  refine ⟨by rw [D_17_30, N.eq 254 25 rfl rfl, N.eq 254 14 rfl rfl, p_idx (by omega) (by omega), p_idx (by omega) (by omega), p_idx (by omega) (by omega), p_idx (by omega) (by omega), p_idx (by omega) (by omega), p_idx (by omega) (by omega), p_idx (by omega) (by omega), p_w (x := g 254 14 - 1) (by omega) (by omega), p_w (x := g 254 25 + 1) (by omega) (by omega)]; unfold mi_dec; rw [N.eq 254 25 rfl rfl, N.eq 254 14 rfl rfl], ?_⟩
  unfold mi_dec
  rw [N.eq 254 25 rfl rfl, N.eq 254 14 rfl rfl]
  have n1 := N.both 270 (g 254 25).toNat (g 254 14 - 1) rfl rfl rfl (o.upc (by decide))
  have n2 := n1.both 271 (g 254 25).toNat x1 rfl rfl rfl (n1.ok.upc (by decide))
  have n3 := n2.both 272 (g 254 25).toNat x2 rfl rfl rfl (n2.ok.upc (by decide))
  have n4 := n3.both 273 (g 254 25).toNat x4 rfl rfl rfl (n3.ok.upc (by decide))
  have n5 := n4.both 274 (g 254 25).toNat x3 rfl rfl rfl (n4.ok.upc (by decide))
  have n6 := n5.both 275 (g 254 25).toNat x5 rfl rfl rfl (n5.ok.upc (by decide))
  have n7 := n6.both 276 (g 254 25).toNat x6 rfl rfl rfl (n6.ok.upc (by decide))
  refine n7.both 254 25 (g 254 25 + 1) rfl rfl rfl ?_
  have o7 := n7.ok
  unfold mp_ok at *
  rw [p_up_s, p_up_n _ _ _ _ _ 33 (Or.inr (by omega)), p_up_n _ _ _ _ _ 39 (Or.inr (by omega)), p_up_n _ _ _ _ _ 17 (Or.inr (by omega)), p_up_n _ _ _ _ _ 14 (Or.inr (by omega)), p_up_n _ _ _ _ _ 16 (Or.inr (by omega))]
  exact ⟨o7.1, o7.2.1, o7.2.2.1, o7.2.2.2.1, by omega, o7.2.2.2.2.2⟩
theorem mi_dec_n (x1 x2 x3 x4 x5 x6 : Int) (g : am_H) (a k : Nat) (h1 : ¬ (270 ≤ a ∧ a ≤ 276)) (h2 : ¬ (a = 254 ∧ k = 25)) : mi_dec x1 x2 x3 x4 x5 x6 g a k = g a k := by
  unfold mi_dec
  rw [p_up_n _ _ _ _ _ _ (by omega), p_up_n _ _ _ _ _ _ (Or.inl (by omega)), p_up_n _ _ _ _ _ _ (Or.inl (by omega)), p_up_n _ _ _ _ _ _ (Or.inl (by omega)), p_up_n _ _ _ _ _ _ (Or.inl (by omega)), p_up_n _ _ _ _ _ _ (Or.inl (by omega)), p_up_n _ _ _ _ _ _ (Or.inl (by omega)), p_up_n _ _ _ _ _ _ (Or.inl (by omega))]
theorem mb_dec {m : Nat} {e : Int × Int} (B : mp_B g0 m e h) (hm : m ≤ 4908) (x1 x2 x3 x4 x5 x6 : Int) : ∃ h', am_D (d + 1) 17 30 [am_r (am_a 254), am_i x1, am_i x2, am_i x3, am_i x4, am_i x5, am_i x6] (zS L, h) = pV L h' ∧ mp_B g0 (m + 1) e h' := by
  have b25 := B.2.2.2.2.2.2.2.2.2.2.2
  have b14 := B.2.2.2.2.2.2.2.2.2.2.1
  rw [D_17_30, p_idx (by omega) (by omega), p_idx (by omega) (by omega), p_idx (by omega) (by omega), p_idx (by omega) (by omega), p_idx (by omega) (by omega), p_idx (by omega) (by omega), p_idx (by omega) (by omega), p_w (x := h 254 25 + 1) (by omega) (by omega)]
  refine ⟨_, rfl, ?_⟩
  have B1 := ((((((B.up 270 (h 254 25).toNat (am_w (h 254 14 - 1)) rfl rfl).up 271 (h 254 25).toNat x1 rfl rfl).up 272 (h 254 25).toNat x2 rfl rfl).up 273 (h 254 25).toNat x4 rfl rfl).up 274 (h 254 25).toNat x3 rfl rfl).up 275 (h 254 25).toNat x5 rfl rfl).up 276 (h 254 25).toNat x6 rfl rfl
  obtain ⟨a1, a2, a3, a4, a5, a6, a7, a8, a9, a10, a11, a12⟩ := B1
  refine ⟨a1.upf _ _ _ rfl, a2, ?_, ?_, ?_, ?_, ?_, ?_, ?_, ?_, ?_, ?_⟩
  · rw [p_up_n _ _ _ _ _ _ (Or.inr (by decide))]; exact a3
  · rw [p_up_n _ _ _ _ _ _ (Or.inr (by decide))]; exact a4
  · rw [p_up_n _ _ _ _ _ _ (Or.inr (by decide))]; exact a5
  · rw [p_up_n _ _ _ _ _ _ (Or.inr (by decide))]; omega
  · rw [p_up_n _ _ _ _ _ _ (Or.inr (by decide))]; exact a7
  · rw [p_up_n _ _ _ _ _ _ (Or.inr (by decide))]; omega
  · rw [p_up_n _ _ _ _ _ _ (Or.inr (by decide))]; omega
  · rw [p_up_n _ _ _ _ _ _ (Or.inr (by decide))]; exact a10
  · rw [p_up_n _ _ _ _ _ _ (Or.inr (by decide))]; exact a11
  · rw [p_up_s]; omega
end
/-- names behind a type -/
def hv {σ : Type} (K V P : Nat → Int) (C : gx_V → σ → gx_R σ) (ev : Nat → gx_V) : Nat → Nat → Nat → σ → gx_R (Nat × Nat × σ)
  | 0, _, _, _ => .inl (9, 0)
  | f + 1, i, n, s =>
    gx_if (K i = 2) (hx_sx K P i) (gx_if (n < 12) (2, P i) (gx_b (C (ev i) s) fun s1 => gx_b (hx_next i) fun j =>
      if gx_sg K V 44 j then gx_b (hx_next j) fun j2 => hv K V P C ev f j2 (n + 1) s1
      else gx_b (hx_sign K V P 59 j) fun j2 => .inr (j2, n + 1, s1)))
theorem hv_decl {σ : Type} {K V P : Nat → Int} {C : gx_V → σ → gx_R σ} (fd : Bool) : ∀ f i n s, hp_decl K V P C fd f i n s = hv K V P C (fun i => (42, (i : Int), if fd = true then 1 else 0, 0)) f i n s
  | 0, _, _, _ => rfl
  | f + 1, i, n, s => by
    unfold hp_decl hv
    simp only [hv_decl fd f]
theorem hv_varn {σ : Type} {K V P : Nat → Int} {C : gx_V → σ → gx_R σ} : ∀ f i n s, hp_varn K V P C f i n s = hv K V P C (fun i => (50, (i : Int), 0, 0)) f i n s
  | 0, _, _, _ => rfl
  | f + 1, i, n, s => by
    unfold hp_varn hv
    simp only [hv_varn f]
/-- counts of the text, of the class, of the sub -/
def mh (cn sn vn : Nat) (fn pn ln : Int) (g : am_H) : Prop := g 254 14 = cn ∧ g 254 17 = sn ∧ g 254 16 = vn ∧ g 262 (cn - 1) = fn ∧ g 267 (sn - 1) = pn ∧ g 268 (sn - 1) = ln ∧ (1 ≤ cn → 0 ≤ g 254 60) ∧ (1 ≤ cn → g 254 60 ≤ g 254 16)
theorem mh.same {cn sn vn : Nat} {fn pn ln : Int} {g g1 : am_H} (H : mh cn sn vn fn pn ln g) (e : ∀ a, (a = 262 ∨ a = 267 ∨ a = 268) → g1 a = g a) (e4 : ∀ k, (k = 14 ∨ k = 16 ∨ k = 17 ∨ k = 60) → g1 254 k = g 254 k) : mh cn sn vn fn pn ln g1 := by
  unfold mh at *
  rw [e4 14 (by simp), e4 16 (by simp), e4 17 (by simp), e4 60 (by simp), e 262 (by simp), e 267 (by simp), e 268 (by simp)]
  exact H
theorem mh.dec {cn sn vn : Nat} {fn pn ln : Int} {g : am_H} (H : mh cn sn vn fn pn ln g) (x1 x2 x3 x4 x5 x6 : Int) : mh cn sn vn fn pn ln (mi_dec x1 x2 x3 x4 x5 x6 g) :=
  H.same (fun a ha => funext fun k => mi_dec_n _ _ _ _ _ _ _ _ _ (by omega) (by omega)) (fun k hk => mi_dec_n _ _ _ _ _ _ _ _ _ (by omega) (by omega))
theorem mh.fs {cn sn vn : Nat} {fn pn ln : Int} {g g1 : am_H} (H : mh cn sn vn fn pn ln g) (f : mi_fs g g1) : mh cn sn vn fn pn ln g1 :=
  H.same (fun a ha => by rcases ha with rfl | rfl | rfl <;> exact f.cell _ rfl rfl) (fun k hk => by rcases hk with rfl | rfl | rfl | rfl <;> exact f _ _ rfl rfl)
noncomputable def mv_E (d L k : Nat) (l : List (Option am_V)) (s : List am_V) (h : am_H) : Option am_O := am_E (am_D (d + 3)) m_17_32 (.inl k) l s (zS L, h)
section
variable {K V P : Nat → Int} {Z : Nat} {g0 : am_H} {deep st : Nat} (d L : Nat) {ty so : Int}
/-- declares(), from the first name on, whatever is declared -/
theorem mv_all (x1 x2 : Int) (ev : Nat → gx_V) (J : Nat → am_H → Prop)
    (hsel : ∀ n i g h x4 u6, mp_N K V P Z g0 [] i deep st g h → J n g → (if (x2 : Int) = 0 then mv_E d L 5 [some (am_r (am_a 254)), some (am_i x1), some (am_i x2), some (am_i ty), some (am_i x4), some (am_i i), u6] [am_i (h 254 16)] h else if (x2 : Int) = 1 then am_idx (am_w (h 254 14 - 1)) 13 fun k5 => mv_E d L 5 [some (am_r (am_a 254)), some (am_i x1), some (am_i x2), some (am_i ty), some (am_i x4), some (am_i i), u6] [am_i (h 262 k5)] h else am_idx x1 61 fun k4 => mv_E d L 5 [some (am_r (am_a 254)), some (am_i x1), some (am_i x2), some (am_i ty), some (am_i x4), some (am_i i), u6] [am_i (h 268 k4)] h) = mv_E d L 5 [some (am_r (am_a 254)), some (am_i x1), some (am_i x2), some (am_i ty), some (am_i x4), some (am_i i), u6] [am_i n] h)
    (hcap : ∀ i g, ¬ g 254 25 < 1090 → mi V (ev i) (g, ty, so, [], []) = .inl (8, 0))
    (hstep : ∀ n i g h u4, mp_N K V P Z g0 [] i deep st g h → J n g → n < 12 → g 254 25 < 1090 → ∃ g' h' u4' u5' u6', mi V (ev i) (g, ty, so, [], []) = .inr (g', ty, so, [], []) ∧ (if (x2 : Int) = 0 then mv_E d L 8 [some (am_r (am_a 254)), some (am_i x1), some (am_i x2), some (am_i ty), u4, some (am_i i), some (am_i n)] [am_i (h 254 60), am_i i, am_i ty, am_i x2, am_i x1, am_r (am_a 254)] h else mv_E d L 8 [some (am_r (am_a 254)), some (am_i x1), some (am_i x2), some (am_i ty), u4, some (am_i i), some (am_i n)] [am_i n, am_i i, am_i ty, am_i x2, am_i x1, am_r (am_a 254)] h) = mv_E d L 11 [some (am_r (am_a 254)), some (am_i x1), some (am_i x2), some (am_i ty), u4', u5', u6'] [] h' ∧ mp_N K V P Z g0 [] i deep st g' h' ∧ J (n + 1) g') :
    ∀ f i n g h u5 u6, mp_N K V P Z g0 [] i deep st g h → J n g → mo L (mv_E d L 1 [some (am_r (am_a 254)), some (am_i x1), some (am_i x2), some (am_i ty), some (am_i 1), u5, u6] [] h) g0 4910 (hv K V P (mi V) ev f i n (g, ty, so, [], [])) (fun a D => ∃ h', D = pV L h' ∧ (mp_N K V P Z g0 [] a.1 deep st a.2.2.1 h' ∧ J a.2.1 a.2.2.1 ∧ a.2.2.2 = (ty, so, [], [])))
  | 0, _, _, _, _, _, _, _, _ => fun z => absurd z (by decide)
  | f + 1, i, n, g, h, u5, u6, N, hJ => by
    have lt := N.lt
    have kq := mp_k_eq N.rg
    unfold hv gx_if
    conv => arg 2; unfold mv_E
    rw [q_17_32_1, if_neg (by decide), N.fa, if_pos rfl, N.nx, p_idx (by omega) (by omega), Int.toNat_natCast, N.kd]
    by_cases k2 : K i = 2
    · rw [if_pos k2, if_pos (kq.2.1.mpr k2)]
      have e := hsel n i g h 1 u6 N hJ
      unfold mv_E at e
      rw [e, q_17_32_5, D_17_29]
      by_cases hn : n < 12
      · rw [if_pos hn, if_pos (by omega), p_xV, N.fa, if_neg (by decide)]
        by_cases hc : g 254 25 < 1090
        · obtain ⟨g', h', u4', u5', u6', e1, e2, N2, J2⟩ := hstep n i g h (some (am_i 1)) N hJ hn hc
          unfold mv_E at e2
          obtain ⟨e3, N3⟩ := mp_go (d + 2) L N2 (by omega)
          rw [e1, gx_b_inr, e2, q_17_32_11, e3, p_xV, mp_isSign (d + 2) L N3, p_xI]
          show mo L _ g0 4910 (if gx_sg K V 44 (i + 1) then hv K V P (mi V) ev f (i + 1 + 1) (n + 1) (g', ty, so, [], []) else gx_b (hx_sign K V P 59 (i + 1)) fun j2 => .inr (j2, n + 1, (g', ty, so, [], []))) _
          by_cases s : gx_sg K V 44 (i + 1)
          · have hK : K (i + 1) ≠ 0 ∧ K (i + 1) ≠ 6 ∧ K (i + 1) ≠ 7 := ⟨by rw [s.1]; decide, by rw [s.1]; decide, by rw [s.1]; decide⟩
            obtain ⟨e4, N4⟩ := mp_go (d + 2) L N3 hK
            rw [if_pos s, pB_t s, if_neg (by decide), e4, p_xV]
            exact mv_all x1 x2 ev J hsel hcap hstep f _ _ _ _ _ _ N4 J2
          · rw [if_neg s, pB_f s, if_pos rfl, q_17_32_1, if_pos rfl]
            refine mn_sign (m := 4900) d L N3 59 (by omega) (mbk_ret L (by omega)) (fun h5 N5 => ?_)
            exact ⟨h5, rfl, N5, J2, rfl⟩
        · rw [hcap i g hc]; exact fun z => absurd z (by decide)
      · obtain ⟨h1, e1, B1⟩ := mp_wrong (d + 1) L N 2 (by decide) i N.iz
        have b1 := B1.2.1
        rw [if_neg hn, if_neg (by omega), e1, p_xV, p_xV, if_pos (by rw [B1.2.2.1]; exact b1)]
        exact fun _ => ⟨h1, rfl, B1.le (by omega)⟩
    · obtain ⟨h1, e1, B1⟩ := mp_syntax (d + 1) L N
      rw [if_neg k2, if_neg (fun z => k2 (kq.2.1.mp z)), e1, p_xV]
      exact fun _ => ⟨h1, rfl, B1.le (by omega)⟩
end
