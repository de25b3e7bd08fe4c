/-! PURE LAYER, 54: the model's blocks end: each sort -/
section
variable {K V P : Nat → Int} {Z : Nat} {g0 : am_H} {i deep st : Nat} {g h : am_H} (d L : Nat) {bs : List (Int × Int × Int × Int)} {ty so : Int}
theorem mi_27 (b : Int × Int × Int × Int) (g : am_H) : mi V (27, 0, 0, 0) (g, ty, so, b :: bs, []) = gx_b (mi_add 20 b.2.1 0 0 (am_up g 254 55 (bs.length : Int))) fun g1 => gx_b (mi_add 12 0 0 0 (am_up g1 278 b.2.2.1.toNat (g 254 33))) fun g2 => .inr (g2, ty, so, bs, []) := rfl
theorem mi_28 (b : Int × Int × Int × Int) (g : am_H) : mi V (28, 0, 0, 0) (g, ty, so, b :: bs, []) = gx_b (mi_add 20 (b.2.1 + 1) 0 0 (am_up g 254 55 (bs.length : Int))) fun g1 => gx_b (mi_add 12 0 0 0 (am_up g1 278 b.2.2.1.toNat (g 254 33))) fun g2 => .inr (g2, ty, so, bs, []) := rfl
theorem mi_32 (b : Int × Int × Int × Int) (g : am_H) : mi V (32, 0, 0, 0) (g, ty, so, b :: bs, []) = gx_b (mi_add 16 b.2.2.2 b.2.1 0 (am_up g 254 55 (bs.length : Int))) fun g1 => gx_b (mi_add 20 (b.2.1 + 1) 0 0 g1) fun g2 => gx_b (mi_add 12 0 0 0 (am_up g2 278 b.2.2.1.toNat (g1 254 33))) fun g3 => .inr (g3, ty, so, bs, []) := rfl
theorem mi_26 (b : Int × Int × Int × Int) (g : am_H) : mi V (26, 0, 0, 0) (g, ty, so, b :: bs, []) = gx_b (mi_add 16 0 (b.2.1 + 1) 0 (am_up g 254 55 (bs.length : Int))) fun g1 => gx_b (mi_add 20 b.2.1 0 0 g1) fun g2 => .inr (mi_blk bs.length 2 b.2.1 (g 254 33) 0 (am_up g2 278 b.2.2.1.toNat (g1 254 33)), ty, so, (2, b.2.1, g 254 33, 0) :: bs, []) := rfl
/-- blocks0 goes down by one -/
theorem mq_down {b : Int × Int × Int × Int} (Q : mp_Q K V P Z g0 (b :: bs) i deep st g h) : mp_N K V P Z g0 [] i deep st (am_up g 254 55 (bs.length : Int)) (am_up h 254 55 (bs.length : Int)) := Q.1.both 254 55 _ rfl rfl rfl (Q.1.ok.f (by omega))
/-- a label, the hole, and done -/
theorem mq_lab {b : Int × Int × Int × Int} {α : Type} {F : mi_S → gx_R α} {ok : α → Option am_O → Prop} (Q : mp_Q K V P Z g0 (b :: bs) i deep st g h) (n : Int) {g1 h1 : am_H} (N1 : mp_N K V P Z g0 [] i deep st g1 h1) (kp : ∀ a, (a = 293 ∨ a = 294 ∨ a = 295 ∨ a = 296) → g1 a = g a) (e55 : g1 254 55 = bs.length) (e33 : g1 254 33 = g 254 33) (u1 u2 u3 : Option am_V)
    (hk : ∀ g2 h2, mp_Q K V P Z g0 bs i deep st g2 h2 → mo L (ms_L d L h2) g0 4980 (F (g2, ty, so, bs, [])) ok) :
    mo L (am_xV (zS L) (am_E (am_D (d + 11)) m_17_37 (.inl 4) [some (am_r (am_a 254)), u1, u2, u3] [am_i n, am_i 20, am_r (am_a 254), am_i b.2.2.1, am_r (am_a 278)] (zS L, h1)) (am_up1 (zS L)) (ms_L d L)) g0 4980 (gx_b (gx_b (mi_add 20 n 0 0 g1) fun g2 => gx_b (mi_add 12 0 0 0 (am_up g2 278 b.2.2.1.toNat (g 254 33))) fun g3 => (.inr (g3, ty, so, bs, []) : gx_R mi_S)) F) ok := by
  have lt := N1.lt
  obtain ⟨-, ⟨b1, b2, b3, b4⟩, Bs⟩ := Q.2.2.1
  have a1 : (zS L)[278]? = some (1, 5000, []) := rfl
  rw [q_17_37_4, p_xVI, gx_b_assoc, N1.nx]
  refine mn_add0 (d + 10) L N1 20 n 0 0 i (by unfold mp_rel; omega) (by omega) (fun h2 N2 _ => ?_)
  rw [p_arr a1, p_idx b3 (by omega), gx_b_assoc]
  show mo L (am_xV (zS L) (am_xI (zS L) (am_D (d + 11) 17 25 [am_r (am_a 254), am_i 12, am_i 0, am_i 0, am_i ((am_up h2 278 b.2.2.1.toNat (g1 254 33)) 254 10)] (zS L, (am_up h2 278 b.2.2.1.toNat (g1 254 33)))) (am_up1 (zS L)) fun v7 h6 => some (.inl none, (zS L, h6))) (am_up1 (zS L)) (ms_L d L)) g0 4980 _ ok
  have N3 := N2.hole b.2.2.1.toNat (g1 254 33)
  rw [p_xVI, N3.nx, e33] at *
  refine mn_add0 (d + 10) L N3 12 0 0 0 i (by unfold mp_rel; omega) (by omega) (fun h4 N4 _ => ?_)
  rw [p_xV]
  have kp4 : mk_kp g1 (mi_put 12 0 0 0 (am_up (mi_put 20 n 0 0 g1) 278 b.2.2.1.toNat (g 254 33))) := (mk_kp_put _ _ _ _ _).trans ((mk_kp_up (by omega)).trans (mk_kp_put _ _ _ _ _))
  have ll := Q.2.2.2
  simp at ll
  exact hk _ h4 ⟨N4, by rw [kp4.2.1]; exact e55, mk_bs (mk_bs Bs kp) kp4.1, by omega⟩
/-- how ends() begins -/
theorem mq_ends0 {b : Int × Int × Int × Int} (Q : mp_Q K V P Z g0 (b :: bs) i deep st g h) : am_D (d + 12) 17 37 [am_r (am_a 254)] (zS L, h) = if b.1 = 1 then am_xI (zS L) (am_D (d + 11) 17 20 [am_r (am_a 254), am_i 18] (zS L, (am_up h 254 55 (bs.length : Int)))) (am_up1 (zS L)) fun v5 h4 => if (v5 : Int) = 0 then am_E (am_D (d + 11)) m_17_37 (.inl 1) [some (am_r (am_a 254)), some (am_i b.2.1), some (am_i b.2.2.1), none] [] (zS L, h4) else am_xV (zS L) (am_D (d + 11) 17 21 [am_r (am_a 254)] (zS L, h4)) (am_up1 (zS L)) fun h6 => am_xI (zS L) (am_D (d + 11) 17 25 [am_r (am_a 254), am_i 16, am_i 0, am_i (am_w (b.2.1 + 1)), am_i (h6 254 10)] (zS L, h6)) (am_up1 (zS L)) fun v8 h7 => am_xI (zS L) (am_D (d + 11) 17 25 [am_r (am_a 254), am_i 20, am_i b.2.1, am_i 0, am_i (h7 254 10)] (zS L, h7)) (am_up1 (zS L)) fun v10 h9 => am_idx b.2.2.1 5000 fun k11 => am_xV (zS L) (am_D (d + 11) 17 35 [am_r (am_a 254), am_i 2, am_i b.2.1, am_i v8, am_i 0] (zS L, (am_up h9 278 k11 v10))) (am_up1 (zS L)) fun h12 => some (.inl none, (zS L, h12)) else am_E (am_D (d + 11)) m_17_37 (.inl 1) [some (am_r (am_a 254)), some (am_i b.2.1), some (am_i b.2.2.1), none] [] (zS L, am_up h 254 55 (bs.length : Int)) := by
  obtain ⟨⟨s1, s2, s3, s4⟩, -, -⟩ := Q.2.2.1
  have l := Q.2.1
  have ll := Q.2.2.2
  simp at l ll
  rw [D_17_37, Q.1.eq 254 55 rfl rfl, l, p_w (by omega) (by omega), show (bs.length : Int) + 1 - 1 = (bs.length : Int) by omega, p_idx (by omega) (by omega), p_idx (by omega) (by omega), p_idx (by omega) (by omega), Int.toNat_natCast, Q.1.eq 293 _ rfl (by simp [mp_F]), Q.1.eq 294 _ rfl (by simp [mp_F]), Q.1.eq 295 _ rfl (by simp [mp_F]), s1, s2, s3]
/-- an if without else ends -/
theorem mq_end27 {b : Int × Int × Int × Int} {α : Type} {F : mi_S → gx_R α} {ok : α → Option am_O → Prop} (Q : mp_Q K V P Z g0 (b :: bs) i deep st g h) (hb : b.1 = 1) (hw : ¬ gx_wd K V 18 i) (hk : ∀ g2 h2, mp_Q K V P Z g0 bs i deep st g2 h2 → mo L (ms_L d L h2) g0 4980 (F (g2, ty, so, bs, [])) ok) : mo L (am_xV (zS L) (am_D (d + 12) 17 37 [am_r (am_a 254)] (zS L, h)) (am_up1 (zS L)) (ms_L d L)) g0 4980 (gx_b (mi V (27, 0, 0, 0) (g, ty, so, b :: bs, [])) F) ok := by
  have N1 := mq_down Q
  obtain ⟨⟨s1, s2, s3, s4⟩, -, -⟩ := Q.2.2.1
  have ll := Q.2.2.2
  simp at ll
  have e293 : am_up h 254 55 (bs.length : Int) 293 bs.length = 1 := by rw [p_up_c _ _ _ _ _ (by decide), Q.1.eq 293 _ rfl (by simp [mp_F]), s1]; exact hb
  rw [mq_ends0 d L Q, if_pos hb, mp_isWord (d + 10) L N1, p_xI, if_pos (by rw [pB_f hw]), q_17_37_1, p_up_s, p_idx (by omega) (by omega), Int.toNat_natCast, e293, if_neg (by decide), p_idx (by omega) (by omega), Int.toNat_natCast, e293, if_neg (by decide), mi_27]
  exact mq_lab d L Q b.2.1 N1 (fun a ha => p_up_c _ _ _ _ _ (by omega)) (p_up_s _ _ _ _) (p_up_n _ _ _ _ _ _ (Or.inr (by decide))) _ _ _ hk
/-- an else ends -/
theorem mq_end28 {b : Int × Int × Int × Int} {α : Type} {F : mi_S → gx_R α} {ok : α → Option am_O → Prop} (Q : mp_Q K V P Z g0 (b :: bs) i deep st g h) (hb : b.1 = 2) (hk : ∀ g2 h2, mp_Q K V P Z g0 bs i deep st g2 h2 → mo L (ms_L d L h2) g0 4980 (F (g2, ty, so, bs, [])) ok) : mo L (am_xV (zS L) (am_D (d + 12) 17 37 [am_r (am_a 254)] (zS L, h)) (am_up1 (zS L)) (ms_L d L)) g0 4980 (gx_b (mi V (28, 0, 0, 0) (g, ty, so, b :: bs, [])) F) ok := by
  have N1 := mq_down Q
  obtain ⟨⟨s1, s2, s3, s4⟩, ⟨b1, b2, -⟩, -⟩ := Q.2.2.1
  have ll := Q.2.2.2
  simp at ll
  have e293 : am_up h 254 55 (bs.length : Int) 293 bs.length = 2 := by rw [p_up_c _ _ _ _ _ (by decide), Q.1.eq 293 _ rfl (by simp [mp_F]), s1]; exact hb
  rw [mq_ends0 d L Q, if_neg (by omega), q_17_37_1, p_up_s, p_idx (by omega) (by omega), Int.toNat_natCast, e293, if_neg (by decide), p_idx (by omega) (by omega), Int.toNat_natCast, e293, if_pos rfl, p_w (by omega) (by omega), mi_28]
  exact mq_lab d L Q (b.2.1 + 1) N1 (fun a ha => p_up_c _ _ _ _ _ (by omega)) (p_up_s _ _ _ _) (p_up_n _ _ _ _ _ _ (Or.inr (by decide))) _ _ _ hk
/-- a while ends -/
theorem mq_end32 {b : Int × Int × Int × Int} {α : Type} {F : mi_S → gx_R α} {ok : α → Option am_O → Prop} (Q : mp_Q K V P Z g0 (b :: bs) i deep st g h) (hb : b.1 = 3) (hk : ∀ g2 h2, mp_Q K V P Z g0 bs i deep st g2 h2 → mo L (ms_L d L h2) g0 4980 (F (g2, ty, so, bs, [])) ok) : mo L (am_xV (zS L) (am_D (d + 12) 17 37 [am_r (am_a 254)] (zS L, h)) (am_up1 (zS L)) (ms_L d L)) g0 4980 (gx_b (mi V (32, 0, 0, 0) (g, ty, so, b :: bs, [])) F) ok := by
  have N1 := mq_down Q
  have lt := N1.lt
  obtain ⟨⟨s1, s2, s3, s4⟩, ⟨b1, b2, b3, b4⟩, Bs⟩ := Q.2.2.1
  have ll := Q.2.2.2
  simp at ll
  have e293 : am_up h 254 55 (bs.length : Int) 293 bs.length = 3 := by rw [p_up_c _ _ _ _ _ (by decide), Q.1.eq 293 _ rfl (by simp [mp_F]), s1]; exact hb
  have e296 : am_up h 254 55 (bs.length : Int) 296 bs.length = b.2.2.2 := by rw [p_up_c _ _ _ _ _ (by decide), Q.1.eq 296 _ rfl (by simp [mp_F]), s4]
  rw [mq_ends0 d L Q, if_neg (by omega), q_17_37_1, p_up_s, p_idx (by omega) (by omega), Int.toNat_natCast, e293, if_pos rfl, p_idx (by omega) (by omega), Int.toNat_natCast, e296, N1.nx, p_xVI, mi_32, gx_b_assoc, p_w (by omega) (by omega)]
  refine mn_add0 (d + 10) L N1 16 b.2.2.2 b.2.1 0 i (by unfold mp_rel; omega) (by omega) (fun h2 N2 _ => ?_)
  rw [p_xVI, N2.nx, gx_b_assoc]
  refine mn_add0 (d + 10) L N2 20 (b.2.1 + 1) 0 0 i (by unfold mp_rel; omega) (by omega) (fun h3 N3 _ => ?_)
  have N4 := N3.hole b.2.2.1.toNat (mi_put 16 b.2.2.2 b.2.1 0 (am_up g 254 55 (bs.length : Int)) 254 33)
  rw [p_idx b3 (by omega), p_xVI, N3.nx, gx_b_assoc]
  refine mn_add0 (d + 10) L N4 12 0 0 0 i (by unfold mp_rel; omega) (by omega) (fun h5 N5 _ => ?_)
  rw [p_xV]
  have kp : mk_kp (am_up g 254 55 (bs.length : Int)) (mi_put 12 0 0 0 (am_up (mi_put 20 (b.2.1 + 1) 0 0 (mi_put 16 b.2.2.2 b.2.1 0 (am_up g 254 55 (bs.length : Int)))) 278 b.2.2.1.toNat (mi_put 16 b.2.2.2 b.2.1 0 (am_up g 254 55 (bs.length : Int)) 254 33))) := (mk_kp_put _ _ _ _ _).trans ((mk_kp_put _ _ _ _ _).trans ((mk_kp_up (by omega)).trans (mk_kp_put _ _ _ _ _)))
  exact hk _ h5 ⟨N5, by rw [kp.2.1, p_up_s], mk_bs (mk_bs Bs (fun a ha => p_up_c _ _ _ _ _ (by omega))) kp.1, by omega⟩
end
