/-! PURE LAYER, 26: the tables change while a text is read -/
theorem ce_ok.upc {g : am_H} (ok : ce_ok g) {a k : Nat} {v : Int} (ha : [8, 235, 213, 217, 223, 229].contains a = false) : ce_ok (am_up g a k v) := by
  have n : ∀ b, [8, 235, 213, 217, 223, 229].contains b = true → am_up g a k v b = g b := by
    intro b hb
    refine p_up_c _ _ _ _ _ (fun e => ?_)
    rw [e, ha] at hb; cases hb
  unfold ce_ok at ok ⊢
  rw [n 8 rfl, n 235 rfl, n 213 rfl, n 217 rfl, n 223 rfl, n 229 rfl]
  exact ok
section
variable {K V P : Nat → Int} {sy w : Bool} {Z : Nat} {g0 : am_H} {i deep st : Nat} {g h : am_H}
theorem pc_N.up (N : pc_N K V P sy w Z g0 i deep st g h) (a k : Nat) (v : Int) (hc : (pc_C.contains a || pc_P.contains (a, k)) = true) (h9 : [8, 9, 10, 11].contains a = false) (hp : (a == 212 && Nat.ble k 12) = false) (hcl : (a = 214 ∨ a = 215 ∨ a = 216) → g 212 20 ≤ k) (hsb : (a = 218 ∨ a = 219 ∨ a = 220 ∨ a = 221 ∨ a = 222) → g 212 21 ≤ k) (ok : ce_ok (am_up g a k v)) :
    pc_N K V P sy w Z g0 i deep st (am_up g a k v) (am_up h a k v) := by
  have q : ce_Q g (am_up g a k v) := by
    have n9 : ∀ b, [8, 9, 10, 11].contains b = true → am_up g a k v b = g b := by
      intro b hb
      refine p_up_c _ _ _ _ _ (fun e => ?_)
      rw [e, h9] at hb; cases hb
    refine ⟨?_, by rw [n9 8 rfl]; exact Int.le_refl _, fun k' _ => by rw [n9 9 rfl, n9 10 rfl, n9 11 rfl]; exact ⟨rfl, rfl, rfl⟩, fun k' hk => ?_, fun k' hk => ?_⟩
    · rw [Bool.or_eq_true] at hc
      rcases hc with c | c
      · exact (p_fr.refl g).upc _ _ _ c
      · exact (p_fr.refl g).upf _ _ _ c
    · have ne : ∀ b, (b = 214 ∨ b = 215 ∨ b = 216) → am_up g a k v b k' = g b k' := by
        intro b hb
        refine p_up_n _ _ _ _ _ _ ?_
        by_cases e : b = a
        · right; have := hcl (by rw [← e]; exact hb); omega
        · exact Or.inl e
      exact ⟨ne 214 (by simp), ne 215 (by simp), ne 216 (by simp)⟩
    · have ne : ∀ b, (b = 218 ∨ b = 219 ∨ b = 220 ∨ b = 221 ∨ b = 222) → am_up g a k v b k' = g b k' := by
        intro b hb
        refine p_up_n _ _ _ _ _ _ ?_
        by_cases e : b = a
        · right; have := hsb (by rw [← e]; exact hb); omega
        · exact Or.inl e
      exact ⟨ne 218 (by simp), ne 219 (by simp), ne 220 (by simp), ne 221 (by simp), ne 222 (by simp)⟩
  have n12 : ∀ m, m ≤ 12 → am_up h a k v 212 m = h 212 m := by
    intro m hm
    refine p_up_n _ _ _ _ _ _ ?_
    by_cases e : (212 : Nat) = a
    · right
      rw [← e] at hp
      have : Nat.ble k 12 = false := by simpa using hp
      intro z; rw [← z, Nat.ble_eq_true_of_le hm] at this; cases this
    · exact Or.inl e
  exact ⟨N.R.upd (pc_fr_both N.R.1 _ _ _) (n12 8 (by omega)) (n12 11 (by omega)) (n12 12 (by omega)) q.1 ok, N.2.1.trans q, N.2.2⟩
section
variable (d L : Nat) {β : Type}
/-- type(): its answer is told -/
theorem pn_type {k : Int → am_H → Option am_O} {F : Nat × ce_S → gx_R β} {ok : β → Option am_O → Prop} {q : Int × Int × Int × Int × Int × List (Int × Int × Int × Int)} (N : pc_N K V P sy w Z g0 i deep st g h) (hk : ∀ j t h1, pc_N K V P sy w Z g0 j deep st g h1 → pc_o L (k t h1) g0 (F (j, (g, t, q.2))) ok) :
    pc_o L (am_xI (zS L) (am_D (d + 5) 7 36 [am_r (am_a 212)] (zS L, h)) (am_up1 (zS L)) k) g0 (gx_b (gx_type sy K V P (ce w sy K V P) i (g, q)) F) ok := by
  have hX : pc_o L (am_D (d + 5) 7 36 [am_r (am_a 212)] (zS L, h)) g0 (gx_type sy K V P (ce w sy K V P) i (g, q)) (fun a D => ∃ v h1, D = pI L v h1 ∧ (pc_N K V P sy w Z g0 a.1 deep st g h1 ∧ a.2 = (g, v, q.2))) := by
    unfold gx_type
    have e8 : ∀ (b : Bool) (t : Int), (b = true → K i = 1) → (b = false → K i = 2 ∧ t = ce_cof sy g (V i)) → (b = true → t = -1) → pc_o L (am_E (am_D (d + 4)) m_7_36 (.inl 8) [some (am_r (am_a 212)), some (am_i (pB (b = true))), none] [am_i t] (zS L, h)) g0 (gx_b (ce_chk w (b = true ∨ t ≠ -1) (4, P i) (.inr (g, t, q.2) : gx_R ce_S)) fun s1 => gx_b (gx_next sy K P i) fun j => .inr (j, s1)) (fun a D => ∃ v h1, D = pI L v h1 ∧ (pc_N K V P sy w Z g0 a.1 deep st g h1 ∧ a.2 = (g, v, q.2))) := by
      intro b t hb1 hb2 hb3
      have hK : K i ≠ 0 ∧ K i ≠ 6 := by
        cases b with
        | true => rw [hb1 rfl]; exact ⟨by decide, by decide⟩
        | false => rw [(hb2 rfl).1]; exact ⟨by decide, by decide⟩
      have fin : ∀ s0 : Int, s0 = pB (b = true ∨ t ≠ -1) → pc_o L (am_xI (zS L) (am_D (d + 4) 7 3 [am_r (am_a 212)] (zS L, h)) (am_up1 (zS L)) fun v2 h1 => am_xV (zS L) (am_D (d + 4) 7 9 [am_r (am_a 212), am_i s0, am_i 4, am_i v2] (zS L, h1)) (am_up1 (zS L)) fun h3 => am_xV (zS L) (am_D (d + 4) 7 10 [am_r (am_a 212)] (zS L, h3)) (am_up1 (zS L)) fun h4 => some (.inl (some (am_i t)), (zS L, h4))) g0 (gx_b (ce_chk w (b = true ∨ t ≠ -1) (4, P i) (.inr (g, t, q.2) : gx_R ce_S)) fun s1 => gx_b (gx_next sy K P i) fun j => .inr (j, s1)) (fun a D => ∃ v h1, D = pI L v h1 ∧ (pc_N K V P sy w Z g0 a.1 deep st g h1 ∧ a.2 = (g, v, q.2))) := by
        intro s0 es
        rw [pc_here (d + 3) L N.R N.lt, p_xI, es, ce_chk_b]
        refine pn_check (d + 2) L N _ 4 (P i) (fun _ => ?_)
        rw [gx_b_inr]
        exact pn_next (d + 1) L N hK (fun j h2 _ N2 => ⟨_, h2, rfl, N2, rfl⟩)
      rw [q_7_36_8]
      simp only [pB_0]
      cases b with
      | true => rw [if_neg (by simp)]; exact fin 1 (by rw [pB_t (Or.inl rfl)])
      | false =>
        rw [if_pos (by simp)]
        by_cases c : t = -1
        · rw [if_pos c]; exact fin 0 (by rw [pB_f]; rintro (z | z); cases z; exact z c)
        · rw [if_neg c]; exact fin 1 (by rw [pB_t (Or.inr c)])
    have e3 : ∀ b : Bool, (b = true ↔ (gx_wd K V 7 i ∨ gx_wd K V 8 i ∨ gx_wd K V 9 i)) → pc_o L (am_E (am_D (d + 4)) m_7_36 (.inl 3) [some (am_r (am_a 212)), none, none] [am_i (pB (b = true))] (zS L, h)) g0 (gx_if (gx_wd K V 7 i ∨ gx_wd K V 8 i ∨ gx_wd K V 9 i ∨ K i = 2) (1, P i) (gx_b (ce w sy K V P (41, (i : Int), 0, 0) (g, q)) fun s1 => gx_b (gx_next sy K P i) fun j => .inr (j, s1))) (fun a D => ∃ v h1, D = pI L v h1 ∧ (pc_N K V P sy w Z g0 a.1 deep st g h1 ∧ a.2 = (g, v, q.2))) := by
      intro b hb
      rw [q_7_36_3]
      simp only [pB_0]
      have ece : ce w sy K V P (41, (i : Int), 0, 0) (g, q) = (if K i = 1 then .inr (g, -1, q.2) else ce_q (ce_nm g (V i) ∧ 0 ≤ g 212 20 ∧ g 212 20 ≤ g 213 3) (ce_chk w (ce_cof sy g (V i) ≠ -1) (4, P i) (.inr (g, ce_cof sy g (V i), q.2)))) := by
        show (if K ((i : Int)).toNat = 1 then .inr (g, -1, q.2) else ce_q (ce_nm g (V ((i : Int)).toNat) ∧ 0 ≤ g 212 20 ∧ g 212 20 ≤ g 213 3) (ce_chk w (ce_cof sy g (V ((i : Int)).toNat) ≠ -1) (4, P ((i : Int)).toNat) (.inr (g, ce_cof sy g (V ((i : Int)).toNat), q.2)))) = _
        rw [Int.toNat_natCast]
      cases b with
      | true =>
        have hw := hb.mp rfl
        have k1 : K i = 1 := by rcases hw with z | z | z <;> exact z.1
        have hp : gx_wd K V 7 i ∨ gx_wd K V 8 i ∨ gx_wd K V 9 i ∨ K i = 2 := by
          rcases hw with z | z | z
          · exact Or.inl z
          · exact Or.inr (Or.inl z)
          · exact Or.inr (Or.inr (Or.inl z))
        rw [if_neg (by simp), show am_D (d + 4) 7 7 [am_r (am_a 212), am_i 1] (zS L, h) = pV L h by rw [D_7_7, if_neg (by decide)], p_xV, if_neg (by simp), ece, if_pos k1]
        unfold gx_if
        rw [if_pos hp]
        have t := e8 true (-1) (fun _ => k1) (fun z => by cases z) (fun _ => rfl)
        unfold ce_chk at t
        rw [if_neg (fun z => z.2 (Or.inl rfl))] at t
        exact t
      | false =>
        have hw : ¬ (gx_wd K V 7 i ∨ gx_wd K V 8 i ∨ gx_wd K V 9 i) := fun z => by cases hb.mpr z
        rw [if_pos (by simp), pc_token (d + 3) L N.R N.lt, p_xI]
        have ei : (gx_wd K V 7 i ∨ gx_wd K V 8 i ∨ gx_wd K V 9 i ∨ K i = 2) ↔ K i = 2 := by
          constructor
          · rintro (z | z | z | z)
            · exact absurd (Or.inl z) hw
            · exact absurd (Or.inr (Or.inl z)) hw
            · exact absurd (Or.inr (Or.inr z)) hw
            · exact z
          · exact fun z => Or.inr (Or.inr (Or.inr z))
        unfold gx_if
        simp only [ei]
        by_cases k2 : K i = 2
        · rw [if_pos k2, if_pos k2, show am_D (d + 4) 7 7 [am_r (am_a 212), am_i 1] (zS L, h) = pV L h by rw [D_7_7, if_neg (by decide)], p_xV, if_pos (by simp), ece, if_neg (by omega)]
          unfold ce_q
          by_cases hq : ce_nm g (V i) ∧ 0 ≤ g 212 20 ∧ g 212 20 ≤ g 213 3
          · rw [if_pos hq, pc_value (d + 3) L N.R N.lt, p_xI]
            have h20 : 0 ≤ h 212 20 ∧ h 212 20 ≤ h 213 3 := by rw [N.R.eq 212 20 rfl, N.R.eq 213 3 rfl]; exact hq.2
            rw [fi_cof (d + 2) L N.R.syq _ ((N.R.nm _).mpr hq.1) N.R.okh.2.2.2.2.1 h20, p_xI, N.R.cof]
            have t := e8 false (ce_cof sy g (V i)) (fun z => by cases z) (fun _ => ⟨k2, rfl⟩) (fun z => by cases z)
            have ec : ce_chk w ((false : Bool) = true ∨ ce_cof sy g (V i) ≠ -1) (4, P i) (.inr (g, ce_cof sy g (V i), q.2) : gx_R ce_S) = ce_chk w (ce_cof sy g (V i) ≠ -1) (4, P i) (.inr (g, ce_cof sy g (V i), q.2)) := by
              unfold ce_chk; simp
            rw [ec] at t
            exact t
          · rw [if_neg hq]; exact fun z => absurd z (by decide)
        · rw [if_neg k2, if_neg k2]
          exact fun _ => pc_thr_xV L (by
            have := (pc_need (d + 2) L N.R N.lt False).mono N.2.1
            rw [pB_f (fun z => z)] at this
            unfold gx_if at this
            rw [if_neg (fun z => z)] at this
            exact this (by show (1 : Int) < 8; decide))
    rw [D_7_36, pc_isWord (d + 2) L N.R N.lt, p_xI]
    simp only [pB_0]
    by_cases w7 : gx_wd K V 7 i
    · rw [if_neg (fun z => z w7)]
      have t := e3 true ⟨fun _ => Or.inl w7, fun _ => rfl⟩
      rw [pB_t rfl] at t; exact t
    · rw [if_pos w7, pc_isWord (d + 2) L N.R N.lt, p_xI]
      simp only [pB_0]
      by_cases w8 : gx_wd K V 8 i
      · rw [if_neg (fun z => z w8)]
        have t := e3 true ⟨fun _ => Or.inr (Or.inl w8), fun _ => rfl⟩
        rw [pB_t rfl] at t; exact t
      · rw [if_pos w8, pc_isWord (d + 2) L N.R N.lt, p_xI]
        simp only [pB_0]
        by_cases w9 : gx_wd K V 9 i
        · rw [if_neg (fun z => z w9)]
          have t := e3 true ⟨fun _ => Or.inr (Or.inr w9), fun _ => rfl⟩
          rw [pB_t rfl] at t; exact t
        · rw [if_pos w9]
          have t := e3 false ⟨(fun z => by cases z), (fun z => z.elim (fun y => absurd y w7) (fun y => y.elim (fun x => absurd x w8) (fun x => absurd x w9)))⟩
          rw [pB_f (by simp)] at t; exact t
  refine pc_bI hX ?_
  rintro ⟨j, s⟩ v h1 - ⟨N1, e⟩
  have e : s = (g, v, q.2) := e
  subst e
  exact hk j v h1 N1
end
end
