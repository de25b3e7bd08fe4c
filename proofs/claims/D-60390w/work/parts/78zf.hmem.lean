/-! HACK, 5: reading and writing, doors, how a run ends -/
/-- from one heap to another -/
def HQ (L n : Nat) (h : am_H) (x : hX) (h' : am_H) (x' : hX) : Prop := hrg x → hrg x' ∧ ∀ o, H3 L n h' x' o → H4 L n h x o
/-- the run ends -/
def HF (L n : Nat) (h : am_H) (x : hX) (e : Int) (hf : am_H) : Prop := hrg x → H4 L n h x (pI L e hf) ∧ ∀ k, rg16 (hf 18 k)
/-- keys, output -/
def kyC (ky : List Int) (h : am_H) : Prop := h 17 5 = (ky.length : Int) ∧ ky.length ≤ 200 ∧ ∀ j c, ky[j]? = some c → am_and (h 19 j) 255 = c ∧ 0 ≤ c ∧ c ≤ 255
def IOR (ky : List Int) (G : vG) (h : am_H) : Prop := kyC ky h ∧ (h 17 6 = (G.2.1 : Int) ∧ G.2.1 ≤ ky.length) ∧ (h 17 7 = (G.2.2.length : Int) ∧ G.2.2.length ≤ 3000 ∧ ∀ j c, G.2.2[j]? = some c → h 20 j % 256 = c)
/-- cells that doors change -/
def ioC : List Nat := [20]
def ioF : List (Nat × Nat) := [(17, 6), (17, 7)]
def spF : List (Nat × Nat) := [(17, 12), (17, 13), (17, 14), (17, 6), (17, 7)]
section
variable {L n : Nat} {h h' h'' : am_H} {r : Nat → Int} {ab lb : Nat} {as ls : List Int} {th tm : Option Int} {st : List Int} {G : vG} {a d : Int} {ky : List Int} {x y z : hX}
theorem Hq.hq (A : Hq L n h x y) : HQ L n h x h y := A
theorem HQ.then {p : Nat} {a d : Int} {r : Nat → Int} (A : HQ L n h x h' ((p : Int), a, d, r)) (E : h' 17 14 ≠ 0) (m : p < 32768 ∧ h' 16 p = 0) (B : HQ L n h' ((p : Int), a, d, r) h'' z) : HQ L n h x h'' z := fun rx => by
  obtain ⟨ry, f⟩ := A rx
  obtain ⟨rz, g⟩ := B ry
  exact ⟨rz, fun o H => f o (h34 E m.1 m.2 (g o H))⟩
theorem HQ.fin {p : Nat} {a d : Int} {r : Nat → Int} {e : Int} (A : HQ L n h x h' ((p : Int), a, d, r)) (E : h' 17 14 ≠ 0) (m : p < 32768 ∧ h' 16 p = 0) (B : HF L n h' ((p : Int), a, d, r) e h'') : HF L n h x e h'' := fun rx => by
  obtain ⟨ry, f⟩ := A rx
  exact ⟨f _ (h34 E m.1 m.2 (B ry).1), (B ry).2⟩
/-- where the run has stopped -/
theorem h_stop {p : Int} (E : h 17 14 = 0) : H3 L n h (p, a, d, r) (pI L (h 17 12) (rr h r)) := by
  intro u1 u2 u6 u7 u8 u9 u10
  dsimp only
  rw [q_10_7_3, rr_n _ _ (by decide), if_pos E]
/-- D = M at a door -/
theorem c_door {p k : Nat} {v : Int} (E : h 17 14 ≠ 0) (hp : p < 32768) (hk : 32000 ≤ k) (hk2 : k < 32768) (hw : h 13 p = -1008) (hv : am_D (n + 3) 10 1 [am_r (am_a 17), am_i (k : Int)] (zS L, rr h r) = pI L v (rr h' r)) (rv : rg16 v) : HQ L n h ((p : Int), (k : Int), d, r) h' ((p : Int) + 1, (k : Int), v, r) := by
  intro ⟨ra, rd, rr'⟩
  refine ⟨⟨ra, rv, rr'⟩, fun o H => ?_⟩
  intro u1 u2 u6 u7 u8 u9 u10
  dsimp only
  have wy : pb_work 48 d v = v := wk_y rd rv
  rw [q_10_7_4, p_idx (by omega) (by omega), rr_n _ _ (by decide), if_neg E, rr_n _ _ (by decide), Int.toNat_natCast, hw, if_pos (by decide), p_w (by omega) (by omega), if_neg (by decide), ka2 k hk2, hv, p_xI, q_10_7_8, show am_and (am_shr (-1008) 6) 63 = 48 by decide, pb_D_10_5, wy, p_xI, if_pos (by decide), q_10_7_9, if_pos (by decide), if_neg (by decide), q_10_7_11, pb_D_10_6, p_xI, pB_f (by intro z; rcases z with z | z | z <;> exact z.1 (by decide)), if_pos rfl]
  exact H u1 u2 u6 _ _ _ _
/-- M = D at a door -/
theorem c_dwr {p k : Nat} (E : h 17 14 ≠ 0) (hp : p < 32768) (hk : 32000 ≤ k) (hk2 : k < 32768) (hw : h 13 p = -7416) (hv : rg16 d → am_D (n + 3) 10 2 [am_r (am_a 17), am_i (k : Int), am_i d] (zS L, rr h r) = pV L (rr h' r)) : HQ L n h ((p : Int), (k : Int), d, r) h' ((p : Int) + 1, (k : Int), d, r) := by
  intro ⟨ra, rd, rr'⟩
  refine ⟨⟨ra, rd, rr'⟩, fun o H => ?_⟩
  intro u1 u2 u6 u7 u8 u9 u10
  dsimp only
  have wy : pb_work 12 d (k : Int) = d := wk_d rd ra
  rw [q_10_7_4, p_idx (by omega) (by omega), rr_n _ _ (by decide), if_neg E, rr_n _ _ (by decide), Int.toNat_natCast, hw, if_pos (by decide), p_w (by omega) (by omega), if_pos (by decide), q_10_7_8, show am_and (am_shr (-7416) 6) 63 = 12 by decide, pb_D_10_5, wy, p_xI, if_neg (by decide), ka2 k hk2, hv rd, p_xV, q_10_7_9, if_pos (by decide), if_pos (by decide), q_10_7_11, pb_D_10_6, p_xI, pB_f (by intro z; rcases z with z | z | z <;> exact z.1 (by decide)), if_pos rfl]
  exact H u1 u2 u6 _ _ _ _
theorem rr_uf (h : am_H) (r : Nat → Int) {a k : Nat} {v : Int} (ha : a ≠ 18) : am_up (rr h r) a k v = rr (am_up h a k v) r := by
  funext b; by_cases z : b = 18
  · rw [z, rr_18, p_up_c _ _ _ _ _ (fun q => ha q.symm), rr_18]
  · rw [rr_n _ _ z]
    by_cases q : b = a
    · rw [q, p_up_f, p_up_f, rr_n _ _ ha]
    · rw [p_up_c _ _ _ _ _ q, p_up_c _ _ _ _ _ q, rr_n _ _ z]
/-- what a door gives, and how it changes what is there -/
def dG (ky : List Int) (k : Nat) (G : vG) : Int × vG :=
  if k = 32002 then (match ky[G.2.1]? with
    | some c => (c, (G.1, G.2.1 + 1, G.2.2))
    | none => (0, G))
  else if k = 32003 then (ky.getD G.2.1 0, G)
  else ((ky.length : Int) - (G.2.1 : Int), G)
theorem d_read (I : IOR ky G h) (k : Nat) (hk : k = 32002 ∨ k = 32003 ∨ k = 32005) : ∃ h', am_D (n + 3) 10 1 [am_r (am_a 17), am_i (k : Int)] (zS L, rr h r) = pI L (dG ky k G).1 (rr h' r) ∧ IOR ky (dG ky k G).2 h' ∧ p_fr ioC ioF h h' ∧ rg16 (dG ky k G).1 ∧ (dG ky k G).2.1 = G.1 := by
  obtain ⟨⟨i1, i2, i3⟩, ⟨i4, i5⟩, i6, i7, i8⟩ := id I
  have f : ∀ j, rr h r 17 j = h 17 j := fun j => by rw [rr_n _ _ (by decide)]
  rw [D_10_1, if_neg (by omega), f, f]
  -- the key at hand
  obtain ⟨c, hc, hc2⟩ : ∃ c, c = (ky.getD G.2.1 0) ∧ 0 ≤ c ∧ c ≤ 255 := by
    refine ⟨_, rfl, ?_⟩
    rw [List.getD_eq_getElem?_getD]
    by_cases z : G.2.1 < ky.length
    · rw [List.getElem?_eq_getElem z]; exact (i3 _ _ (List.getElem?_eq_getElem z)).2
    · rw [List.getElem?_eq_none (by omega)]; exact ⟨by decide, by decide⟩
  have e3 : (if h 17 6 < h 17 5 then am_idx (h 17 6) 200 fun k1 => am_E (am_D (n + 2)) m_10_1 (.inl 3) [some (am_r (am_a 17)), some (am_i (k : Int)), none] [am_i (am_and (rr h r 19 k1) 255)] (zS L, rr h r) else am_E (am_D (n + 2)) m_10_1 (.inl 3) [some (am_r (am_a 17)), some (am_i (k : Int)), none] [am_i 0] (zS L, rr h r)) = am_E (am_D (n + 2)) m_10_1 (.inl 3) [some (am_r (am_a 17)), some (am_i (k : Int)), none] [am_i c] (zS L, rr h r) := by
    rw [List.getD_eq_getElem?_getD] at hc
    by_cases z : G.2.1 < ky.length
    · rw [if_pos (by omega), p_idx (by omega) (by omega), rr_n _ _ (by decide), show (h 17 6).toNat = G.2.1 by omega, (i3 _ _ (List.getElem?_eq_getElem z)).1]
      rw [List.getElem?_eq_getElem z] at hc; rw [hc]; rfl
    · rw [if_neg (by omega)]
      rw [List.getElem?_eq_none (by omega)] at hc; rw [hc]; rfl
  rw [e3, q_10_1_3]
  unfold dG
  rcases hk with rfl | rfl | rfl
  · rw [if_pos (show ((32002 : Nat) : Int) = 32002 from rfl), if_pos rfl, f, f]
    rw [List.getD_eq_getElem?_getD] at hc
    by_cases z : G.2.1 < ky.length
    · rw [if_pos (by omega), q_10_1_4, if_neg (by decide), if_pos (show ((32002 : Nat) : Int) = 32002 from rfl), p_w (by omega) (by omega), rr_uf _ _ (by decide), List.getElem?_eq_getElem z]
      rw [List.getElem?_eq_getElem z] at hc
      refine ⟨am_up h 17 6 (h 17 6 + 1), ?_, ?_, (p_fr.refl h).upf _ _ _ rfl, ?_, rfl⟩
      · rw [hc]; rfl
      · refine ⟨⟨by rw [p_up_n _ _ _ _ _ _ (Or.inr (by decide))]; exact i1, i2, by rw [p_up_c _ _ _ _ _ (by decide)]; exact i3⟩, ⟨?_, ?_⟩, by rw [p_up_n _ _ _ _ _ _ (Or.inr (by decide))]; exact i6, i7, by rw [p_up_c _ _ _ _ _ (by decide)]; exact i8⟩
        · rw [p_up_s, i4]; show (G.2.1 : Int) + 1 = ((G.2.1 + 1 : Nat) : Int); omega
        · show G.2.1 + 1 ≤ ky.length; omega
      · have := hc2; rw [hc] at this; exact ⟨by show (-32768 : Int) ≤ ky[G.2.1]; have := this.1; simp at this; omega, by show ky[G.2.1] ≤ 32767; have := this.2; simp at this; omega⟩
    · rw [if_neg (by omega), q_10_1_4, if_neg (by decide), if_pos (show ((32002 : Nat) : Int) = 32002 from rfl), List.getElem?_eq_none (by omega)]
      rw [List.getElem?_eq_none (by omega)] at hc
      exact ⟨h, by rw [hc]; rfl, I, p_fr.refl h, (show rg16 (0 : Int) from ⟨by decide, by decide⟩), rfl⟩
  · rw [if_neg (show ¬ ((32003 : Nat) : Int) = 32002 by decide), q_10_1_4, if_neg (by decide), if_neg (by decide), if_pos (show ((32003 : Nat) : Int) = 32003 from rfl), if_neg (show ¬ (32003 : Nat) = 32002 by decide), if_pos (show (32003 : Nat) = 32003 from rfl), ← hc]
    exact ⟨h, rfl, I, p_fr.refl h, ⟨by show (-32768 : Int) ≤ c; omega, by show c ≤ 32767; omega⟩, rfl⟩
  · rw [if_neg (show ¬ ((32005 : Nat) : Int) = 32002 by decide), q_10_1_4, if_pos (show ((32005 : Nat) : Int) = 32005 from rfl), f, f, if_neg (show ¬ (32005 : Nat) = 32002 by decide), if_neg (show ¬ (32005 : Nat) = 32003 by decide), p_w (by omega) (by omega), i1, i4]
    exact ⟨h, rfl, I, p_fr.refl h, ⟨by show (-32768 : Int) ≤ (ky.length : Int) - (G.2.1 : Int); omega, by show (ky.length : Int) - (G.2.1 : Int) ≤ 32767; omega⟩, rfl⟩
/-- output -/
theorem d_write (I : IOR ky G h) (v : Int) : ∃ h', am_D (n + 3) 10 2 [am_r (am_a 17), am_i ((32001 : Nat) : Int), am_i v] (zS L, rr h r) = pV L (rr h' r) ∧ IOR ky (G.1, G.2.1, if G.2.2.length < 3000 then G.2.2 ++ [v % 256] else G.2.2) h' ∧ p_fr ioC ioF h h' := by
  obtain ⟨⟨i1, i2, i3⟩, ⟨i4, i5⟩, i6, i7, i8⟩ := id I
  have f : ∀ j, rr h r 17 j = h 17 j := fun j => by rw [rr_n _ _ (by decide)]
  rw [D_10_2, if_neg (by decide), if_pos (show ((32001 : Nat) : Int) = 32001 from rfl), f]
  by_cases c : h 17 7 = 3000
  · rw [if_pos c, if_neg (by omega)]; exact ⟨h, rfl, I, p_fr.refl h⟩
  · rw [if_neg c, if_pos (by omega), p_idx (by omega) (by omega), p_s8_s8, rr_uf _ _ (by decide), rr_uf _ _ (by decide), p_w (by omega) (by omega)]
    refine ⟨_, rfl, ⟨⟨?_, i2, ?_⟩, ⟨?_, i5⟩, ?_, ?_, fun j x hx => ?_⟩, ((p_fr.refl h).upc _ _ _ rfl).upf _ _ _ rfl⟩
    · rw [p_up_n _ _ _ _ _ _ (Or.inr (by decide)), p_up_c _ _ _ _ _ (by decide)]; exact i1
    · rw [p_up_c _ _ _ _ _ (by decide), p_up_c _ _ _ _ _ (by decide)]; exact i3
    · rw [p_up_n _ _ _ _ _ _ (Or.inr (by decide)), p_up_c _ _ _ _ _ (by decide)]; exact i4
    · rw [p_up_s, List.length_append]; show _ = ((G.2.2.length + 1 : Nat) : Int); omega
    · rw [List.length_append]; show G.2.2.length + 1 ≤ 3000; omega
    · rw [p_up_c _ _ _ _ _ (by decide)]
      dsimp only at hx
      by_cases z : j < G.2.2.length
      · rw [List.getElem?_append_left z] at hx
        rw [p_up_n _ _ _ _ _ _ (Or.inr (by omega))]; exact i8 j x hx
      · have hj : j < (G.2.2 ++ [v % 256]).length := (List.getElem?_eq_some_iff.1 hx).1
        rw [List.length_append] at hj
        have hj : j < G.2.2.length + 1 := hj
        have ej : j = G.2.2.length := by omega
        subst ej
        rw [List.getElem?_append_right (Nat.le_refl _), Nat.sub_self] at hx
        have : v % 256 = x := Option.some.inj hx
        rw [i6, Int.toNat_natCast, p_up_s, p_s8_mod]; exact this
/-- the doors that end a run -/
theorem d_halt (v : Int) : am_D (n + 3) 10 2 [am_r (am_a 17), am_i ((32000 : Nat) : Int), am_i v] (zS L, rr h r) = pV L (rr (am_up (am_up h 17 12 0) 17 14 0) r) := by
  rw [D_10_2, if_neg (by decide), if_neg (by decide), if_pos (show ((32000 : Nat) : Int) = 32000 from rfl), D_10_3, p_bit0, p_xV, rr_uf _ _ (by decide), rr_uf _ _ (by decide)]
theorem d_err (v : Int) : am_D (n + 3) 10 2 [am_r (am_a 17), am_i ((32004 : Nat) : Int), am_i v] (zS L, rr h r) = pV L (rr (am_up (am_up (am_up h 17 13 v) 17 12 3) 17 14 0) r) := by
  rw [D_10_2, if_neg (by decide), if_neg (by decide), if_neg (by decide), if_pos (show ((32004 : Nat) : Int) = 32004 from rfl), rr_uf _ _ (by decide), D_10_3, p_bit0, p_xV, rr_uf _ _ (by decide), rr_uf _ _ (by decide)]
end
