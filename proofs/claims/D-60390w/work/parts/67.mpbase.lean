/-! PURE LAYER, 37: the model's reading: how outcomes are put together; signs, words, faults -/
section
variable {K V P : Nat → Int} {Z : Nat} {g0 : am_H} {oc : List Int} {i deep st : Nat} {g h : am_H}
theorem mp_N.fr (N : mp_N K V P Z g0 oc i deep st g h) : p_fr mp_C mp_F g h := N.1
theorem mp_N.nx (N : mp_N K V P Z g0 oc i deep st g h) : h 254 10 = i := N.2.2.1.1
theorem mp_N.fa (N : mp_N K V P Z g0 oc i deep st g h) : h 254 11 = 0 := N.2.2.1.2.1
theorem mp_N.op (N : mp_N K V P Z g0 oc i deep st g h) : h 254 48 = deep := N.2.2.1.2.2.1
theorem mp_N.le (N : mp_N K V P Z g0 oc i deep st g h) : h 254 49 = st := N.2.2.1.2.2.2.1
theorem mp_N.lv (N : mp_N K V P Z g0 oc i deep st g h) : 0 ≤ h 254 51 ∧ h 254 51 ≤ 142 := N.2.2.1.2.2.2.2
theorem mp_N.tk (N : mp_N K V P Z g0 oc i deep st g h) : mp_T K V P Z g := N.2.2.2.1
theorem mp_N.at_ (N : mp_N K V P Z g0 oc i deep st g h) : mp_I K Z i := N.2.2.2.2.1
theorem mp_N.ok (N : mp_N K V P Z g0 oc i deep st g h) : mp_ok g := N.2.2.2.2.2.1
theorem mp_N.bd (N : mp_N K V P Z g0 oc i deep st g h) : deep ≤ 25 ∧ st ≤ 300 := N.2.2.2.2.2.2.1
theorem mp_N.iz (N : mp_N K V P Z g0 oc i deep st g h) : i ≤ Z := N.at_.1
theorem mp_N.lt (N : mp_N K V P Z g0 oc i deep st g h) : i ≤ 1000 := by have := N.iz; have := N.tk.1; omega
theorem mp_N.eq (N : mp_N K V P Z g0 oc i deep st g h) (a k : Nat) (h1 : mp_C.contains a = false) (h2 : mp_F.contains (a, k) = false) : h a k = g a k := N.1 a k h1 h2
theorem mp_N.kd (N : mp_N K V P Z g0 oc i deep st g h) : h 257 i = mp_k (K i) := by rw [N.eq 257 i rfl (by simp [mp_F])]; exact (N.tk.2.2 i N.iz).1
theorem mp_N.pl (N : mp_N K V P Z g0 oc i deep st g h) : h 258 i = P i := by rw [N.eq 258 i rfl (by simp [mp_F])]; exact (N.tk.2.2 i N.iz).2.1
theorem mp_N.rg (N : mp_N K V P Z g0 oc i deep st g h) : 0 ≤ K i ∧ K i ≤ 7 := (N.tk.2.2 i N.iz).2.2.1
theorem mp_N.vr (N : mp_N K V P Z g0 oc i deep st g h) : -32768 ≤ V i ∧ V i ≤ 32767 := (N.tk.2.2 i N.iz).2.2.2.1
theorem mp_N.vl (N : mp_N K V P Z g0 oc i deep st g h) (hk : K i = 1 ∨ K i = 3 ∨ K i = 4 ∨ K i = 5) : h 260 i = V i := by rw [N.eq 260 i rfl (by simp [mp_F])]; exact (N.tk.2.2 i N.iz).2.2.2.2.1 hk
theorem mp_N.vs (N : mp_N K V P Z g0 oc i deep st g h) (hk : K i = 4) : 0 ≤ V i := (N.tk.2.2 i N.iz).2.2.2.2.2.1 hk
theorem mp_N.vw (N : mp_N K V P Z g0 oc i deep st g h) (hk : K i = 1) : 0 ≤ V i ∧ V i ≤ 20 := (N.tk.2.2 i N.iz).2.2.2.2.2.2 hk
theorem mp_k_eq {k : Int} (h : 0 ≤ k ∧ k ≤ 7) : (mp_k k = 0 ↔ k = 0) ∧ (mp_k k = 1 ↔ k = 2) ∧ (mp_k k = 2 ↔ k = 3) ∧ (mp_k k = 3 ↔ k = 4) ∧ (mp_k k = 4 ↔ k = 5) ∧ (mp_k k = 5 ↔ k = 1) ∧ (mp_k k = 7 ↔ k = 7) := by
  unfold mp_k
  refine ⟨?_, ?_, ?_, ?_, ?_, ?_, ?_⟩ <;> (repeat' split) <;> omega
/-- a cell of the reading changes -/
theorem mp_fr_up {g h : am_H} (f : p_fr mp_C mp_F g h) (a k : Nat) (v : Int) (hc : (mp_C.contains a || mp_F.contains (a, k)) = true) : p_fr mp_C mp_F g (am_up h a k v) := by
  rw [Bool.or_eq_true] at hc
  rcases hc with c | c
  · exact f.upc _ _ _ c
  · exact f.upf _ _ _ c
/-- h changes where the reading stands only; not in next, fault, opened, letters -/
theorem mp_N.hup (N : mp_N K V P Z g0 oc i deep st g h) (a k : Nat) (v : Int) (hc : (mp_C.contains a || mp_F.contains (a, k)) = true) (hn : (a == 254 && (k == 10 || k == 11 || k == 48 || k == 49 || k == 51)) = false) (h0 : (a == 280 || a == 284) = false) : mp_N K V P Z g0 oc i deep st g (am_up h a k v) := by
  have n1 : ∀ j, (j = 10 ∨ j = 11 ∨ j = 48 ∨ j = 49 ∨ j = 51) → am_up h a k v 254 j = h 254 j := by
    intro j hj
    refine p_up_n _ _ _ _ _ _ ?_
    by_cases e : 254 = a
    · right
      intro z
      rw [← e, ← z] at hn
      rcases hj with rfl | rfl | rfl | rfl | rfl <;> exact absurd hn (by decide)
    · exact Or.inl e
  have n2 : am_up h a k v 280 = h 280 := p_up_c _ _ _ _ _ (fun z => by rw [← z] at h0; exact absurd h0 (by decide))
  have n3 : am_up h a k v 284 = h 284 := p_up_c _ _ _ _ _ (fun z => by rw [← z] at h0; exact absurd h0 (by decide))
  refine ⟨mp_fr_up N.1 a k v hc, N.2.1, ⟨?_, ?_, ?_, ?_, by rw [n1 51 (by simp)]; exact N.lv⟩, N.tk, N.at_, N.ok, N.bd, ?_, ?_, N.2.2.2.2.2.2.2.2.2⟩
  · rw [n1 10 (by simp)]; exact N.nx
  · rw [n1 11 (by simp)]; exact N.fa
  · rw [n1 48 (by simp)]; exact N.op
  · rw [n1 49 (by simp)]; exact N.le
  · rw [n2]; exact N.2.2.2.2.2.2.2.1
  · rw [n3]; exact N.2.2.2.2.2.2.2.2.1
theorem mp_N.mv (N : mp_N K V P Z g0 oc i deep st g h) (j : Nat) (hj : mp_I K Z j) : mp_N K V P Z g0 oc j deep st g (am_up h 254 10 j) := by
  refine ⟨mp_fr_up N.1 _ _ _ rfl, N.2.1, ⟨p_up_s _ _ _ _, ?_, ?_, ?_, by rw [p_up_n _ _ _ _ _ _ (Or.inr (by decide))]; exact N.lv⟩, N.tk, hj, N.ok, N.bd, ?_, ?_, N.2.2.2.2.2.2.2.2.2⟩
  · rw [p_up_n _ _ _ _ _ _ (Or.inr (by decide))]; exact N.fa
  · rw [p_up_n _ _ _ _ _ _ (Or.inr (by decide))]; exact N.op
  · rw [p_up_n _ _ _ _ _ _ (Or.inr (by decide))]; exact N.le
  · rw [p_up_c _ _ _ _ _ (by decide)]; exact N.2.2.2.2.2.2.2.1
  · rw [p_up_c _ _ _ _ _ (by decide)]; exact N.2.2.2.2.2.2.2.2.1
theorem mp_N.dp (N : mp_N K V P Z g0 oc i deep st g h) (j : Nat) (hj : j ≤ 25) : mp_N K V P Z g0 oc i j st g (am_up h 254 48 j) := by
  refine ⟨mp_fr_up N.1 _ _ _ rfl, N.2.1, ⟨?_, ?_, p_up_s _ _ _ _, ?_, by rw [p_up_n _ _ _ _ _ _ (Or.inr (by decide))]; exact N.lv⟩, N.tk, N.at_, N.ok, ⟨hj, N.bd.2⟩, ?_, ?_, N.2.2.2.2.2.2.2.2.2⟩
  · rw [p_up_n _ _ _ _ _ _ (Or.inr (by decide))]; exact N.nx
  · rw [p_up_n _ _ _ _ _ _ (Or.inr (by decide))]; exact N.fa
  · rw [p_up_n _ _ _ _ _ _ (Or.inr (by decide))]; exact N.le
  · rw [p_up_c _ _ _ _ _ (by decide)]; exact N.2.2.2.2.2.2.2.1
  · rw [p_up_c _ _ _ _ _ (by decide)]; exact N.2.2.2.2.2.2.2.2.1
theorem mp_N.lt_ (N : mp_N K V P Z g0 oc i deep st g h) (j : Nat) (hj : j ≤ 300) : mp_N K V P Z g0 oc i deep j g (am_up h 254 49 j) := by
  refine ⟨mp_fr_up N.1 _ _ _ rfl, N.2.1, ⟨?_, ?_, ?_, p_up_s _ _ _ _, by rw [p_up_n _ _ _ _ _ _ (Or.inr (by decide))]; exact N.lv⟩, N.tk, N.at_, N.ok, ⟨N.bd.1, hj⟩, ?_, ?_, N.2.2.2.2.2.2.2.2.2⟩
  · rw [p_up_n _ _ _ _ _ _ (Or.inr (by decide))]; exact N.nx
  · rw [p_up_n _ _ _ _ _ _ (Or.inr (by decide))]; exact N.fa
  · rw [p_up_n _ _ _ _ _ _ (Or.inr (by decide))]; exact N.op
  · rw [p_up_c _ _ _ _ _ (by decide)]; exact N.2.2.2.2.2.2.2.1
  · rw [p_up_c _ _ _ _ _ (by decide)]; exact N.2.2.2.2.2.2.2.2.1
theorem mp_N.lvl (N : mp_N K V P Z g0 oc i deep st g h) (v : Int) (hv : 0 ≤ v ∧ v ≤ 142) : mp_N K V P Z g0 oc i deep st g (am_up h 254 51 v) := by
  refine ⟨mp_fr_up N.1 _ _ _ rfl, N.2.1, ⟨?_, ?_, ?_, ?_, by rw [p_up_s]; exact hv⟩, N.tk, N.at_, N.ok, N.bd, ?_, ?_, N.2.2.2.2.2.2.2.2.2⟩
  · rw [p_up_n _ _ _ _ _ _ (Or.inr (by decide))]; exact N.nx
  · rw [p_up_n _ _ _ _ _ _ (Or.inr (by decide))]; exact N.fa
  · rw [p_up_n _ _ _ _ _ _ (Or.inr (by decide))]; exact N.op
  · rw [p_up_n _ _ _ _ _ _ (Or.inr (by decide))]; exact N.le
  · rw [p_up_c _ _ _ _ _ (by decide)]; exact N.2.2.2.2.2.2.2.1
  · rw [p_up_c _ _ _ _ _ (by decide)]; exact N.2.2.2.2.2.2.2.2.1
/-- all that changed, from the start -/
theorem mp_N.all (N : mp_N K V P Z g0 oc i deep st g h) : p_fr mp_C2 mp_F2 g0 h := N.2.1.trans (N.1.mono rfl rfl)
end
section
variable {α β : Type}
/-- an outcome of the model is what is told of it; m: how many items there may be behind a fault -/
def mo (L : Nat) (D : Option am_O) (g0 : am_H) (m : Nat) (r : gx_R α) (ok : α → Option am_O → Prop) : Prop := match r with
  | .inl e => e.1 < 8 → ∃ h', D = pV L h' ∧ mp_B g0 m e h'
  | .inr a => ok a D
/-- what follows a fault -/
def mb (L : Nat) (g0 : am_H) (m m2 : Nat) (k : am_H → Option am_O) : Prop := ∀ e h1, mp_B g0 m e h1 → ∃ h', k h1 = pV L h' ∧ mp_B g0 m2 e h'
theorem mp_B.le {g0 : am_H} {m m2 : Nat} {e : Int × Int} {h : am_H} (B : mp_B g0 m e h) (hm : m ≤ m2) : mp_B g0 m2 e h := by
  obtain ⟨a1, a2, a3, a4, a5, a6, a7, a8, a9, a10, a11, a12⟩ := B
  exact ⟨a1, a2, a3, a4, a5, by omega, a7, by omega, by omega, a10, a11, by omega⟩
theorem mb_id (L : Nat) (g0 : am_H) (m : Nat) : mb L g0 m m (fun h1 => some (.inl none, (zS L, h1))) := fun _ h1 B => ⟨h1, rfl, B⟩
theorem mb_V {L : Nat} {g0 : am_H} {m m2 m3 : Nat} {D k : am_H → Option am_O} (h1 : mb L g0 m m2 D) (h2 : mb L g0 m2 m3 k) : mb L g0 m m3 (fun h => am_xV (zS L) (D h) (am_up1 (zS L)) k) := by
  intro e h B
  obtain ⟨h', e1, B1⟩ := h1 e h B
  obtain ⟨h2', e2, B2⟩ := h2 e h' B1
  exact ⟨h2', by show am_xV (zS L) (D h) (am_up1 (zS L)) k = _; rw [e1, p_xV]; exact e2, B2⟩
/-- one behind another -/
theorem mo_bV {L : Nat} {D : Option am_O} {g0 : am_H} {m m2 : Nat} {r : gx_R α} {Po : α → am_H → Prop} {k : am_H → Option am_O} {f : α → gx_R β} {ok : β → Option am_O → Prop}
    (hX : mo L D g0 m r (fun a D => ∃ h1, D = pV L h1 ∧ Po a h1)) (hb : mb L g0 m m2 k) (hk : ∀ a h1, r = .inr a → Po a h1 → mo L (k h1) g0 m2 (f a) ok) : mo L (am_xV (zS L) D (am_up1 (zS L)) k) g0 m2 (gx_b r f) ok := by
  cases r with
  | inl e =>
    intro he
    obtain ⟨h', rfl, B⟩ := hX he
    rw [p_xV]
    exact hb e h' B
  | inr a =>
    obtain ⟨h1, rfl, hp⟩ := hX
    rw [p_xV]
    exact hk a h1 rfl hp
end
section
variable {K V P : Nat → Int} {Z : Nat} {g0 : am_H} {oc : List Int} {i deep st : Nat} {g h : am_H} (d L : Nat)
theorem mp_isSign (N : mp_N K V P Z g0 oc i deep st g h) (c : Int) : am_D (d + 1) 17 19 [am_r (am_a 254), am_i c] (zS L, h) = pI L (pB (gx_sg K V c i)) h := by
  have := N.lt
  have hk := (mp_k_eq N.rg).2.2.2.2.1
  rw [D_17_19, N.nx, p_idx (by omega) (by omega), Int.toNat_natCast, p_idx (by omega) (by omega), Int.toNat_natCast, N.kd]
  by_cases h1 : K i = 5
  · rw [if_pos (hk.mpr h1), N.vl (by omega)]
    by_cases h2 : V i = c
    · rw [if_pos h2, p_bit1, pB_t (show gx_sg K V c i from ⟨h1, h2⟩)]
    · rw [if_neg h2, p_bit0, pB_f (show ¬ gx_sg K V c i from fun z => h2 z.2)]
  · rw [if_neg (fun z => h1 (hk.mp z)), p_bit0, pB_f (show ¬ gx_sg K V c i from fun z => h1 z.1)]
theorem mp_isWord (N : mp_N K V P Z g0 oc i deep st g h) (c : Int) : am_D (d + 1) 17 20 [am_r (am_a 254), am_i c] (zS L, h) = pI L (pB (gx_wd K V c i)) h := by
  have := N.lt
  have hk := (mp_k_eq N.rg).2.2.2.2.2.1
  rw [D_17_20, N.nx, p_idx (by omega) (by omega), Int.toNat_natCast, p_idx (by omega) (by omega), Int.toNat_natCast, N.kd]
  by_cases h1 : K i = 1
  · rw [if_pos (hk.mpr h1), N.vl (by omega)]
    by_cases h2 : V i = c
    · rw [if_pos h2, p_bit1, pB_t (show gx_wd K V c i from ⟨h1, h2⟩)]
    · rw [if_neg h2, p_bit0, pB_f (show ¬ gx_wd K V c i from fun z => h2 z.2)]
  · rw [if_neg (fun z => h1 (hk.mp z)), p_bit0, pB_f (show ¬ gx_wd K V c i from fun z => h1 z.1)]
/-- wrong(number, token): from a good state -/
theorem mp_wrong (N : mp_N K V P Z g0 oc i deep st g h) (c : Int) (hc : 0 < c) (t : Nat) (ht : t ≤ Z) : ∃ h', am_D (d + 1) 17 17 [am_r (am_a 254), am_i c, am_i t] (zS L, h) = pV L h' ∧ mp_B g0 4900 (c, P t) h' := by
  have hz := N.tk.1
  rw [D_17_17, N.fa, if_neg (by omega), p_idx (by omega) (by omega), Int.toNat_natCast]
  have ep : h 258 t = P t := by rw [N.eq 258 t rfl (by simp [mp_F])]; exact (N.tk.2.2 t ht).2.1
  have o := N.ok
  have lt := N.lt
  have bd := N.bd
  refine ⟨_, rfl, ?_, hc, ?_, ?_, ?_, ?_, ?_, ?_, ?_, ?_, ?_, ?_⟩
  · exact (N.all.upf _ _ _ rfl).upf _ _ _ rfl
  · simp [p_up]
  · simp [p_up, ep]
  · simp [p_up, N.nx]; omega
  · simp [p_up]; rw [N.eq 254 33 rfl rfl]; exact o.1
  · simp [p_up]; rw [N.eq 254 39 rfl rfl]; have := o.2.1; omega
  · simp [p_up, N.op]; omega
  · simp [p_up]; have := N.lv; omega
  · simp [p_up]; rw [N.eq 254 17 rfl rfl]; exact o.2.2.1
  · simp [p_up]; rw [N.eq 254 14 rfl rfl]; exact o.2.2.2.1
  · simp [p_up]; rw [N.eq 254 25 rfl rfl]; have := o.2.2.2.2.1; omega
/-- syntax() -/
theorem mp_syntax (N : mp_N K V P Z g0 oc i deep st g h) : ∃ h', am_D (d + 2) 17 18 [am_r (am_a 254)] (zS L, h) = pV L h' ∧ mp_B g0 4900 (hx_sx K P i) h' := by
  have := N.lt
  have hk := (mp_k_eq N.rg).2.2.2.2.2.2
  rw [D_17_18, N.nx, p_idx (by omega) (by omega), Int.toNat_natCast, N.kd]
  unfold hx_sx
  by_cases c : K i = 7
  · obtain ⟨h', e, B⟩ := mp_wrong d L N 2 (by decide) i N.iz
    rw [if_pos (hk.mpr c), if_pos c, e, p_xV]
    exact ⟨h', rfl, B⟩
  · obtain ⟨h', e, B⟩ := mp_wrong d L N 1 (by decide) i N.iz
    rw [if_neg (fun z => c (hk.mp z)), if_neg c, e, p_xV]
    exact ⟨h', rfl, B⟩
/-- go() -/
theorem mp_go (N : mp_N K V P Z g0 oc i deep st g h) (hK : K i ≠ 0 ∧ K i ≠ 6 ∧ K i ≠ 7) : am_D (d + 1) 17 21 [am_r (am_a 254)] (zS L, h) = pV L (am_up h 254 10 ((i + 1 : Nat) : Int)) ∧ mp_N K V P Z g0 oc (i + 1) deep st g (am_up h 254 10 ((i + 1 : Nat) : Int)) := by
  have hz := N.tk.1
  have lt := N.at_.2 hK.1 hK.2.1 hK.2.2
  rw [D_17_21, N.fa, if_pos rfl, N.nx, p_w (by omega) (by omega)]
  refine ⟨rfl, N.mv (i + 1) ⟨by omega, fun k0 k6 k7 => ?_⟩⟩
  apply Classical.byContradiction
  intro z
  have e : i + 1 = Z := by omega
  rw [e] at k0 k6 k7
  rcases N.tk.2.1 with y | y | y
  · exact k0 y
  · exact k6 y
  · exact k7 y
section
variable {m : Nat}
/-- the same methods behind a fault -/
theorem mb_wrong {e : Int × Int} (B : mp_B g0 m e h) (c t : Int) : am_D (d + 1) 17 17 [am_r (am_a 254), am_i c, am_i t] (zS L, h) = pV L h := by
  rw [D_17_17, if_pos (by rw [B.2.2.1]; exact B.2.1)]
theorem mb_syntax {e : Int × Int} (B : mp_B g0 m e h) : am_D (d + 2) 17 18 [am_r (am_a 254)] (zS L, h) = pV L h := by
  have b := B.2.2.2.2.1
  rw [D_17_18, p_idx b.1 (by omega), mb_wrong d L B, mb_wrong d L B, p_xV]
  simp
theorem mb_go {e : Int × Int} (B : mp_B g0 m e h) : am_D (d + 1) 17 21 [am_r (am_a 254)] (zS L, h) = pV L h := by
  have b := B.2.1
  rw [D_17_21, if_neg (by rw [B.2.2.1]; omega), p_up_id]
theorem mb_isSign {e : Int × Int} (B : mp_B g0 m e h) (c : Int) : ∃ v, am_D (d + 1) 17 19 [am_r (am_a 254), am_i c] (zS L, h) = pI L v h ∧ (v = 0 ∨ v = 1) := by
  have b := B.2.2.2.2.1
  rw [D_17_19, p_idx b.1 (by omega), p_idx b.1 (by omega)]
  split
  · split
    · exact ⟨1, by rw [p_bit1], Or.inr rfl⟩
    · exact ⟨0, by rw [p_bit0], Or.inl rfl⟩
  · exact ⟨0, by rw [p_bit0], Or.inl rfl⟩
theorem mb_isWord {e : Int × Int} (B : mp_B g0 m e h) (c : Int) : ∃ v, am_D (d + 1) 17 20 [am_r (am_a 254), am_i c] (zS L, h) = pI L v h ∧ (v = 0 ∨ v = 1) := by
  have b := B.2.2.2.2.1
  rw [D_17_20, p_idx b.1 (by omega), p_idx b.1 (by omega)]
  split
  · split
    · exact ⟨1, by rw [p_bit1], Or.inr rfl⟩
    · exact ⟨0, by rw [p_bit0], Or.inl rfl⟩
  · exact ⟨0, by rw [p_bit0], Or.inl rfl⟩
theorem mb_needSign {e : Int × Int} (B : mp_B g0 m e h) (c : Int) : am_D (d + 3) 17 22 [am_r (am_a 254), am_i c] (zS L, h) = pV L h := by
  obtain ⟨v, e1, -⟩ := mb_isSign (d + 1) L B c
  rw [D_17_22, e1, p_xI, mb_syntax d L B, mb_go (d + 1) L B, p_xV]
  simp
theorem mb_needWord {e : Int × Int} (B : mp_B g0 m e h) (c : Int) : am_D (d + 3) 17 23 [am_r (am_a 254), am_i c] (zS L, h) = pV L h := by
  obtain ⟨v, e1, -⟩ := mb_isWord (d + 1) L B c
  rw [D_17_23, e1, p_xI, mb_syntax d L B, mb_go (d + 1) L B, p_xV]
  simp
theorem mb_needName {e : Int × Int} (B : mp_B g0 m e h) : am_D (d + 3) 17 24 [am_r (am_a 254)] (zS L, h) = pI L 0 h := by
  have b := B.2.2.2.2.1
  have b1 := B.2.1
  rw [D_17_24, p_idx b.1 (by omega), mb_syntax d L B, mb_go (d + 1) L B, p_xV]
  have n : ¬ h 254 11 = 0 := by rw [B.2.2.1]; omega
  simp only [if_neg n]
  simp
end
end
section
variable {K V P : Nat → Int} {Z : Nat} {g0 : am_H} {oc : List Int} {i deep st : Nat} {g h : am_H} (d L : Nat) {β : Type}
/-- needSign -/
theorem mp_needSign (N : mp_N K V P Z g0 oc i deep st g h) (c : Int) : mo L (am_D (d + 3) 17 22 [am_r (am_a 254), am_i c] (zS L, h)) g0 4900 (hx_sign K V P c i) (fun j D => ∃ h1, D = pV L h1 ∧ (j = i + 1 ∧ mp_N K V P Z g0 oc j deep st g h1 ∧ h1 = am_up h 254 10 ((i + 1 : Nat) : Int))) := by
  rw [D_17_22, mp_isSign (d + 1) L N, p_xI]
  unfold hx_sign gx_if hx_next
  simp only [pB_0]
  by_cases s : gx_sg K V c i
  · obtain ⟨e, N1⟩ := mp_go (d + 1) L N ⟨by rw [s.1]; decide, by rw [s.1]; decide, by rw [s.1]; decide⟩
    rw [if_neg (fun z => z s), if_pos s, e, p_xV]
    exact ⟨_, rfl, rfl, N1, rfl⟩
  · obtain ⟨h', e, B⟩ := mp_syntax d L N
    rw [if_pos s, if_neg s, e, p_xV]
    exact fun _ => ⟨h', rfl, B⟩
theorem mp_needWord (N : mp_N K V P Z g0 oc i deep st g h) (c : Int) : mo L (am_D (d + 3) 17 23 [am_r (am_a 254), am_i c] (zS L, h)) g0 4900 (hx_word K V P c i) (fun j D => ∃ h1, D = pV L h1 ∧ (j = i + 1 ∧ mp_N K V P Z g0 oc j deep st g h1)) := by
  rw [D_17_23, mp_isWord (d + 1) L N, p_xI]
  unfold hx_word gx_if hx_next
  simp only [pB_0]
  by_cases s : gx_wd K V c i
  · obtain ⟨e, N1⟩ := mp_go (d + 1) L N ⟨by rw [s.1]; decide, by rw [s.1]; decide, by rw [s.1]; decide⟩
    rw [if_neg (fun z => z s), if_pos s, e, p_xV]
    exact ⟨_, rfl, rfl, N1⟩
  · obtain ⟨h', e, B⟩ := mp_syntax d L N
    rw [if_pos s, if_neg s, e, p_xV]
    exact fun _ => ⟨h', rfl, B⟩
/-- needName: the name's token is the answer -/
theorem mp_needName (N : mp_N K V P Z g0 oc i deep st g h) : (K i = 2 ∧ am_D (d + 3) 17 24 [am_r (am_a 254)] (zS L, h) = pI L i (am_up h 254 10 ((i + 1 : Nat) : Int)) ∧ mp_N K V P Z g0 oc (i + 1) deep st g (am_up h 254 10 ((i + 1 : Nat) : Int))) ∨ (K i ≠ 2 ∧ ∃ h', am_D (d + 3) 17 24 [am_r (am_a 254)] (zS L, h) = pI L 0 h' ∧ mp_B g0 4900 (hx_sx K P i) h') := by
  have lt := N.lt
  have hk := (mp_k_eq N.rg).2.1
  rw [D_17_24, N.nx, p_idx (by omega) (by omega), Int.toNat_natCast, N.kd]
  by_cases s : K i = 2
  · left
    obtain ⟨e, N1⟩ := mp_go (d + 1) L N ⟨by rw [s]; decide, by rw [s]; decide, by rw [s]; decide⟩
    rw [if_pos (hk.mpr s), e, p_xV, N1.fa, if_pos rfl, N1.nx, p_w (by omega) (by omega), show (((i + 1 : Nat) : Int) - 1) = (i : Int) by omega]
    exact ⟨s, rfl, N1⟩
  · right
    obtain ⟨h', e, B⟩ := mp_syntax d L N
    have b1 := B.2.1
    rw [if_neg (fun z => s (hk.mp z)), e, p_xV, if_neg (by rw [B.2.2.1]; omega)]
    exact ⟨s, h', rfl, B⟩
/-- openSign -/
theorem mp_openSign (N : mp_N K V P Z g0 oc i deep st g h) (c : Int) : mo L (am_D (d + 3) 17 27 [am_r (am_a 254), am_i c] (zS L, h)) g0 4900 (hx_opens K V P c deep i) (fun j D => ∃ h1, D = pV L h1 ∧ (j = i + 1 ∧ deep < 25 ∧ mp_N K V P Z g0 oc j (deep + 1) st g h1 ∧ h1 = am_up (am_up h 254 48 ((deep + 1 : Nat) : Int)) 254 10 ((i + 1 : Nat) : Int))) := by
  have bd := N.bd
  rw [D_17_27, mp_isSign (d + 1) L N, p_xI]
  unfold hx_opens hx_open gx_if hx_next
  simp only [pB_0]
  by_cases s : gx_sg K V c i
  · rw [if_neg (fun z => z s), if_pos s, D_17_26, N.op, p_w (by omega) (by omega), show ((deep : Int) + 1) = ((deep + 1 : Nat) : Int) by omega]
    by_cases hd : deep < 25
    · have N1 := N.dp (deep + 1) (by omega)
      obtain ⟨e, N2⟩ := mp_go (d + 1) L N1 ⟨by rw [s.1]; decide, by rw [s.1]; decide, by rw [s.1]; decide⟩
      rw [if_neg (by omega), if_pos hd, p_xV, e, p_xV]
      exact ⟨_, rfl, rfl, hd, N2, rfl⟩
    · rw [if_pos (by omega), if_neg hd]
      intro _
      -- one too many is open
      have hz := N.tk.1
      have lt := N.lt
      have e1 : ∃ h', am_D (d + 1) 17 17 [am_r (am_a 254), am_i 2, am_i (h 254 10)] (zS L, am_up h 254 48 ((deep + 1 : Nat) : Int)) = pV L h' ∧ mp_B g0 4900 (2, P i) h' := by
        have fa : am_up h 254 48 ((deep + 1 : Nat) : Int) 254 11 = 0 := by rw [p_up_n _ _ _ _ _ _ (Or.inr (by decide))]; exact N.fa
        rw [D_17_17, fa, if_neg (by omega), N.nx, p_idx (by omega) (by omega), Int.toNat_natCast, p_up_c _ _ _ _ 258 (by decide), N.pl]
        have o := N.ok
        refine ⟨_, rfl, ?_, by show (0 : Int) < 2; decide, ?_, ?_, ?_, ?_, ?_, ?_, ?_, ?_, ?_, ?_⟩
        · exact ((N.all.upf _ _ _ rfl).upf _ _ _ rfl).upf _ _ _ rfl
        · simp [p_up]
        · simp [p_up]
        · simp [p_up, N.nx]; omega
        · simp [p_up]; rw [N.eq 254 33 rfl rfl]; exact o.1
        · simp [p_up]; rw [N.eq 254 39 rfl rfl]; have := o.2.1; omega
        · simp [p_up]; omega
        · simp [p_up]; have := N.lv; omega
        · simp [p_up]; rw [N.eq 254 17 rfl rfl]; exact o.2.2.1
        · simp [p_up]; rw [N.eq 254 14 rfl rfl]; exact o.2.2.2.1
        · simp [p_up]; rw [N.eq 254 25 rfl rfl]; have := o.2.2.2.2.1; omega
      obtain ⟨h', e2, B⟩ := e1
      rw [e2, p_xV, p_xV, mb_go (d + 1) L B, p_xV]
      exact ⟨h', rfl, B⟩
  · obtain ⟨h', e, B⟩ := mp_syntax d L N
    rw [if_pos s, if_neg s, e, p_xV]
    exact fun _ => ⟨h', rfl, B⟩
/-- one cell changes behind a fault -/
theorem mp_B.up {m : Nat} {e : Int × Int} (B : mp_B g0 m e h) (a k : Nat) (v : Int) (hc : (mp_C2.contains a || mp_F2.contains (a, k)) = true) (hn : (a == 254 && (k == 10 || k == 11 || k == 12 || k == 14 || k == 17 || k == 25 || k == 33 || k == 39 || k == 48 || k == 51)) = false) : mp_B g0 m e (am_up h a k v) := by
  have n1 : ∀ j, (j = 10 ∨ j = 11 ∨ j = 12 ∨ j = 14 ∨ j = 17 ∨ j = 25 ∨ j = 33 ∨ j = 39 ∨ j = 48 ∨ j = 51) → am_up h a k v 254 j = h 254 j := by
    intro j hj
    refine p_up_n _ _ _ _ _ _ ?_
    by_cases e : 254 = a
    · right
      intro z
      rw [← e, ← z] at hn
      rcases hj with rfl | rfl | rfl | rfl | rfl | rfl | rfl | rfl | rfl | rfl <;> exact absurd hn (by decide)
    · exact Or.inl e
  obtain ⟨b1, b2, b3, b4, b5, b6, b7, b8, b9, b10, b11, b12⟩ := B
  refine ⟨?_, b2, ?_⟩
  · rw [Bool.or_eq_true] at hc
    rcases hc with c | c
    · exact b1.upc _ _ _ c
    · exact b1.upf _ _ _ c
  · rw [n1 10 (by simp), n1 11 (by simp), n1 12 (by simp), n1 14 (by simp), n1 17 (by simp), n1 25 (by simp), n1 33 (by simp), n1 39 (by simp), n1 48 (by simp), n1 51 (by simp)]
    exact ⟨b3, b4, b5, b6, b7, b8, b9, b10, b11, b12⟩
theorem mp_B.op {m m2 : Nat} {e : Int × Int} (B : mp_B g0 m e h) (v : Int) (hm : m ≤ m2) (hv : -(m2 : Int) ≤ v ∧ v ≤ m2) : mp_B g0 m2 e (am_up h 254 48 v) := by
  obtain ⟨b1, b2, b3, b4, b5, b6, b7, b8, b9, b10, b11, b12⟩ := B
  refine ⟨b1.upf _ _ _ rfl, b2, ?_⟩
  rw [p_up_s, p_up_n _ _ _ _ _ 10 (Or.inr (by decide)), p_up_n _ _ _ _ _ 11 (Or.inr (by decide)), p_up_n _ _ _ _ _ 12 (Or.inr (by decide)), p_up_n _ _ _ _ _ 14 (Or.inr (by decide)), p_up_n _ _ _ _ _ 17 (Or.inr (by decide)), p_up_n _ _ _ _ _ 25 (Or.inr (by decide)), p_up_n _ _ _ _ _ 33 (Or.inr (by decide)), p_up_n _ _ _ _ _ 39 (Or.inr (by decide)), p_up_n _ _ _ _ _ 51 (Or.inr (by decide))]
  exact ⟨b3, b4, b5, by omega, b7, hv, by omega, b10, b11, by omega⟩
theorem mp_B.lv {m m2 : Nat} {e : Int × Int} (B : mp_B g0 m e h) (v : Int) (hm : m ≤ m2) (hv : 0 ≤ v ∧ v ≤ 142) : mp_B g0 m2 e (am_up h 254 51 v) := by
  obtain ⟨b1, b2, b3, b4, b5, b6, b7, b8, b9, b10, b11, b12⟩ := B
  refine ⟨b1.upf _ _ _ rfl, b2, ?_⟩
  rw [p_up_s, p_up_n _ _ _ _ _ 10 (Or.inr (by decide)), p_up_n _ _ _ _ _ 11 (Or.inr (by decide)), p_up_n _ _ _ _ _ 12 (Or.inr (by decide)), p_up_n _ _ _ _ _ 14 (Or.inr (by decide)), p_up_n _ _ _ _ _ 17 (Or.inr (by decide)), p_up_n _ _ _ _ _ 25 (Or.inr (by decide)), p_up_n _ _ _ _ _ 33 (Or.inr (by decide)), p_up_n _ _ _ _ _ 39 (Or.inr (by decide)), p_up_n _ _ _ _ _ 48 (Or.inr (by decide))]
  exact ⟨b3, b4, b5, by omega, b7, by omega, hv, b10, b11, by omega⟩
/-- closeSign -/
theorem mb_closeSign {m : Nat} {e : Int × Int} (B : mp_B g0 m e h) (hm : m ≤ 4999) (c : Int) : ∃ h', am_D (d + 4) 17 28 [am_r (am_a 254), am_i c] (zS L, h) = pV L h' ∧ mp_B g0 (m + 1) e h' ∧ (∀ a k, ¬ (a = 254 ∧ k = 48) → h' a k = h a k) := by
  have b8 := B.2.2.2.2.2.2.2.1
  rw [D_17_28, mb_needSign d L B, p_xV, p_w (by omega) (by omega)]
  refine ⟨_, rfl, B.op _ (by omega) (by omega), fun a k hk => p_up_n _ _ _ _ _ _ ?_⟩
  by_cases e : a = 254
  · exact Or.inr (fun z => hk ⟨e, z⟩)
  · exact Or.inl e
theorem mp_closeSign (N : mp_N K V P Z g0 oc i (deep + 1) st g h) (c : Int) : mo L (am_D (d + 4) 17 28 [am_r (am_a 254), am_i c] (zS L, h)) g0 4901 (hx_sign K V P c i) (fun j D => ∃ h1, D = pV L h1 ∧ (j = i + 1 ∧ mp_N K V P Z g0 oc j deep st g h1 ∧ h1 = am_up (am_up h 254 10 ((i + 1 : Nat) : Int)) 254 48 (deep : Int))) := by
  have bd := N.bd
  rw [D_17_28]
  have e : hx_sign K V P c i = gx_b (hx_sign K V P c i) fun j => .inr j := (gx_b_id _).symm
  rw [e]
  refine mo_bV (mp_needSign d L N c) ?_ ?_
  · intro e h1 B
    have b := B.2.2.2.2.2.2.2.1
    refine ⟨_, rfl, ?_⟩
    rw [p_w (by omega) (by omega)]
    exact B.op _ (by omega) (by omega)
  · rintro j h1 - ⟨rfl, N1, rfl⟩
    refine ⟨_, rfl, rfl, ?_⟩
    rw [N1.op, p_w (by omega) (by omega), show (((deep + 1 : Nat) : Int) - 1) = (deep : Int) by omega]
    exact ⟨N1.dp deep (by omega), rfl⟩
end
