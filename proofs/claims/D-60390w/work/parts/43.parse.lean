/-! PURE LAYER, 13: the component's reading: how outcomes are put together; tokens at hand -/
def pc_pf : List (Nat × Nat) := [(212, 8), (212, 9), (212, 10), (212, 11), (212, 12)]
def pc_ps : List (Nat × Nat) := [(212, 8), (212, 11), (212, 12)]
def pc_C : List Nat := [9, 10, 11, 214, 215, 216, 218, 219, 220, 221, 222, 224, 225, 226, 227, 228, 230, 231, 232, 233, 234, 236, 237, 238]
def pc_P : List (Nat × Nat) := [(8, 3), (8, 4), (213, 3), (217, 5), (223, 5), (229, 5), (235, 3), (235, 4), (212, 13), (212, 14), (212, 15), (212, 16), (212, 17), (212, 18)]
/-- what an emission keeps: all that was there ahead of the text -/
def ce_Q (g g' : am_H) : Prop := p_fr pc_C pc_P g g' ∧ g 8 3 ≤ g' 8 3 ∧ (∀ k : Nat, (k : Int) < g 8 3 → g' 9 k = g 9 k ∧ g' 10 k = g 10 k ∧ g' 11 k = g 11 k) ∧ (∀ k : Nat, (k : Int) < g 212 20 → g' 214 k = g 214 k ∧ g' 215 k = g 215 k ∧ g' 216 k = g 216 k) ∧
  (∀ k : Nat, (k : Int) < g 212 21 → g' 218 k = g 218 k ∧ g' 219 k = g 219 k ∧ g' 220 k = g 220 k ∧ g' 221 k = g 221 k ∧ g' 222 k = g 222 k)
theorem ce_Q.refl (g : am_H) : ce_Q g g := ⟨p_fr.refl g, Int.le_refl _, fun _ _ => ⟨rfl, rfl, rfl⟩, fun _ _ => ⟨rfl, rfl, rfl⟩, fun _ _ => ⟨rfl, rfl, rfl, rfl, rfl⟩⟩
theorem ce_Q.trans {a b c : am_H} (h1 : ce_Q a b) (h2 : ce_Q b c) : ce_Q a c := by
  obtain ⟨p1, p2, p3, p4, p5⟩ := h1
  obtain ⟨q1, q2, q3, q4, q5⟩ := h2
  refine ⟨p1.trans q1, Int.le_trans p2 q2, fun k hk => ?_, fun k hk => ?_, fun k hk => ?_⟩
  · obtain ⟨a1, a2, a3⟩ := p3 k hk
    obtain ⟨b1, b2, b3⟩ := q3 k (Int.lt_of_lt_of_le hk p2)
    exact ⟨b1.trans a1, b2.trans a2, b3.trans a3⟩
  · obtain ⟨a1, a2, a3⟩ := p4 k hk
    obtain ⟨b1, b2, b3⟩ := q4 k (by rw [p1 212 20 rfl rfl]; exact hk)
    exact ⟨b1.trans a1, b2.trans a2, b3.trans a3⟩
  · obtain ⟨a1, a2, a3, a4, a5⟩ := p5 k hk
    obtain ⟨b1, b2, b3, b4, b5⟩ := q5 k (by rw [p1 212 21 rfl rfl]; exact hk)
    exact ⟨b1.trans a1, b2.trans a2, b3.trans a3, b4.trans a4, b5.trans a5⟩
/-- thrown, with a fault and its place -/
def pc_thr (L : Nat) (D : Option am_O) (e : Int × Int) (g : am_H) : Prop := ∃ h' g', D = pT L 239 h' ∧ h' 212 9 = e.1 ∧ h' 212 10 = e.2 ∧ p_fr [] pc_pf g' h' ∧ ce_Q g g' ∧ ce_ok g'
section
variable {α β : Type}
/-- an outcome is what is told of it (nothing is said of faults from 8 on) -/
def pc_o (L : Nat) (D : Option am_O) (g : am_H) (r : gx_R α) (ok : α → Option am_O → Prop) : Prop := match r with
  | .inl e => e.1 < 8 → pc_thr L D e g
  | .inr a => ok a D
theorem pc_o.mono {L : Nat} {D : Option am_O} {g g1 : am_H} {r : gx_R α} {ok : α → Option am_O → Prop} (h : pc_o L D g1 r ok) (q : ce_Q g g1) : pc_o L D g r ok := by
  cases r with
  | inl e =>
    intro he
    obtain ⟨h', g', a1, a2, a3, a4, a5⟩ := h he
    exact ⟨h', g', a1, a2, a3, a4, q.trans a5.1, a5.2⟩
  | inr a => exact h
theorem pc_o.imp {L : Nat} {D : Option am_O} {g : am_H} {r : gx_R α} {ok ok' : α → Option am_O → Prop} (h : pc_o L D g r ok) (hi : ∀ a D, r = .inr a → ok a D → ok' a D) : pc_o L D g r ok' := by
  cases r with
  | inl e => exact h
  | inr a => exact hi a D rfl h
theorem pc_bV {L : Nat} {D : Option am_O} {g : am_H} {r : gx_R α} {Po : α → am_H → Prop} {k : am_H → Option am_O} {f : α → gx_R β} {ok : β → Option am_O → Prop}
    (hX : pc_o L D g r (fun a D => ∃ h1, D = pV L h1 ∧ Po a h1)) (hk : ∀ a h1, r = .inr a → Po a h1 → pc_o L (k h1) g (f a) ok) : pc_o L (am_xV (zS L) D (am_up1 (zS L)) k) g (gx_b r f) ok := by
  cases r with
  | inl e =>
    intro he
    obtain ⟨h', g', rfl, a2, a3, a4, a5⟩ := hX he
    exact ⟨h', g', by rw [p_xVt]; rfl, a2, a3, a4, a5⟩
  | inr a =>
    obtain ⟨h1, rfl, hp⟩ := hX
    rw [p_xV]
    exact hk a h1 rfl hp
theorem pc_bI {L : Nat} {D : Option am_O} {g : am_H} {r : gx_R α} {Po : α → Int → am_H → Prop} {k : Int → am_H → Option am_O} {f : α → gx_R β} {ok : β → Option am_O → Prop}
    (hX : pc_o L D g r (fun a D => ∃ v h1, D = pI L v h1 ∧ Po a v h1)) (hk : ∀ a v h1, r = .inr a → Po a v h1 → pc_o L (k v h1) g (f a) ok) : pc_o L (am_xI (zS L) D (am_up1 (zS L)) k) g (gx_b r f) ok := by
  cases r with
  | inl e =>
    intro he
    obtain ⟨h', g', rfl, a2, a3, a4, a5⟩ := hX he
    exact ⟨h', g', by rw [p_xIt]; rfl, a2, a3, a4, a5⟩
  | inr a =>
    obtain ⟨v, h1, rfl, hp⟩ := hX
    rw [p_xI]
    exact hk a v h1 rfl hp
end
section
variable (K V P : Nat → Int) (sy w : Bool)
/-- where the reading stands: token i, deep, letters; h is g but for where it stands -/
def pc_R (i deep st : Nat) (g h : am_H) : Prop := p_fr [] pc_ps g h ∧ h 212 8 = i ∧ h 212 11 = deep ∧ h 212 12 = am_w st ∧ g 212 23 = pB (sy = true) ∧ g 212 24 = pB (w = true) ∧ g 241 = K ∧ g 242 = V ∧ g 243 = P ∧ ce_ok g
/-- the last token: at Z; it can be passed by none -/
def pc_Z (Z : Nat) : Prop := Z ≤ 4498 ∧ (K Z = 0 ∨ K Z = 6 ∨ (sy = false ∧ Z = 1000)) ∧ (∀ i, i ≤ Z → -32768 ≤ V i ∧ V i ≤ 32767) ∧ ∃ Y, Z ≤ Y ∧ Y < 4500 ∧ (K Y = 0 ∨ K Y = 6)
def pc_I (Z i : Nat) : Prop := i ≤ Z ∧ (K i ≠ 0 → K i ≠ 6 → i < Z)
end
section
variable {K V P : Nat → Int} {sy w : Bool} {i deep st : Nat} {g h : am_H}
theorem pc_R.tok (R : pc_R K V P sy w i deep st g h) : h 241 = K ∧ h 242 = V ∧ h 243 = P := ⟨(R.1.cell 241 rfl rfl).trans R.2.2.2.2.2.2.1, (R.1.cell 242 rfl rfl).trans R.2.2.2.2.2.2.2.1, (R.1.cell 243 rfl rfl).trans R.2.2.2.2.2.2.2.2.1⟩
theorem pc_R.syq (R : pc_R K V P sy w i deep st g h) : h 212 23 = pB (sy = true) := (R.1 212 23 rfl rfl).trans R.2.2.2.2.1
theorem pc_R.wr (R : pc_R K V P sy w i deep st g h) : h 212 24 = pB (w = true) := (R.1 212 24 rfl rfl).trans R.2.2.2.2.2.1
theorem pc_R.ok (R : pc_R K V P sy w i deep st g h) : ce_ok g := R.2.2.2.2.2.2.2.2.2
theorem pc_fr_up {g h : am_H} (f : p_fr [] pc_ps g h) (a k : Nat) (v : Int) (hc : pc_ps.contains (a, k) = true) : p_fr [] pc_ps g (am_up h a k v) := f.upf _ _ _ hc
/-- the same is written into both -/
theorem pc_fr_both {cs : List Nat} {fs : List (Nat × Nat)} {g h : am_H} (f : p_fr cs fs g h) (a k : Nat) (v : Int) : p_fr cs fs (am_up g a k v) (am_up h a k v) := by
  intro b j h1 h2
  rw [p_up, p_up]
  split
  · rfl
  · exact f b j h1 h2
theorem pc_R.at_ (R : pc_R K V P sy w i deep st g h) (j : Nat) : pc_R K V P sy w j deep st g (am_up h 212 8 j) :=
  ⟨pc_fr_up R.1 _ _ _ rfl, p_up_s _ _ _ _, by rw [p_up_n _ _ _ _ _ _ (Or.inr (by decide))]; exact R.2.2.1, by rw [p_up_n _ _ _ _ _ _ (Or.inr (by decide))]; exact R.2.2.2.1, R.2.2.2.2⟩
theorem pc_R.deep_ (R : pc_R K V P sy w i deep st g h) (j : Nat) : pc_R K V P sy w i j st g (am_up h 212 11 j) :=
  ⟨pc_fr_up R.1 _ _ _ rfl, by rw [p_up_n _ _ _ _ _ _ (Or.inr (by decide))]; exact R.2.1, p_up_s _ _ _ _, by rw [p_up_n _ _ _ _ _ _ (Or.inr (by decide))]; exact R.2.2.2.1, R.2.2.2.2⟩
theorem pc_R.str_ (R : pc_R K V P sy w i deep st g h) (j : Nat) : pc_R K V P sy w i deep j g (am_up h 212 12 (am_w j)) :=
  ⟨pc_fr_up R.1 _ _ _ rfl, by rw [p_up_n _ _ _ _ _ _ (Or.inr (by decide))]; exact R.2.1, by rw [p_up_n _ _ _ _ _ _ (Or.inr (by decide))]; exact R.2.2.1, p_up_s _ _ _ _, R.2.2.2.2⟩
section
variable (d L : Nat)
theorem pc_token (R : pc_R K V P sy w i deep st g h) (hi : i < 4500) : am_D (d + 1) 7 1 [am_r (am_a 212)] (zS L, h) = pI L (K i) h := by
  rw [D_7_1, R.2.1, p_idx (by omega) (by omega), Int.toNat_natCast, R.tok.1]
theorem pc_value (R : pc_R K V P sy w i deep st g h) (hi : i < 4500) : am_D (d + 1) 7 2 [am_r (am_a 212)] (zS L, h) = pI L (V i) h := by
  rw [D_7_2, R.2.1, p_idx (by omega) (by omega), Int.toNat_natCast, R.tok.2.1]
theorem pc_here (R : pc_R K V P sy w i deep st g h) (hi : i < 4500) : am_D (d + 1) 7 3 [am_r (am_a 212)] (zS L, h) = pI L (P i) h := by
  rw [D_7_3, R.2.1, p_idx (by omega) (by omega), Int.toNat_natCast, R.tok.2.2]
theorem pc_isSign (R : pc_R K V P sy w i deep st g h) (hi : i < 4500) (c : Int) : am_D (d + 2) 7 4 [am_r (am_a 212), am_i c] (zS L, h) = pI L (pB (gx_sg K V c i)) h := by
  rw [D_7_4, pc_token d L R hi, p_xI, pc_value d L R hi]
  simp only [p_xI, p_bit0, p_bit1]
  by_cases h1 : K i = 5
  · rw [if_pos h1]
    by_cases h2 : V i = c
    · rw [if_pos h2, pB_t (show gx_sg K V c i from ⟨h1, h2⟩)]
    · rw [if_neg h2, pB_f (show ¬ gx_sg K V c i from fun z => h2 z.2)]
  · rw [if_neg h1, pB_f (show ¬ gx_sg K V c i from fun z => h1 z.1)]
theorem pc_isWord (R : pc_R K V P sy w i deep st g h) (hi : i < 4500) (c : Int) : am_D (d + 2) 7 5 [am_r (am_a 212), am_i c] (zS L, h) = pI L (pB (gx_wd K V c i)) h := by
  rw [D_7_5, pc_token d L R hi, p_xI, pc_value d L R hi]
  simp only [p_xI, p_bit0, p_bit1]
  by_cases h1 : K i = 1
  · rw [if_pos h1]
    by_cases h2 : V i = c
    · rw [if_pos h2, pB_t (show gx_wd K V c i from ⟨h1, h2⟩)]
    · rw [if_neg h2, pB_f (show ¬ gx_wd K V c i from fun z => h2 z.2)]
  · rw [if_neg h1, pB_f (show ¬ gx_wd K V c i from fun z => h1 z.1)]
theorem pc_fail (R : pc_R K V P sy w i deep st g h) (c p : Int) : pc_thr L (am_D (d + 1) 7 6 [am_r (am_a 212), am_i c, am_i p] (zS L, h)) (c, p) g := by
  rw [D_7_6]
  refine ⟨_, g, rfl, ?_, ?_, ((R.1.mono rfl rfl).upf _ _ _ rfl).upf _ _ _ rfl, ce_Q.refl g, R.ok⟩
  · rw [p_up_n _ _ _ _ _ _ (Or.inr (by decide)), p_up_s]
  · rw [p_up_s]
theorem pc_thr_xV {D : Option am_O} {e : Int × Int} {k : am_H → Option am_O} (t : pc_thr L D e g) : pc_thr L (am_xV (zS L) D (am_up1 (zS L)) k) e g := by
  obtain ⟨h', g', rfl, a2, a3, a4, a5⟩ := t
  exact ⟨h', g', by rw [p_xVt]; rfl, a2, a3, a4, a5⟩
theorem pc_thr_xI {D : Option am_O} {e : Int × Int} {k : Int → am_H → Option am_O} (t : pc_thr L D e g) : pc_thr L (am_xI (zS L) D (am_up1 (zS L)) k) e g := by
  obtain ⟨h', g', rfl, a2, a3, a4, a5⟩ := t
  exact ⟨h', g', by rw [p_xIt]; rfl, a2, a3, a4, a5⟩
/-- need(p): SYNTAX here -/
theorem pc_need (R : pc_R K V P sy w i deep st g h) (hi : i < 4500) (p : Prop) [Decidable p] : pc_o L (am_D (d + 2) 7 7 [am_r (am_a 212), am_i (pB p)] (zS L, h)) g (gx_if p (1, P i) (.inr ())) (fun _ D => ∃ h1, D = pV L h1 ∧ h1 = h) := by
  rw [D_7_7]
  simp only [pB_0]
  unfold gx_if
  by_cases hp : p
  · rw [if_neg (fun z => z hp), if_pos hp]; exact ⟨h, rfl, rfl⟩
  · rw [if_pos hp, if_neg hp, pc_here d L R hi, p_xI]
    exact fun _ => pc_thr_xV L (pc_fail d L R 1 (P i))
theorem pc_room (R : pc_R K V P sy w i deep st g h) (hi : i < 4500) (p : Prop) [Decidable p] : pc_o L (am_D (d + 2) 7 8 [am_r (am_a 212), am_i (pB p)] (zS L, h)) g (gx_if p (2, P i) (.inr ())) (fun _ D => ∃ h1, D = pV L h1 ∧ h1 = h) := by
  rw [D_7_8]
  simp only [pB_0]
  unfold gx_if
  by_cases hp : p
  · rw [if_neg (fun z => z hp), if_pos hp]; exact ⟨h, rfl, rfl⟩
  · rw [if_pos hp, if_neg hp, pc_here d L R hi, p_xI]
    exact fun _ => pc_thr_xV L (pc_fail d L R 2 (P i))
/-- check(p, c, q) -/
theorem pc_check (R : pc_R K V P sy w i deep st g h) (p : Prop) [Decidable p] (c q : Int) : pc_o L (am_D (d + 2) 7 9 [am_r (am_a 212), am_i (pB p), am_i c, am_i q] (zS L, h)) g (ce_chk w p (c, q) (.inr ())) (fun _ D => ∃ h1, D = pV L h1 ∧ h1 = h) := by
  rw [D_7_9, R.wr]
  simp only [pB_0]
  unfold ce_chk
  by_cases hw : w = true
  · rw [if_neg (fun z => z hw)]
    by_cases hp : p
    · rw [if_neg (fun z => z hp), if_neg (fun z => z.2 hp)]; exact ⟨h, rfl, rfl⟩
    · rw [if_pos hp, if_pos ⟨hw, hp⟩]
      exact fun _ => pc_thr_xV L (pc_fail d L R c q)
  · rw [if_pos hw, if_neg (fun z => hw z.1)]; exact ⟨h, rfl, rfl⟩
/-- next() -/
theorem pc_next {Z : Nat} (HZ : pc_Z K V sy Z) (R : pc_R K V P sy w i deep st g h) (hi : i < Z) : pc_o L (am_D (d + 3) 7 10 [am_r (am_a 212)] (zS L, h)) g (gx_next sy K P i) (fun j D => ∃ h1, D = pV L h1 ∧ pc_R K V P sy w j deep st g h1 ∧ pc_I K Z j) := by
  have hZ := HZ.1
  have R1 := R.at_ (i + 1)
  rw [D_7_10, R.syq, R.2.1, p_w (by omega) (by omega), show ((i : Int) + 1) = ((i + 1 : Nat) : Int) by omega]
  simp only [pB_0]
  unfold gx_next
  have goodI : ∀ (c : ¬ (sy = false ∧ 1000 ≤ i + 1 ∧ K (i + 1) ≠ 0)), pc_I K Z (i + 1) := by
    intro c
    refine ⟨by omega, fun k0 k6 => ?_⟩
    apply Classical.byContradiction
    intro z
    have ez : Z = i + 1 := by omega
    rcases HZ.2.1 with y | y | ⟨y1, y2⟩
    · rw [ez] at y; exact k0 y
    · rw [ez] at y; exact k6 y
    · exact c ⟨y1, by omega, k0⟩
  by_cases hs : sy = true
  · rw [if_neg (fun z => z hs), if_neg (by rw [hs]; simp)]
    exact ⟨_, rfl, R1, goodI (by rw [hs]; simp)⟩
  · have hs' : sy = false := by simpa using hs
    rw [if_pos hs]
    by_cases h1 : i + 1 < 1000
    · rw [if_pos (by omega), if_neg (by omega)]
      exact ⟨_, rfl, R1, goodI (by omega)⟩
    · rw [if_neg (by omega), pc_token (d + 1) L R1 (by omega), p_xI]
      by_cases h2 : K (i + 1) = 0
      · rw [if_pos h2, if_neg (by rintro ⟨-, -, z⟩; exact z h2)]
        exact ⟨_, rfl, R1, goodI (by rintro ⟨-, -, z⟩; exact z h2)⟩
      · have cc : sy = false ∧ 1000 ≤ i + 1 ∧ K (i + 1) ≠ 0 := ⟨hs', by omega, h2⟩
        rw [if_neg h2, pc_token (d + 1) L R1 (by omega), p_xI, if_pos cc]
        by_cases h3 : K (i + 1) = 6
        · rw [if_pos h3, if_pos h3, pc_here (d + 1) L R1 (by omega), p_xI]
          exact fun _ => pc_thr_xV L (pc_fail (d + 1) L R1 1 _)
        · rw [if_neg h3, if_neg h3, pc_here (d + 1) L R1 (by omega), p_xI]
          exact fun _ => pc_thr_xV L (pc_fail (d + 1) L R1 2 _)
theorem pc_I.lt {Z : Nat} (hI : pc_I K Z i) (h : K i ≠ 0 ∧ K i ≠ 6) : i < Z := hI.2 h.1 h.2
/-- sign(c) -/
theorem pc_sign {Z : Nat} (HZ : pc_Z K V sy Z) (R : pc_R K V P sy w i deep st g h) (hI : pc_I K Z i) (c : Int) : pc_o L (am_D (d + 4) 7 11 [am_r (am_a 212), am_i c] (zS L, h)) g (gx_sign sy K V P c i) (fun j D => ∃ h1, D = pV L h1 ∧ pc_R K V P sy w j deep st g h1 ∧ pc_I K Z j) := by
  have hZ := HZ.1
  have hi := hI.1
  rw [D_7_11, pc_isSign (d + 1) L R (by omega), p_xI]
  have e : gx_sign sy K V P c i = gx_b (gx_if (gx_sg K V c i) (1, P i) (.inr ())) fun _ => gx_next sy K P i := by
    unfold gx_sign gx_if; split <;> rfl
  rw [e]
  refine pc_bV (pc_need (d + 1) L R (by omega) _) ?_
  rintro a h1 ha rfl
  have hs : gx_sg K V c i := by
    unfold gx_if at ha
    split at ha
    · assumption
    · cases ha
  have e2 : gx_next sy K P i = gx_b (gx_next sy K P i) fun j => .inr j := by
    cases gx_next sy K P i <;> rfl
  rw [e2]
  refine pc_bV (pc_next d L HZ R (hI.lt ⟨by rw [hs.1]; decide, by rw [hs.1]; decide⟩)) ?_
  rintro j h2 - hp
  exact ⟨h2, rfl, hp⟩
end
end
