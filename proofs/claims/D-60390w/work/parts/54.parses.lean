/-! PURE LAYER, 24: statements -/
section
variable (K V P : Nat → Int) (sy w : Bool)
theorem ce_e24 (g : am_H) (t a b c e : Int) (l : List (Int × Int × Int × Int)) : ce w sy K V P (24, 0, 0, 0) (g, t, a, b, c, e, l) = gx_b (ce_told g) fun r => .inr (r.2, t, a, b, c, e, (r.1, 0, 0, 0) :: l) := rfl
theorem ce_e25 (g : am_H) (t a b c e : Int) (q : Int × Int × Int × Int) (l : List (Int × Int × Int × Int)) : ce w sy K V P (25, 0, 0, 0) (g, t, a, b, c, e, q :: l) = gx_b (ce_unless w sy q.1 g) fun g => gx_b (ce_labq w g) fun r => gx_b (ce_labq w r.2) fun r2 => gx_b (ce_vm w 13 r.1 0 r2.2) fun g => gx_b (ce_vm w 12 r2.1 0 g) fun g => gx_b (ce_vm w 11 r.1 0 g) fun g => .inr (g, t, a, b, c, e, (q.1, r2.1, 0, 0) :: l) := rfl
theorem ce_e26 (g : am_H) (t a b c e : Int) (q : Int × Int × Int × Int) (l : List (Int × Int × Int × Int)) : ce w sy K V P (26, 0, 0, 0) (g, t, a, b, c, e, q :: l) = gx_b (ce_labq w g) fun r => gx_b (ce_vm w 12 r.1 0 r.2) fun g => gx_b (ce_vm w 11 q.2.1 0 g) fun g => gx_b (ce_li w sy 12 (q.1 + 1) 0 g) fun g => gx_b (ce_li w sy 11 q.1 0 g) fun g => .inr (g, t, a, b, c, e, (q.1, q.2.1, r.1, 0) :: l) := rfl
theorem ce_e27 (g : am_H) (t a b c e : Int) (q : Int × Int × Int × Int) (l : List (Int × Int × Int × Int)) : ce w sy K V P (27, 0, 0, 0) (g, t, a, b, c, e, q :: l) = gx_b (ce_vm w 11 q.2.1 0 g) fun g => gx_b (ce_li w sy 11 q.1 0 g) fun g => .inr (g, t, a, b, c, e, l) := rfl
theorem ce_e28 (g : am_H) (t a b c e : Int) (q : Int × Int × Int × Int) (l : List (Int × Int × Int × Int)) : ce w sy K V P (28, 0, 0, 0) (g, t, a, b, c, e, q :: l) = gx_b (ce_vm w 11 q.2.2.1 0 g) fun g => gx_b (ce_li w sy 11 (q.1 + 1) 0 g) fun g => .inr (g, t, a, b, c, e, l) := rfl
theorem ce_e30 (g : am_H) (i : Nat) (t a b c e : Int) (l : List (Int × Int × Int × Int)) : ce w sy K V P (30, (i : Int), 0, 0) (g, t, a, b, c, e, l) = gx_b (ce_labq w g) fun r => gx_b (ce_labq w r.2) fun r2 => gx_b (ce_told r2.2) fun r3 => gx_b (ce_vm w 11 r.1 0 r3.2) fun g => gx_b (ce_li w sy 11 r3.1 0 g) fun g => gx_b (if sy = true then .inr g else ce_vm w 20 (P i) 0 g) fun g => .inr (g, t, a, b, c, e, (r3.1, r.1, r2.1, 0) :: l) := by
  show (gx_b (ce_labq w g) fun r => gx_b (ce_labq w r.2) fun r2 => gx_b (ce_told r2.2) fun r3 => gx_b (ce_vm w 11 r.1 0 r3.2) fun g => gx_b (ce_li w sy 11 r3.1 0 g) fun g => gx_b (if sy = true then .inr g else ce_vm w 20 (P ((i : Int)).toNat) 0 g) fun g => .inr (g, t, a, b, c, e, (r3.1, r.1, r2.1, 0) :: l)) = _
  rw [Int.toNat_natCast]
theorem ce_e31 (g : am_H) (t a b c e : Int) (q : Int × Int × Int × Int) (l : List (Int × Int × Int × Int)) : ce w sy K V P (31, 0, 0, 0) (g, t, a, b, c, e, q :: l) = gx_b (ce_unless w sy (q.1 + 1) g) fun g => gx_b (ce_labq w g) fun r => gx_b (ce_vm w 13 r.1 0 r.2) fun g => gx_b (ce_vm w 12 q.2.2.1 0 g) fun g => gx_b (ce_vm w 11 r.1 0 g) fun g => .inr (g, t, a, b, c, e, q :: l) := by
  show ce_h (g, t, a, b, c, e, q :: l) (gx_b (ce_unless w sy (q.1 + 1) g) fun g => gx_b (ce_labq w g) fun r => gx_b (ce_vm w 13 r.1 0 r.2) fun g => gx_b (ce_vm w 12 q.2.2.1 0 g) fun g => ce_vm w 11 r.1 0 g) = _
  simp only [ce_h, gx_b_assoc]
theorem ce_e32 (g : am_H) (t a b c e : Int) (q : Int × Int × Int × Int) (l : List (Int × Int × Int × Int)) : ce w sy K V P (32, 0, 0, 0) (g, t, a, b, c, e, q :: l) = gx_b (ce_vm w 12 q.2.1 0 g) fun g => gx_b (ce_vm w 11 q.2.2.1 0 g) fun g => gx_b (ce_li w sy 12 q.1 0 g) fun g => gx_b (ce_li w sy 11 (q.1 + 1) 0 g) fun g => .inr (g, t, a, b, c, e, l) := rfl
end
section
variable (K V P : Nat → Int) (sy w : Bool) (Z : Nat) (g0 : am_H) (L : Nat)
/-- how a statement ends -/
def pc_post2 (deep : Nat) (q : Int × Int × Int × Int × Int × List (Int × Int × Int × Int)) (a : Nat × Nat × ce_S) (D : Option am_O) : Prop := ∃ h1, D = pV L h1 ∧ pc_N K V P sy w Z g0 a.1 deep a.2.1 a.2.2.1 h1 ∧ a.2.2.2 = q
end
def pc_ds (deep : Nat) : Nat := 8 * (26 - deep) + 20
section
variable {K V P : Nat → Int} {sy w : Bool} {Z : Nat} {g0 : am_H} {i deep st : Nat} {g h : am_H} (d L : Nat) {β : Type}
/-- an emission -/
theorem pn_em {D : Option am_O} {r : gx_R am_H} {k : am_H → Option am_O} {F : am_H → gx_R β} {ok : β → Option am_O → Prop} (N : pc_N K V P sy w Z g0 i deep st g h) (E : pc_E K V P sy w i deep st L D g r) (hk : ∀ g1 h1, r = .inr g1 → pc_N K V P sy w Z g0 i deep st g1 h1 → pc_o L (k h1) g0 (F g1) ok) :
    pc_o L (am_xV (zS L) D (am_up1 (zS L)) k) g0 (gx_b r F) ok := by
  refine pc_bV (E.mono N.2.1) ?_
  rintro g1 h1 e1 ⟨R1, Q1⟩
  exact hk g1 h1 e1 ⟨R1, N.2.1.trans Q1, N.2.2⟩
theorem ce_Q_up {g : am_H} {a k : Nat} {v : Int} (h : (a = 8 ∧ k = 4) ∨ (a = 235 ∧ k = 4)) : ce_Q g (am_up g a k v) := by
  rcases h with ⟨rfl, rfl⟩ | ⟨rfl, rfl⟩
  · exact ⟨(p_fr.refl g).upf _ _ _ rfl, by simp [p_up], fun k hk => by simp [p_up], fun k hk => by simp [p_up], fun k hk => by simp [p_up]⟩
  · exact ⟨(p_fr.refl g).upf _ _ _ rfl, by simp [p_up], fun k hk => by simp [p_up], fun k hk => by simp [p_up], fun k hk => by simp [p_up]⟩
theorem pn_told {k : Int → am_H → Option am_O} {F : Int × am_H → gx_R β} {ok : β → Option am_O → Prop} (N : pc_N K V P sy w Z g0 i deep st g h) (hk : ∀ r h1, 0 ≤ r.1 → r.1 < 99990 → pc_N K V P sy w Z g0 i deep st r.2 h1 → pc_o L (k r.1 h1) g0 (F r) ok) :
    pc_o L (am_xI (zS L) (am_D (d + 1) 7 21 [am_r (am_a 212)] (zS L, h)) (am_up1 (zS L)) k) g0 (gx_b (ce_told g) F) ok := by
  have o := N.R.ok
  unfold ce_told ce_q
  by_cases c : g 235 4 < 99990
  · have o4 := o.2.2.2.1
    rw [if_pos c, D_7_21, N.R.eq 235 4 rfl, p_w (x := g 235 4 + 2) (by omega) (by omega), p_w (by omega) (by omega), p_xI, show g 235 4 + 2 - 2 = g 235 4 by omega]
    refine hk (g 235 4, am_up g 235 4 (g 235 4 + 2)) _ o4.1 c ⟨N.R.upd (pc_fr_both N.R.1 _ _ _) ?_ ?_ ?_ (ce_Q_up (Or.inr ⟨rfl, rfl⟩)).1 ?_, N.2.1.trans (ce_Q_up (Or.inr ⟨rfl, rfl⟩)), N.2.2⟩
    · simp [p_up]
    · simp [p_up]
    · simp [p_up]
    · unfold ce_ok at o ⊢
      simp only [p_up]
      simp
      omega
  · rw [if_neg c]; exact fun z => absurd z (by decide)
theorem pn_lab {k : Int → am_H → Option am_O} {F : Int × am_H → gx_R β} {ok : β → Option am_O → Prop} (N : pc_N K V P sy w Z g0 i deep st g h) (hk : ∀ r h1, pc_N K V P sy w Z g0 i deep st r.2 h1 → pc_o L (k r.1 h1) g0 (F r) ok) :
    pc_o L (am_xI (zS L) (am_D (d + 2) 7 18 [am_r (am_a 212)] (zS L, h)) (am_up1 (zS L)) k) g0 (gx_b (ce_labq w g) F) ok := by
  have o := N.R.ok
  unfold ce_labq ce_q
  rw [D_7_18, N.wr]
  simp only [pB_0]
  by_cases hw : w = true
  · rw [if_pos hw, if_neg (fun z => z hw)]
    by_cases c : g 8 4 < 100000
    · have o4 := o.2.1
      rw [if_pos c, D_16_5, N.R.eq 8 4 rfl, p_w (x := g 8 4 + 1) (by omega) (by omega), p_w (by omega) (by omega), p_xI, p_xI, show g 8 4 + 1 - 1 = g 8 4 by omega]
      refine hk (g 8 4, am_up g 8 4 (g 8 4 + 1)) _ ⟨N.R.upd (pc_fr_both N.R.1 _ _ _) ?_ ?_ ?_ (ce_Q_up (Or.inl ⟨rfl, rfl⟩)).1 ?_, N.2.1.trans (ce_Q_up (Or.inl ⟨rfl, rfl⟩)), N.2.2⟩
      · simp [p_up]
      · simp [p_up]
      · simp [p_up]
      · unfold ce_ok at o ⊢
        simp only [p_up]
        simp
        omega
    · rw [if_neg c]; exact fun z => absurd z (by decide)
  · rw [if_neg hw, if_pos hw, p_xI]
    exact hk (0, g) h N
theorem pc_wrap2 {D : Option am_O} {r : gx_R (Nat × Nat × ce_S)} {q : Int × Int × Int × Int × Int × List (Int × Int × Int × Int)} (hX : pc_o L D g0 r (pc_post2 K V P sy w Z g0 L deep q)) : pc_o L (am_xV (zS L) D (am_up1 (zS L)) (fun h1 => some (.inl none, (zS L, h1)))) g0 r (pc_post2 K V P sy w Z g0 L deep q) := by
  have e : r = gx_b r fun a => .inr a := by cases r <;> rfl
  rw [e]
  refine pc_bV (Po := fun (a : Nat × Nat × ce_S) (h1 : am_H) => pc_N K V P sy w Z g0 a.1 deep a.2.1 a.2.2.1 h1 ∧ a.2.2.2 = q) hX ?_
  rintro a h1 - hp
  exact ⟨h1, rfl, hp⟩
theorem pc_then2 {D : Option am_O} {r : gx_R (Nat × Nat × ce_S)} {q : Int × Int × Int × Int × Int × List (Int × Int × Int × Int)} {k : am_H → Option am_O} {F : Nat × Nat × ce_S → gx_R β} {ok : β → Option am_O → Prop} (hX : pc_o L D g0 r (pc_post2 K V P sy w Z g0 L deep q)) (hk : ∀ i st g h, pc_N K V P sy w Z g0 i deep st g h → pc_o L (k h) g0 (F (i, st, (g, q))) ok) : pc_o L (am_xV (zS L) D (am_up1 (zS L)) k) g0 (gx_b r F) ok := by
  refine pc_bV (Po := fun (a : Nat × Nat × ce_S) (h1 : am_H) => pc_N K V P sy w Z g0 a.1 deep a.2.1 a.2.2.1 h1 ∧ a.2.2.2 = q) hX ?_
  rintro ⟨a1, a2, g2, q2⟩ h1 - ⟨N, eq⟩
  have eq : q2 = q := eq
  subst eq
  exact hk a1 a2 g2 h1 N
section
variable {G : Nat} (H2 : pc_H2 K V P sy w Z g0 L G)
/-- a whole e -/
theorem pn_e2 (HT : pc_HT K V P sy w Z g0 L G) (H1 : pc_H1 K V P sy w Z g0 L G) {k : am_H → Option am_O} {F : Nat × Nat × ce_S × Nat → gx_R β} {ok : β → Option am_O → Prop} {q : Int × Int × Int × Int × Int × List (Int × Int × Int × Int)} (hd : pc_dn deep ≤ d) (N : pc_N K V P sy w Z g0 i deep st g h) (hk : ∀ i st g2 n h2, ce_same g g2 → pc_N K V P sy w Z g0 i deep st g2 h2 → pc_o L (k h2) g0 (F (i, st, (g2, q), n)) ok) :
    pc_o L (am_xV (zS L) (am_D (d + 2) 7 60 [am_r (am_a 212)] (zS L, h)) (am_up1 (zS L)) k) g0 (gx_b (ge_e sy K V P (ce w sy K V P) G deep st i (g, q)) F) ok := by
  refine pc_bV (Po := fun (a : Nat × Nat × ce_S × Nat) (h1 : am_H) => pc_N K V P sy w Z g0 a.1 deep a.2.1 a.2.2.1.1 h1 ∧ a.2.2.1.2 = q) (pn_e L HT H1 d deep st i g h q hd N) ?_
  rintro ⟨a1, a2, ⟨g2, q2⟩, a4⟩ h1 er ⟨N2, eq⟩
  have eq : q2 = q := eq
  subst eq
  obtain ⟨r1, e1, e2⟩ := gx_b_ok er
  exact hk a1 a2 g2 a4 h1 ((ge_same G 0 deep st i (g, q2) r1 e1).1.trans (ge_same G 1 deep _ _ _ _ e2).1) N2
theorem pn_cond2 (HT : pc_HT K V P sy w Z g0 L G) (H1 : pc_H1 K V P sy w Z g0 L G) {k : am_H → Option am_O} {F : Nat × Nat × ce_S → gx_R β} {ok : β → Option am_O → Prop} {q : Int × Int × Int × Int × Int × List (Int × Int × Int × Int)} (hd : deep < 25 → pc_dn (deep + 1) ≤ d) (N : pc_N K V P sy w Z g0 i deep st g h) (hk : ∀ i st g2 h2, pc_N K V P sy w Z g0 i deep st g2 h2 → pc_o L (k h2) g0 (F (i, st, (g2, q))) ok) :
    pc_o L (am_xV (zS L) (am_D (d + 4) 7 48 [am_r (am_a 212)] (zS L, h)) (am_up1 (zS L)) k) g0 (gx_b (ge_c sy K V P (ce w sy K V P) G deep st i (g, q)) F) ok := by
  have e : gx_b (ge_c sy K V P (ce w sy K V P) G deep st i (g, q)) F = gx_b (gx_b (gx_opens sy K V P 40 deep i) fun j1 => gx_b (ge sy K V P (ce w sy K V P) G 0 (deep + 1) st j1 (g, q)) fun r1 => gx_b (ge sy K V P (ce w sy K V P) G 1 (deep + 1) r1.2.1 r1.1 r1.2.2.1) fun r2 => gx_b (gx_sign sy K V P 41 r2.1) fun j2 => (.inr (j2, r2.2.1, r2.2.2.1, 0) : gx_R (Nat × Nat × ce_S × Nat))) fun r => F (r.1, r.2.1, r.2.2.1) := by
    unfold ge_c ge_e
    simp only [gx_b_assoc, gx_b_inr]
  rw [e]
  exact pc_then L (pn_cond L HT H1 d deep st i g h q hd N) (fun i2 st2 g2 n2 h2 N2 => hk i2 st2 g2 h2 N2)
variable (K V P sy w Z g0 G) in
def pc_HS (f : Nat) : Prop := ∀ (d deep st i : Nat) (g h : am_H) (q : Int × Int × Int × Int × Int × List (Int × Int × Int × Int)), pc_ds deep ≤ d → pc_N K V P sy w Z g0 i deep st g h → pc_o L (am_E (am_D d) m_7_40 (.inl 0) [some (am_r (am_a 212))] [] (zS L, h)) g0 (gs sy K V P (ce w sy K V P) G f 0 deep st i (g, q)) (pc_post2 K V P sy w Z g0 L deep q)
variable (K V P sy w Z g0 G) in
def pc_H42 (f : Nat) : Prop := ∀ (d deep st i : Nat) (g h : am_H) (q : Int × Int × Int × Int × Int × List (Int × Int × Int × Int)), pc_ds deep ≤ d → pc_N K V P sy w Z g0 i deep st g h → gx_stm K V i → pc_o L (am_D d 7 42 [am_r (am_a 212)] (zS L, h)) g0 (gs sy K V P (ce w sy K V P) G f 1 deep st i (g, q)) (pc_post2 K V P sy w Z g0 L deep q)
/-- block(): { .. } -/
theorem pn_block {f : Nat} (HS : pc_HS K V P sy w Z g0 L G f) {k : am_H → Option am_O} {F : Nat × Nat × ce_S → Nat → gx_R β} {ok : β → Option am_O → Prop} {q : Int × Int × Int × Int × Int × List (Int × Int × Int × Int)} (hd : deep < 25 → pc_ds (deep + 1) ≤ d + 2) (N : pc_N K V P sy w Z g0 i deep st g h) (hk : ∀ i j st g2 h2, pc_N K V P sy w Z g0 j deep st g2 h2 → pc_o L (k h2) g0 (F (i, st, (g2, q)) j) ok) :
    pc_o L (am_xV (zS L) (am_D (d + 4) 7 47 [am_r (am_a 212)] (zS L, h)) (am_up1 (zS L)) k) g0 (gx_b (gx_opens sy K V P 123 deep i) fun j1 => gx_b (gs sy K V P (ce w sy K V P) G f 0 (deep + 1) st j1 (g, q)) fun r2 => gx_b (gx_sign sy K V P 125 r2.1) fun j2 => F r2 j2) ok := by
  have hX : pc_o L (am_D (d + 4) 7 47 [am_r (am_a 212)] (zS L, h)) g0 (gx_b (gx_opens sy K V P 123 deep i) fun j1 => gx_b (gs sy K V P (ce w sy K V P) G f 0 (deep + 1) st j1 (g, q)) fun r2 => gx_b (gx_sign sy K V P 125 r2.1) fun j2 => (.inr (r2, j2) : gx_R ((Nat × Nat × ce_S) × Nat)))
      (fun a D => ∃ h1, D = pV L h1 ∧ (pc_N K V P sy w Z g0 a.2 deep a.1.2.1 a.1.2.2.1 h1 ∧ a.1.2.2.2 = q)) := by
    rw [D_7_47]
    refine pn_opens d L N 123 (fun j1 h2 hdp N2 => ?_)
    have hS : pc_o L (am_D (d + 3) 7 40 [am_r (am_a 212)] (zS L, h2)) g0 (gs sy K V P (ce w sy K V P) G f 0 (deep + 1) st j1 (g, q)) (pc_post2 K V P sy w Z g0 L (deep + 1) q) := by
      rw [D_7_40]; exact HS (d + 2) (deep + 1) st j1 g h2 q (hd hdp) N2
    refine pc_then2 L hS (fun i3 st3 g3 h3 N3 => ?_)
    exact pn_close d L N3 125 (by omega) (fun j4 h4 N4 => ⟨h4, rfl, N4, rfl⟩)
  have e : (gx_b (gx_opens sy K V P 123 deep i) fun j1 => gx_b (gs sy K V P (ce w sy K V P) G f 0 (deep + 1) st j1 (g, q)) fun r2 => gx_b (gx_sign sy K V P 125 r2.1) fun j2 => F r2 j2) = gx_b (gx_b (gx_opens sy K V P 123 deep i) fun j1 => gx_b (gs sy K V P (ce w sy K V P) G f 0 (deep + 1) st j1 (g, q)) fun r2 => gx_b (gx_sign sy K V P 125 r2.1) fun j2 => (.inr (r2, j2) : gx_R ((Nat × Nat × ce_S) × Nat))) fun a => F a.1 a.2 := by
    simp only [gx_b_assoc, gx_b_inr]
  rw [e]
  refine pc_bV hX ?_
  rintro ⟨⟨a1, a2, g2, q2⟩, j⟩ h1 - ⟨N, eq⟩
  have eq : q2 = q := eq
  subst eq
  exact hk a1 j a2 g2 h1 N
end
end
