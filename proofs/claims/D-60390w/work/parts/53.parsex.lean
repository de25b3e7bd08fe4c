/-! PURE LAYER, 23: terms and e -/
def pc_dn (deep : Nat) : Nat := 8 * (26 - deep) + 10
theorem gx_opens_sg {sy : Bool} {K V P : Nat → Int} {c : Int} {deep i : Nat} (h : gx_sg K V c i) : gx_open sy K P deep i = gx_opens sy K V P c deep i := by
  unfold gx_opens gx_if; rw [if_pos h]
theorem ce_h_b (s : ce_S) (r : gx_R am_H) (f : am_H → gx_R am_H) : ce_h s (gx_b r f) = gx_b (ce_h s r) fun s1 => ce_h s1 (f s1.1) := by cases r <;> rfl
section
variable {K V P : Nat → Int} {sy w : Bool} {Z : Nat} {g0 : am_H} {i deep st : Nat} {g h : am_H} (L : Nat)
theorem pc_wrap {D : Option am_O} {r : gx_R (Nat × Nat × ce_S × Nat)} {q : Int × Int × Int × Int × Int × List (Int × Int × Int × Int)} (hX : pc_o L D g0 r (pc_post K V P sy w Z g0 L deep q)) : pc_o L (am_xV (zS L) D (am_up1 (zS L)) (fun h1 => some (.inl none, (zS L, h1)))) g0 r (pc_post K V P sy w Z g0 L deep q) := by
  have e : r = gx_b r fun a => .inr a := by cases r <;> rfl
  rw [e]
  refine pc_bV (Po := fun (a : Nat × Nat × ce_S × Nat) (h1 : am_H) => pc_N K V P sy w Z g0 a.1 deep a.2.1 a.2.2.1.1 h1 ∧ a.2.2.1.2 = q) hX ?_
  rintro a h1 - hp
  exact ⟨h1, rfl, hp⟩
/-- behind a part of an e -/
theorem pc_then {β : Type} {D : Option am_O} {r : gx_R (Nat × Nat × ce_S × Nat)} {q : Int × Int × Int × Int × Int × List (Int × Int × Int × Int)} {k : am_H → Option am_O} {F : Nat × Nat × ce_S × Nat → gx_R β} {ok : β → Option am_O → Prop} (hX : pc_o L D g0 r (pc_post K V P sy w Z g0 L deep q)) (hk : ∀ i st g n h, pc_N K V P sy w Z g0 i deep st g h → pc_o L (k h) g0 (F (i, st, (g, q), n)) ok) : pc_o L (am_xV (zS L) D (am_up1 (zS L)) k) g0 (gx_b r F) ok := by
  refine pc_bV (Po := fun (a : Nat × Nat × ce_S × Nat) (h1 : am_H) => pc_N K V P sy w Z g0 a.1 deep a.2.1 a.2.2.1.1 h1 ∧ a.2.2.1.2 = q) hX ?_
  rintro ⟨a1, a2, ⟨g2, q2⟩, a4⟩ h1 - ⟨N, eq⟩
  have eq : q2 = q := eq
  subst eq
  exact hk a1 a2 g2 a4 h1 N
variable (K V P sy w Z g0) in
def pc_HT (f : Nat) : Prop := ∀ (d deep st i : Nat) (g h : am_H) (q : Int × Int × Int × Int × Int × List (Int × Int × Int × Int)), pc_dn deep ≤ d → pc_N K V P sy w Z g0 i deep st g h → pc_o L (am_D (d + 1) 7 63 [am_r (am_a 212)] (zS L, h)) g0 (ge sy K V P (ce w sy K V P) f 0 deep st i (g, q)) (pc_post K V P sy w Z g0 L deep q)
variable (K V P sy w Z g0) in
def pc_H1 (f : Nat) : Prop := ∀ (d deep st i : Nat) (g h : am_H) (q : Int × Int × Int × Int × Int × List (Int × Int × Int × Int)) (u1 : Option am_V), pc_dn deep ≤ d → pc_N K V P sy w Z g0 i deep st g h → pc_o L (am_E (am_D (d + 1)) m_7_60 (.inl 1) [some (am_r (am_a 212)), u1] [] (zS L, h)) g0 (ge sy K V P (ce w sy K V P) f 1 deep st i (g, q)) (pc_post K V P sy w Z g0 L deep q)
variable (K V P sy w Z g0) in
def pc_H2 (f : Nat) : Prop := ∀ (d deep st i : Nat) (g h : am_H) (q : Int × Int × Int × Int × Int × List (Int × Int × Int × Int)) (x1 : Int), pc_dn (deep + 1) ≤ d → deep < 25 → 0 ≤ x1 → x1 + f ≤ 1000000000 → pc_N K V P sy w Z g0 i (deep + 1) st g h → pc_o L (am_E (am_D (d + 3)) m_7_67 (.inl 1) [some (am_r (am_a 212)), some (am_i x1)] [] (zS L, h)) g0 (ge sy K V P (ce w sy K V P) f (if x1 = 0 then 2 else 3) (deep + 1) st i (g, q))
    (fun a D => ∃ v h1, D = pI L v h1 ∧ pc_N K V P sy w Z g0 a.1 deep a.2.1 a.2.2.1.1 h1 ∧ a.2.2.1.2 = q)
/-- e() -/
theorem pn_e {f : Nat} (HT : pc_HT K V P sy w Z g0 L f) (H1 : pc_H1 K V P sy w Z g0 L f) (d deep st i : Nat) (g h : am_H) (q : Int × Int × Int × Int × Int × List (Int × Int × Int × Int)) (hd : pc_dn deep ≤ d) (N : pc_N K V P sy w Z g0 i deep st g h) :
    pc_o L (am_D (d + 2) 7 60 [am_r (am_a 212)] (zS L, h)) g0 (gx_b (ge sy K V P (ce w sy K V P) f 0 deep st i (g, q)) fun r1 => ge sy K V P (ce w sy K V P) f 1 deep r1.2.1 r1.1 r1.2.2.1) (pc_post K V P sy w Z g0 L deep q) := by
  rw [D_7_60]
  exact pc_then L (HT d deep st i g h q hd N) (fun i2 st2 g2 n2 h2 N2 => H1 d deep st2 i2 g2 h2 q none hd N2)
theorem pn_args {f : Nat} (hf : f ≤ 1000000) (H2 : pc_H2 K V P sy w Z g0 L f) (d deep : Nat) (hd : deep < 25 → pc_dn (deep + 1) ≤ d) : pc_HA K V P sy w Z g0 d L f deep := by
  intro st i g h q N
  rw [D_7_67]
  refine pn_opens d L N 40 (fun j h1 hdp N1 => ?_)
  exact H2 d deep st j g h1 q 0 (hd hdp) hdp (by omega) (by omega) N1
/-- index(): name [ e ], and + -/
theorem pn_index {f : Nat} (HT : pc_HT K V P sy w Z g0 L f) (H1 : pc_H1 K V P sy w Z g0 L f) (d deep st i j : Nat) (g h : am_H) (q : Int × Int × Int × Int × Int × List (Int × Int × Int × Int)) (hd : deep < 25 → pc_dn (deep + 1) ≤ d) (N : pc_N K V P sy w Z g0 j deep st g h) (hs : gx_sg K V 91 j) :
    pc_o L (am_D (d + 5) 7 46 [am_r (am_a 212), am_i (V i), am_i (P i)] (zS L, h)) g0
      (gx_b (ce w sy K V P (6, (i : Int), 0, 0) (g, q)) fun s1 => gx_b (gx_open sy K P deep j) fun j1 => gx_b (ge sy K V P (ce w sy K V P) f 0 (deep + 1) st j1 s1) fun r1 => gx_b (ge sy K V P (ce w sy K V P) f 1 (deep + 1) r1.2.1 r1.1 r1.2.2.1) fun r2 => gx_b (gx_sign sy K V P 93 r2.1) fun j2 => gx_b (ce_h r2.2.2.1 (ce_both w sy 2 2 r2.2.2.1.1)) fun s2 => .inr (j2, r2.2.1, s2, 0)) (pc_post K V P sy w Z g0 L deep q) := by
  rw [D_7_46]
  show pc_o L _ g0 (gx_b (ce_h (g, q) (ce_q (ce_nm g (V ((i : Int)).toNat)) (ce_load w sy (V ((i : Int)).toNat) (P ((i : Int)).toNat) g))) _) _
  rw [Int.toNat_natCast]
  refine pn_q L (fun hq => ?_)
  refine pn_ev L N (em_load d L N.R _ _) (fun g1 h1 _ N1 => ?_)
  refine pn_open (d + 1) L N1 ⟨by rw [hs.1]; decide, by rw [hs.1]; decide⟩ (fun j1 h2 hdp N2 => ?_)
  rw [← gx_b_assoc]
  refine pc_then L (pn_e L HT H1 (d + 2) (deep + 1) st j1 g1 h2 q (by have := hd hdp; omega) N2) (fun i3 st3 g3 n3 h3 N3 => ?_)
  refine pn_close (d + 1) L N3 93 (by omega) (fun j4 h4 N4 => ?_)
  dsimp only
  unfold ce_both
  refine pn_evb L N4 (em_op (d + 1) L N4.R (by omega)) (fun g5 h5 _ N5 => ?_)
  exact pn_ev L N5 (em_li (d + 2) L N5.R (by omega) _ _) (fun g6 h6 _ N6 => ⟨h6, rfl, N6, rfl⟩)
/-- condition(): ( e ) -/
theorem pn_cond {f : Nat} (HT : pc_HT K V P sy w Z g0 L f) (H1 : pc_H1 K V P sy w Z g0 L f) (d deep st i : Nat) (g h : am_H) (q : Int × Int × Int × Int × Int × List (Int × Int × Int × Int)) (hd : deep < 25 → pc_dn (deep + 1) ≤ d) (N : pc_N K V P sy w Z g0 i deep st g h) :
    pc_o L (am_D (d + 4) 7 48 [am_r (am_a 212)] (zS L, h)) g0
      (gx_b (gx_opens sy K V P 40 deep i) fun j1 => gx_b (ge sy K V P (ce w sy K V P) f 0 (deep + 1) st j1 (g, q)) fun r1 => gx_b (ge sy K V P (ce w sy K V P) f 1 (deep + 1) r1.2.1 r1.1 r1.2.2.1) fun r2 => gx_b (gx_sign sy K V P 41 r2.1) fun j2 => .inr (j2, r2.2.1, r2.2.2.1, 0)) (pc_post K V P sy w Z g0 L deep q) := by
  rw [D_7_48]
  refine pn_opens d L N 40 (fun j1 h2 hdp N2 => ?_)
  rw [← gx_b_assoc]
  refine pc_then L (pn_e L HT H1 (d + 1) (deep + 1) st j1 g h2 q (by have := hd hdp; omega) N2) (fun i3 st3 g3 n3 h3 N3 => ?_)
  exact pn_close d L N3 41 (by omega) (fun j4 h4 N4 => ⟨h4, rfl, N4, rfl⟩)
/-- one term more: the step -/
theorem pn_term {f : Nat} (hf : f ≤ 1000000) (HT : pc_HT K V P sy w Z g0 L f) (H1 : pc_H1 K V P sy w Z g0 L f) (H2 : pc_H2 K V P sy w Z g0 L f) : pc_HT K V P sy w Z g0 L (f + 1) := by
  intro d deep st i g h q hd N
  obtain ⟨d0, rfl⟩ : ∃ d0, d = d0 + 10 := ⟨d - 10, by unfold pc_dn at hd; omega⟩
  have hd1 : deep < 25 → pc_dn (deep + 1) ≤ d0 + 2 := by intro z; unfold pc_dn at *; omega
  rw [D_7_63, pc_token (d0 + 9) L N.R N.lt, p_xI, pc_value (d0 + 9) L N.R N.lt, p_xI, ge]
  by_cases k3 : K i = 3
  · rw [if_pos k3, if_pos k3]
    show pc_o L _ g0 (gx_b (ce_h (g, q) (gx_b (ce_vm w 0 0 (V i) g) (ce_li w sy 0 0 (V i)))) _) _
    refine pn_evb L N (em_push (d0 + 7) L N.R _ _) (fun g1 h1 _ N1 => ?_)
    refine pn_ev L N1 (em_li (d0 + 8) L N1.R (by omega) _ _) (fun g2 h2 _ N2 => ?_)
    exact pn_next (d0 + 7) L N2 ⟨by rw [k3]; decide, by rw [k3]; decide⟩ (fun j h3 _ N3 => ⟨h3, rfl, N3, rfl⟩)
  rw [if_neg k3, if_neg k3]
  by_cases k4 : K i = 4
  · rw [if_pos k4, if_pos k4]
    exact pc_wrap L (pn_string (d0 + 6) L N k4 q)
  rw [if_neg k4, if_neg k4]
  by_cases k1 : K i = 1
  · rw [if_pos k1, if_pos k1]
    exact pc_wrap L (pn_word (d0 + 5) L N k1 q)
  rw [if_neg k1, if_neg k1]
  by_cases k2 : K i = 2
  · rw [if_pos k2, if_pos k2]
    refine pc_wrap L ?_
    rw [D_7_66, pc_here (d0 + 8) L N.R N.lt, p_xI, show gx_next sy K P i = gx_name sy K P i by unfold gx_name gx_if; rw [if_pos k2]]
    refine pn_name (d0 + 5) L N (fun j h1 _ ej N1 => ?_)
    subst ej
    rw [pc_isSign (d0 + 7) L N1.R N1.lt, p_xI]
    simp only [pB_0]
    by_cases s91 : gx_sg K V 91 (i + 1)
    · rw [if_neg (fun z => z s91), if_pos s91]
      have e : (gx_b (ce w sy K V P (6, (i : Int), 0, 0) (g, q)) fun s1 => gx_b (gx_open sy K P deep (i + 1)) fun j1 => gx_b (ge sy K V P (ce w sy K V P) f 0 (deep + 1) st j1 s1) fun r1 => gx_b (ge sy K V P (ce w sy K V P) f 1 (deep + 1) r1.2.1 r1.1 r1.2.2.1) fun r2 => gx_b (gx_sign sy K V P 93 r2.1) fun j2 => gx_b (ce w sy K V P (7, 0, 0, 0) r2.2.2.1) fun s2 => (.inr (j2, r2.2.1, s2, 0) : gx_R (Nat × Nat × ce_S × Nat))) =
          gx_b (gx_b (ce w sy K V P (6, (i : Int), 0, 0) (g, q)) fun s1 => gx_b (gx_open sy K P deep (i + 1)) fun j1 => gx_b (ge sy K V P (ce w sy K V P) f 0 (deep + 1) st j1 s1) fun r1 => gx_b (ge sy K V P (ce w sy K V P) f 1 (deep + 1) r1.2.1 r1.1 r1.2.2.1) fun r2 => gx_b (gx_sign sy K V P 93 r2.1) fun j2 => gx_b (ce_h r2.2.2.1 (ce_both w sy 2 2 r2.2.2.1.1)) fun s2 => (.inr (j2, r2.2.1, s2, 0) : gx_R (Nat × Nat × ce_S × Nat))) fun r => gx_b (ce_h r.2.2.1 (gx_b (ce_get w r.2.2.1.1) fun g => gx_b (ce_li w sy 1 6 1 g) (ce_li w sy 0 5 0))) fun s2 => .inr (r.1, r.2.1, s2, 0) := by
        simp only [gx_b_assoc, gx_b_inr]
        have e7 : ∀ s : ce_S, ce w sy K V P (7, 0, 0, 0) s = gx_b (ce_h s (ce_both w sy 2 2 s.1)) fun s1 => ce_h s1 (gx_b (ce_get w s1.1) fun g => gx_b (ce_li w sy 1 6 1 g) (ce_li w sy 0 5 0)) := by
          intro s; exact ce_h_b s (ce_both w sy 2 2 s.1) (fun g => gx_b (ce_get w g) fun g => gx_b (ce_li w sy 1 6 1 g) (ce_li w sy 0 5 0))
        simp only [e7, gx_b_assoc]
      rw [e]
      refine pc_then L (pn_index L HT H1 (d0 + 4) deep st i (i + 1) g h1 q (by intro z; have := hd1 z; omega) N1 s91) (fun i2 st2 g2 n2 h2 N2 => ?_)
      dsimp only
      refine pn_evb L N2 (em_get (d0 + 6) L N2.R) (fun g3 h3 _ N3 => ?_)
      exact pn_ev L N3 (em_elem (d0 + 6) L N3.R) (fun g4 h4 _ N4 => ⟨h4, rfl, N4, rfl⟩)
    · rw [if_pos s91, if_neg s91, pc_isSign (d0 + 7) L N1.R N1.lt, p_xI]
      simp only [pB_0]
      by_cases s40 : gx_sg K V 40 (i + 1)
      · have s46 : ¬ gx_sg K V 46 (i + 1) := fun z => by have a := z.2; have b := s40.2; omega
        rw [if_neg (fun z => z s40), if_neg s46, if_pos s40, gx_opens_sg s40]
        exact pc_wrap L (pn_call1 (d0 + 4) L (pn_args L hf H2 (d0 + 4) deep (by intro z; have := hd1 z; omega)) N1 s46 q)
      · rw [if_pos s40, pc_isSign (d0 + 7) L N1.R N1.lt, p_xI]
        simp only [pB_0]
        by_cases s46 : gx_sg K V 46 (i + 1)
        · rw [if_neg (fun z => z s46), if_pos s46]
          exact pc_wrap L (pn_call2 (d0 + 4) L (pn_args L hf H2 (d0 + 4) deep (by intro z; have := hd1 z; omega)) N1 s46 q)
        · rw [if_pos s46, if_neg s46, if_neg s40]
          show pc_o L _ g0 (gx_b (ce_h (g, q) (ce_q (ce_nm g (V ((i : Int)).toNat)) (ce_load w sy (V ((i : Int)).toNat) (P ((i : Int)).toNat) g))) _) _
          rw [Int.toNat_natCast]
          refine pn_q L (fun hq => ?_)
          exact pn_ev L N1 (em_load (d0 + 5) L N1.R _ _) (fun g2 h2 _ N2 => ⟨h2, rfl, N2, rfl⟩)
  rw [if_neg k2, if_neg k2, pc_isSign (d0 + 8) L N.R N.lt, p_xI]
  simp only [pB_0]
  by_cases s40 : gx_sg K V 40 i
  · rw [if_neg (fun z => z s40), if_pos s40, gx_opens_sg s40]
    exact pc_wrap L (pn_cond L HT H1 (d0 + 6) deep st i g h q (by intro z; have := hd1 z; omega) N)
  · rw [if_pos s40, if_neg s40]
    have e8 : pc_o L (am_E (am_D (d0 + 10)) m_7_63 (.inl 8) [some (am_r (am_a 212)), some (am_i (K i)), some (am_i (V i))] [am_i (pB (gx_sg K V 45 i ∨ gx_sg K V 126 i)), am_r (am_a 212)] (zS L, h)) g0
        (gx_if (gx_sg K V 45 i ∨ gx_sg K V 126 i) (1, P i) (gx_b (gx_open sy K P deep i) fun j1 => gx_b (ge sy K V P (ce w sy K V P) f 0 (deep + 1) st j1 (g, q)) fun r1 => gx_b (ce w sy K V P (if V i = 45 then 9 else 10, 0, 0, 0) r1.2.2.1) fun s2 => .inr (r1.1, r1.2.1, s2, 0))) (pc_post K V P sy w Z g0 L deep q) := by
      rw [q_7_63_8]
      refine pn_need (d0 + 8) L N _ (fun hs => ?_)
      have hK : K i ≠ 0 ∧ K i ≠ 6 := by rcases hs with z | z <;> exact ⟨by rw [z.1]; decide, by rw [z.1]; decide⟩
      refine pn_open (d0 + 7) L N hK (fun j1 h1 hdp N1 => ?_)
      refine pc_then L (HT (d0 + 9) (deep + 1) st j1 g h1 q (by have := hd1 hdp; omega) N1) (fun i2 st2 g2 n2 h2 N2 => ?_)
      dsimp only
      have N3 : pc_N K V P sy w Z g0 i2 deep st2 g2 (am_up h2 212 11 (am_w (h2 212 11 - 1))) := by
        rw [N2.R.2.2.1, p_w (by omega) (by omega), show (((deep + 1 : Nat) : Int) - 1) = (deep : Int) by omega]
        exact N2.deep_ deep
      by_cases c : V i = 45
      · simp only [if_pos c]
        rw [q_7_63_10, if_pos c]
        show pc_o L _ g0 (gx_b (ce_h (g2, q) (ce_both w sy 4 4 g2)) _) _
        exact pn_ev L N3 (em_both (d0 + 6) L N3.R (by omega) (by omega)) (fun g4 h4 _ N4 => ⟨h4, rfl, N4, rfl⟩)
      · simp only [if_neg c]
        rw [q_7_63_10, if_neg c]
        show pc_o L _ g0 (gx_b (ce_h (g2, q) (ce_both w sy 7 7 g2)) _) _
        exact pn_ev L N3 (em_both (d0 + 6) L N3.R (by omega) (by omega)) (fun g4 h4 _ N4 => ⟨h4, rfl, N4, rfl⟩)
    rw [pc_isSign (d0 + 8) L N.R N.lt, p_xI]
    simp only [pB_0]
    by_cases s45 : gx_sg K V 45 i
    · rw [if_neg (fun z => z s45)]; rw [pB_t (show gx_sg K V 45 i ∨ gx_sg K V 126 i from Or.inl s45)] at e8; exact e8
    · rw [if_pos s45, pc_isSign (d0 + 8) L N.R N.lt, p_xI]
      simp only [pB_0]
      by_cases s126 : gx_sg K V 126 i
      · rw [if_neg (fun z => z s126)]; rw [pB_t (show gx_sg K V 45 i ∨ gx_sg K V 126 i from Or.inr s126)] at e8; exact e8
      · rw [if_pos s126]; rw [pB_f (show ¬ (gx_sg K V 45 i ∨ gx_sg K V 126 i) from fun z => z.elim s45 s126)] at e8; exact e8
theorem pn_loop {f : Nat} (HT : pc_HT K V P sy w Z g0 L f) (H1 : pc_H1 K V P sy w Z g0 L f) : pc_H1 K V P sy w Z g0 L (f + 1) := by
  intro d deep st i g h q u1 hd N
  obtain ⟨d0, rfl⟩ : ∃ d0, d = d0 + 10 := ⟨d - 10, by unfold pc_dn at hd; omega⟩
  rw [q_7_60_1, pc_isOp (d0 + 9) L N.R N.lt, p_xI, ge]
  simp only [pB_0]
  by_cases c : gx_op K V i
  · rw [if_neg (fun z => z c), if_pos c, pc_value (d0 + 10) L N.R N.lt, p_xI]
    refine pn_next (d0 + 8) L N ⟨by rw [c.1]; decide, by rw [c.1]; decide⟩ (fun j h1 _ N1 => ?_)
    refine pc_then L (HT (d0 + 10) deep st j g h1 q hd N1) (fun i2 st2 g2 n2 h2 N2 => ?_)
    show pc_o L _ g0 (gx_b (ce_h (g2, q) (ce_op w sy (V i) g2)) _) _
    exact pn_ev L N2 (em_oper (d0 + 6) L N2.R (V i)) (fun g3 h3 _ N3 => H1 (d0 + 10) deep st2 i2 g3 h3 q _ hd N3)
  · rw [if_pos c, if_neg c]
    exact ⟨h, rfl, N, rfl⟩
theorem pn_more {f : Nat} (HT : pc_HT K V P sy w Z g0 L f) (H1 : pc_H1 K V P sy w Z g0 L f) (H2 : pc_H2 K V P sy w Z g0 L f) : pc_H2 K V P sy w Z g0 L (f + 1) := by
  intro d deep st i g h q x1 hd hdp h0 h1 N
  obtain ⟨d0, rfl⟩ : ∃ d0, d = d0 + 10 := ⟨d - 10, by unfold pc_dn at hd; omega⟩
  rw [q_7_67_1, pc_isSign (d0 + 11) L N.R N.lt, p_xI]
  simp only [pB_0]
  have go : ∀ (st j : Nat) (h1 : am_H), pc_N K V P sy w Z g0 j (deep + 1) st g h1 → pc_o L (am_xV (zS L) (am_D (d0 + 13) 7 60 [am_r (am_a 212)] (zS L, h1)) (am_up1 (zS L)) fun h6 => am_E (am_D (d0 + 13)) m_7_67 (.inl 1) [some (am_r (am_a 212)), some (am_i (am_w (x1 + 1)))] [] (zS L, h6)) g0
      (gx_b (ge sy K V P (ce w sy K V P) f 0 (deep + 1) st j (g, q)) fun r1 => gx_b (ge sy K V P (ce w sy K V P) f 1 (deep + 1) r1.2.1 r1.1 r1.2.2.1) fun r2 => gx_b (ge sy K V P (ce w sy K V P) f 3 (deep + 1) r2.2.1 r2.1 r2.2.2.1) fun r3 => .inr (r3.1, r3.2.1, r3.2.2.1, r3.2.2.2 + 1))
      (fun a D => ∃ v h1, D = pI L v h1 ∧ pc_N K V P sy w Z g0 a.1 deep a.2.1 a.2.2.1.1 h1 ∧ a.2.2.1.2 = q) := by
    intro st j h1 N1
    rw [← gx_b_assoc]
    refine pc_then L (pn_e L HT H1 (d0 + 11) (deep + 1) st j g h1 q (by omega) N1) (fun i3 st3 g3 n3 h3 N3 => ?_)
    rw [p_w (by omega) (by omega)]
    have t := H2 (d0 + 10) deep st3 i3 g3 h3 q (x1 + 1) hd hdp (by omega) (by omega) N3
    rw [if_neg (by omega)] at t
    dsimp only
    cases hr : ge sy K V P (ce w sy K V P) f 3 (deep + 1) st3 i3 (g3, q) with
    | inl e => rw [hr] at t; exact t
    | inr a => rw [hr] at t; exact t
  by_cases x0 : x1 = 0
  · rw [if_pos x0, ge]
    by_cases c : gx_sg K V 41 i
    · rw [if_neg (fun z => z c), if_pos c, N.R.2.2.1, p_w (by omega) (by omega), show (((deep + 1 : Nat) : Int) - 1) = (deep : Int) by omega]
      exact pn_next (d0 + 10) L (N.deep_ deep) ⟨by rw [c.1]; decide, by rw [c.1]; decide⟩ (fun j h1 _ N1 => ⟨_, h1, rfl, N1, rfl⟩)
    · rw [if_pos c, if_neg c, if_neg (by omega)]
      exact go st i h N
  · rw [if_neg x0, ge]
    · by_cases c : gx_sg K V 41 i
      · rw [if_neg (fun z => z c), if_pos c, N.R.2.2.1, p_w (by omega) (by omega), show (((deep + 1 : Nat) : Int) - 1) = (deep : Int) by omega]
        exact pn_next (d0 + 10) L (N.deep_ deep) ⟨by rw [c.1]; decide, by rw [c.1]; decide⟩ (fun j h1 _ N1 => ⟨_, h1, rfl, N1, rfl⟩)
      · rw [if_pos c, if_neg c, if_pos (by omega)]
        exact pn_sign (d0 + 9) L N 44 (fun j h1 N1 => go st j h1 N1)
    all_goals (intro z; omega)
theorem pn_all : ∀ f : Nat, f ≤ 1000000 → pc_HT K V P sy w Z g0 L f ∧ pc_H1 K V P sy w Z g0 L f ∧ pc_H2 K V P sy w Z g0 L f
  | 0, _ => ⟨fun _ _ _ _ _ _ _ _ _ z => absurd z (by decide), fun _ _ _ _ _ _ _ _ _ _ z => absurd z (by decide), fun d deep st i g h q x1 _ _ _ _ _ => by
      rw [ge]; exact fun z => absurd z (by decide)⟩
  | f + 1, hf => by
    obtain ⟨a, b, c⟩ := pn_all f (by omega)
    exact ⟨pn_term L (by omega) a b c, pn_loop L a b, pn_more L a b c⟩
end
