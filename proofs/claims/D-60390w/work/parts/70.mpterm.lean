/-! PURE LAYER, 40: the model's terms -/
section
variable (K V P : Nat → Int) (Z : Nat) (g0 : am_H) (d L : Nat)
/-- how a term ends -/
def mx_p0 (ls : List (Int × Int × Int)) (dv : Int) (oc : List Int) (deep : Nat) (q : Int × Int × List (Int × Int × Int × Int) × List Int) (h : am_H) (a : Nat × Nat × mi_S × Nat) (D : Option am_O) : Prop := ∃ h' u, D = mx_B d L u h' ∧ (mp_E K V P Z g0 ls 0 dv oc a.1 deep a.2.1 a.2.2.1.1 h' ∧ a.2.2.1.2 = q ∧ (∀ c ∈ oc, h' 284 c.toNat = h 284 c.toNat))
/-- a term -/
def mx_HT (f : Nat) : Prop := ∀ (ls : List (Int × Int × Int)) (dv : Int) (oc : List Int) (deep st i : Nat) (g h : am_H) (q : Int × Int × List (Int × Int × Int × Int) × List Int), mp_E K V P Z g0 ls 1 dv oc i deep st g h → ls ≠ [] → q.2.2.2 = oc → mo L (mx_L d L h) g0 4950 (he K V P (mi V) f 0 deep st i (g, q)) (mx_p0 K V P Z g0 d L ls dv oc deep q h)
/-- behind a term -/
def mx_H1 (f : Nat) : Prop := ∀ (x : Int × Int × Int) (ls : List (Int × Int × Int)) (dv : Int) (oc : List Int) (deep st i : Nat) (g h : am_H) (u : Option am_V) (q : Int × Int × List (Int × Int × Int × Int) × List Int), mp_E K V P Z g0 (x :: ls) 0 dv oc i deep st g h → x.1 ≠ 4 → x.2.1 = 0 → ¬ (x.1 = 0 ∧ dv ≠ 0) → q.2.2.2 = oc → mo L (mx_B d L u h) g0 4950 (he K V P (mi V) f 1 deep st i (g, q)) (fun a D => ∃ h' u, D = mx_B d L u h' ∧ (mp_E K V P Z g0 (x :: ls) 0 dv oc a.1 deep a.2.1 a.2.2.1.1 h' ∧ a.2.2.1.2 = q ∧ (∀ c ∈ oc, h' 284 c.toNat = h 284 c.toNat)) ∧ ¬ gx_op K V a.1)
end
section
variable {K V P : Nat → Int} {Z : Nat} {g0 : am_H} {oc : List Int} {i deep st : Nat} {g h : am_H} (d L : Nat) {ls : List (Int × Int × Int)} {nt dv : Int} {q : Int × Int × List (Int × Int × Int × Int) × List Int}
/-- an item, and on -/
theorem mx_atom {h0 : am_H} {st2 : Nat} (E : mp_E K V P Z g0 ls 0 dv oc i deep st2 g h0) (hl : ls ≠ []) (hK : K i ≠ 0 ∧ K i ≠ 6 ∧ K i ≠ 7) (k a b t : Int) (ht : mp_rel k → (i : Int) = t) (e4 : h0 284 = h 284)
    (eL : mx_L d L h = am_xV (zS L) (am_D (d + 8) 17 47 [am_r (am_a 254)] (zS L, h)) (am_up1 (zS L)) (mx_L d L))
    (eD : am_D (d + 8) 17 47 [am_r (am_a 254)] (zS L, h) = am_xI (zS L) (am_D (d + 7) 17 25 [am_r (am_a 254), am_i k, am_i a, am_i b, am_i (i : Int)] (zS L, h0)) (am_up1 (zS L)) fun _ h44 => am_xV (zS L) (am_D (d + 7) 17 21 [am_r (am_a 254)] (zS L, h44)) (am_up1 (zS L)) fun h46 => some (.inl none, (zS L, h46))) :
    mo L (mx_L d L h) g0 4950 (gx_b (mi_h (g, q) (mi_add k a b t g)) fun s1 => gx_b (hx_next i) fun j => .inr (j, st2, s1, 0)) (mx_p0 K V P Z g0 d L ls dv oc deep q h) := by
  have lt := E.1.lt
  unfold mi_add ce_q
  by_cases c : g 254 33 < 4900
  · obtain ⟨h1, e, N1, f⟩ := mp_add (d + 6) L E.1 c k a b t i ht (by omega)
    have E1 := E.fr N1 f
    obtain ⟨e2, E2⟩ := E1.go (d + 6) L hK
    rw [if_pos c, eL, eD, e, p_xI, e2, p_xV, p_xV, mx_L_behind d L E2 rfl hl]
    refine ⟨_, _, rfl, E2, rfl, fun c _ => ?_⟩
    rw [p_up_c _ _ _ _ _ (by decide), f 284 _ (by decide) (by decide) (by decide) (by decide) (by decide) (by simp), e4]
  · rw [if_neg c]; exact fun z => absurd z (by decide)
/-- no fault so far -/
def mp_pre (g0 h : am_H) : Prop := p_fr mp_C2 mp_F2 g0 h ∧ h 254 11 = 0 ∧ (0 ≤ h 254 10 ∧ h 254 10 ≤ 1001) ∧ (0 ≤ h 254 33 ∧ h 254 33 ≤ 4900) ∧ (0 ≤ h 254 39 ∧ h 254 39 ≤ 999) ∧ (-4900 ≤ h 254 48 ∧ h 254 48 ≤ 4900) ∧ (0 ≤ h 254 51 ∧ h 254 51 ≤ 142) ∧ (0 ≤ h 254 17 ∧ h 254 17 ≤ 60) ∧ (0 ≤ h 254 14 ∧ h 254 14 ≤ 12) ∧ (0 ≤ h 254 25 ∧ h 254 25 ≤ 1090)
theorem mp_N.pre (N : mp_N K V P Z g0 oc i deep st g h) : mp_pre g0 h := by
  have o := N.ok
  have lt := N.lt
  have bd := N.bd
  refine ⟨N.all, N.fa, by rw [N.nx]; omega, by rw [N.eq 254 33 rfl rfl]; exact o.1, by rw [N.eq 254 39 rfl rfl]; have := o.2.1; omega, by rw [N.op]; omega, N.lv, by rw [N.eq 254 17 rfl rfl]; exact o.2.2.1, by rw [N.eq 254 14 rfl rfl]; exact o.2.2.2.1, by rw [N.eq 254 25 rfl rfl]; exact o.2.2.2.2.1⟩
theorem mp_pre.up (B : mp_pre g0 h) (a k : Nat) (v : Int) (hc : (mp_C2.contains a || mp_F2.contains (a, k)) = true) (hn : (a == 254 && (k == 10 || k == 11 || k == 14 || k == 17 || k == 25 || k == 33 || k == 39 || k == 48 || k == 51)) = false) : mp_pre g0 (am_up h a k v) := by
  have n1 : ∀ j, (j = 10 ∨ j = 11 ∨ j = 14 ∨ j = 17 ∨ j = 25 ∨ j = 33 ∨ j = 39 ∨ j = 48 ∨ j = 51) → am_up h a k v 254 j = h 254 j := by
    intro j hj
    refine p_up_n _ _ _ _ _ _ ?_
    by_cases e : 254 = a
    · right
      intro z
      rw [← e, ← z] at hn
      rcases hj with rfl | rfl | rfl | rfl | rfl | rfl | rfl | rfl | rfl <;> exact absurd hn (by decide)
    · exact Or.inl e
  obtain ⟨b1, b3⟩ := B
  refine ⟨?_, ?_⟩
  · rw [Bool.or_eq_true] at hc
    rcases hc with c | c
    · exact b1.upc _ _ _ c
    · exact b1.upf _ _ _ c
  · rw [n1 10 (by simp), n1 11 (by simp), n1 14 (by simp), n1 17 (by simp), n1 25 (by simp), n1 33 (by simp), n1 39 (by simp), n1 48 (by simp), n1 51 (by simp)]
    exact b3
theorem mp_wrong0 (B : mp_pre g0 h) (c : Int) (hc : 0 < c) (t : Nat) (ht : t ≤ 1001) : ∃ h', am_D (d + 1) 17 17 [am_r (am_a 254), am_i c, am_i t] (zS L, h) = pV L h' ∧ mp_B g0 4900 (c, h 258 t) h' := by
  obtain ⟨b1, b2, b3, b4, b5, b6, b7, b8, b9, b10⟩ := B
  rw [D_17_17, b2, if_neg (by omega), p_idx (by omega) (by omega), Int.toNat_natCast]
  refine ⟨_, rfl, (b1.upf _ _ _ rfl).upf _ _ _ rfl, hc, ?_, ?_, ?_, ?_, ?_, ?_, ?_, ?_, ?_, ?_⟩
  · simp [p_up]
  · simp [p_up]
  · simp [p_up]; exact b3
  · simp [p_up]; exact b4
  · simp [p_up]; exact b5
  · simp [p_up]; exact b6
  · simp [p_up]; omega
  · simp [p_up]; exact b8
  · simp [p_up]; exact b9
  · simp [p_up]; omega
/-- numbers, strings, words -/
theorem mx_plain (E : mp_E K V P Z g0 ls 1 dv oc i deep st g h) (hl : ls ≠ []) (f : Nat) (hk : K i = 3 ∨ K i = 4 ∨ K i = 1) : mo L (mx_L d L h) g0 4950 (he K V P (mi V) (f + 1) 0 deep st i (g, q)) (mx_p0 K V P Z g0 d L ls dv oc deep q h) := by
  have lt := E.1.lt
  have kq := mp_k_eq E.1.rg
  have E0 := E.nt_ 0
  have e61 : am_up h 254 61 0 284 = h 284 := p_up_c _ _ _ _ _ (by decide)
  have eL := mx_L_term d L E (by decide) hl
  have i1 : ∀ kk : Nat → Option am_O, am_idx (h 254 10) 2002 kk = kk i := by
    intro kk; rw [E.1.nx, p_idx (by omega) (by omega), Int.toNat_natCast]
  rw [he]
  by_cases k3 : K i = 3
  · rw [if_pos k3]
    refine mx_atom d L E0 hl ⟨by rw [k3]; decide, by rw [k3]; decide, by rw [k3]; decide⟩ 0 (V i) 0 0 (by unfold mp_rel; omega) e61 eL ?_
    rw [D_17_47, p_bit0, i1, E.1.kd, if_pos (kq.2.2.1.mpr k3), i1, E.1.vl (by omega), E.1.nx]
  rw [if_neg k3]
  by_cases k4 : K i = 4
  · rw [if_pos k4]
    have v0 := E.1.vs k4
    have vr := E.1.vr
    have bd := E.1.bd
    have eD : am_D (d + 8) 17 47 [am_r (am_a 254)] (zS L, h) = if (300 : Int) < (st : Int) + V i then am_xV (zS L) (am_D (d + 7) 17 17 [am_r (am_a 254), am_i 2, am_i (i : Int)] (zS L, (am_up (am_up h 254 61 (0)) 254 49 ((st : Int) + V i)))) (am_up1 (zS L)) fun h39 => am_xI (zS L) (am_D (d + 7) 17 25 [am_r (am_a 254), am_i 1, am_i 0, am_i 0, am_i (i : Int)] (zS L, h39)) (am_up1 (zS L)) fun v41 h40 => am_xV (zS L) (am_D (d + 7) 17 21 [am_r (am_a 254)] (zS L, h40)) (am_up1 (zS L)) fun h42 => some (.inl none, (zS L, h42)) else am_xI (zS L) (am_D (d + 7) 17 25 [am_r (am_a 254), am_i 1, am_i 0, am_i 0, am_i (i : Int)] (zS L, (am_up (am_up h 254 61 (0)) 254 49 ((st : Int) + V i)))) (am_up1 (zS L)) fun v37 h36 => am_xV (zS L) (am_D (d + 7) 17 21 [am_r (am_a 254)] (zS L, h36)) (am_up1 (zS L)) fun h38 => some (.inl none, (zS L, h38)) := by
      rw [D_17_47, p_bit0, i1, E.1.kd, if_neg (fun z => k3 (kq.2.2.1.mp z)), i1, E.1.kd, if_pos (kq.2.2.2.1.mpr k4), i1, E.1.vl (by omega), E.1.le, p_w (by omega) (by omega), E.1.nx]
    unfold gx_if
    by_cases c : (st : Int) + V i ≤ 300
    · rw [if_pos c]
      rw [if_neg (by omega)] at eD
      have E1 : mp_E K V P Z g0 ls 0 dv oc i deep (st + (V i).toNat) g (am_up (am_up h 254 61 0) 254 49 ((st : Int) + V i)) := by
        have n := E0.1.lt_ (st + (V i).toNat) (by omega)
        rw [show (((st + (V i).toNat : Nat)) : Int) = (st : Int) + V i by omega] at n
        refine ⟨n, ?_, E0.2.2.1.cell (p_up_c _ _ _ _ _ (by decide)) (p_up_c _ _ _ _ _ (by decide)) (p_up_c _ _ _ _ _ (by decide)), ?_, ?_, E0.2.2.2.2.2⟩
        · rw [p_up_n _ _ _ _ _ _ (Or.inr (by decide))]; exact E0.2.1
        · rw [p_up_n _ _ _ _ _ _ (Or.inr (by decide))]; exact E0.2.2.2.1
        · rw [p_up_n _ _ _ _ _ _ (Or.inr (by decide))]; exact E0.2.2.2.2.1
      exact mx_atom d L E1 hl ⟨by rw [k4]; decide, by rw [k4]; decide, by rw [k4]; decide⟩ 1 0 0 i (fun _ => rfl) (by rw [p_up_c _ _ _ _ _ (by decide)]; exact e61) eL eD
    · rw [if_neg c]
      rw [if_pos (by omega)] at eD
      intro _
      obtain ⟨h1, e1, B1⟩ := mp_wrong0 (d + 6) L (E0.1.pre.up 254 49 ((st : Int) + V i) rfl rfl) 2 (by decide) i (by omega)
      rw [p_up_c _ _ _ _ 258 (by decide), p_up_c _ _ _ _ 258 (by decide), E.1.pl] at B1
      obtain ⟨h2, e2, B2, -⟩ := mb_add (d + 6) L B1 (by omega) 1 0 0 i
      rw [eL, eD, e1, p_xV, e2, p_xI, mb_go (d + 6) L B2, p_xV, p_xV, mx_L_bad d L B2]
      exact ⟨h2, rfl, B2.le (by omega)⟩
  rw [if_neg k4]
  have k1 : K i = 1 := by omega
  have hK : K i ≠ 0 ∧ K i ≠ 6 ∧ K i ≠ 7 := ⟨by rw [k1]; decide, by rw [k1]; decide, by rw [k1]; decide⟩
  rw [if_pos k1]
  have eD0 := D_17_47 (d + 7) L h
  rw [p_bit0, i1, E.1.kd, if_neg (fun z => k3 (kq.2.2.1.mp z)), i1, E.1.kd, if_neg (fun z => k4 (kq.2.2.2.1.mp z)), mp_isWord (d + 6) L E0.1, p_xI, E.1.nx] at eD0
  have wd : ∀ c : Int, gx_wd K V c i ↔ V i = c := fun c => ⟨fun z => z.2, fun z => ⟨k1, z⟩⟩
  by_cases w11 : V i = 11
  · rw [if_neg (by rw [pB_t ((wd 11).mpr w11)]; decide)] at eD0
    have := mx_atom (q := q) d L E0 hl hK 0 (-1) 0 0 (by unfold mp_rel; omega) e61 eL eD0
    unfold gx_if
    rw [if_pos (Or.inl w11), if_neg (by omega), if_pos w11]
    exact this
  rw [if_pos (by rw [pB_f (fun z => w11 ((wd 11).mp z))]), mp_isWord (d + 6) L E0.1, p_xI] at eD0
  by_cases w12 : V i = 12
  · rw [if_neg (by rw [pB_t ((wd 12).mpr w12)]; decide)] at eD0
    have := mx_atom (q := q) d L E0 hl hK 0 0 0 0 (by unfold mp_rel; omega) e61 eL eD0
    unfold gx_if
    rw [if_pos (by omega), if_neg (by omega), if_neg w11]
    exact this
  rw [if_pos (by rw [pB_f (fun z => w12 ((wd 12).mp z))]), mp_isWord (d + 6) L E0.1, p_xI] at eD0
  by_cases w13 : V i = 13
  · rw [if_neg (by rw [pB_t ((wd 13).mpr w13)]; decide)] at eD0
    have := mx_atom (q := q) d L E0 hl hK 0 0 0 0 (by unfold mp_rel; omega) e61 eL eD0
    unfold gx_if
    rw [if_pos (by omega), if_neg (by omega), if_neg w11]
    exact this
  rw [if_pos (by rw [pB_f (fun z => w13 ((wd 13).mp z))]), mp_isWord (d + 6) L E0.1, p_xI] at eD0
  by_cases w14 : V i = 14
  · rw [if_neg (by rw [pB_t ((wd 14).mpr w14)]; decide)] at eD0
    have := mx_atom (q := q) d L E0 hl hK 3 0 0 i (fun _ => rfl) e61 eL eD0
    unfold gx_if
    rw [if_pos (by omega), if_pos w14]
    exact this
  have ns : ∀ c : Int, ¬ gx_sg K V c i := fun c z => by have := z.1; omega
  rw [if_pos (by rw [pB_f (fun z => w14 ((wd 14).mp z))]), mp_isSign (d + 6) L E0.1, p_xI, if_pos (by rw [pB_f (ns 40)]), mp_isSign (d + 6) L E0.1, p_xI, if_pos (by rw [pB_f (ns 45)]), mp_isSign (d + 6) L E0.1, p_xI, if_pos (by rw [pB_f (ns 126)]), E0.1.nx, p_idx (by omega) (by omega), Int.toNat_natCast, E0.1.kd, if_neg (fun z => by have := kq.2.1.mp z; omega)] at eD0
  unfold gx_if
  rw [if_neg (by omega)]
  intro _
  obtain ⟨h1, e1, B1⟩ := mp_syntax (d + 5) L E0.1
  rw [eL, eD0, e1, p_xV, p_xV, mx_L_bad d L B1]
  exact ⟨h1, rfl, B1.le (by omega)⟩
end
