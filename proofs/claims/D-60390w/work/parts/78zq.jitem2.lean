/-! RUN, 12: signs, variables, objects -/
def opN (c : Int) : List vl := if c = 43 then [(2, 0, 0)] else if c = 45 then [(3, 0, 0)] else if c = 38 then [(5, 0, 0)] else if c = 124 then [(6, 0, 0)] else if c = 60 then [(9, 0, 0)] else if c = 62 then [(10, 0, 0)] else if c = 61 then [(8, 0, 0)] else if c = 42 then [(15, 10, 2)] else [(15, 11, 2)]
/-- lines that load and store a variable -/
def ldN (g : am_H) (s v : Nat) : List vl := if g 272 v = 0 then [(0, 3, 4 + (g 276 v).toNat)] else if g 272 v = 1 then [(19, (g 275 v).toNat, 0), (17, 1, 0)] else if g 272 v = 2 then [(0, 1, (g 275 v).toNat + (if g 264 s = 3 then 1 else 0))] else [(0, 2, (g 275 v).toNat)]
def stN (g : am_H) (s v : Nat) : List vl := if g 272 v = 0 then [(1, 3, 4 + (g 276 v).toNat)] else if g 272 v = 1 then [(1, 5, 0), (19, (g 275 v).toNat, 0), (18, 1, 0)] else if g 272 v = 2 then [(1, 1, (g 275 v).toNat + (if g 264 s = 3 then 1 else 0))] else [(1, 2, (g 275 v).toNat)]
/-- what variables are -/
def VK (g : am_H) (s v : Nat) : Prop := v < 1100 ∧ (0 ≤ g 272 v ∧ g 272 v ≤ 3) ∧ (g 272 v = 0 → 0 ≤ g 276 v ∧ g 276 v < 12) ∧ (g 272 v = 1 → g 264 s ≠ 2 ∧ 0 ≤ g 275 v ∧ g 275 v ≤ 11) ∧ (g 272 v = 2 → 0 ≤ g 275 v ∧ g 275 v < g 267 s) ∧ (g 272 v = 3 → 0 ≤ g 275 v ∧ g 275 v < g 268 s)
theorem VK.fr {g g' : am_H} {s v : Nat} (V : VK g s v) (h : ∀ c, c = 264 ∨ c = 267 ∨ c = 268 ∨ c = 272 ∨ c = 275 ∨ c = 276 → g' c = g c) : VK g' s v := by
  unfold VK
  rw [h 264 (by omega), h 267 (by omega), h 268 (by omega), h 272 (by omega), h 275 (by omega), h 276 (by omega)]; exact V
theorem ldN_fr {g g' : am_H} {s v : Nat} (h : ∀ c, c = 264 ∨ c = 267 ∨ c = 268 ∨ c = 272 ∨ c = 275 ∨ c = 276 → g' c = g c) : ldN g' s v = ldN g s v ∧ stN g' s v = stN g s v := by
  unfold ldN stN
  rw [h 264 (by omega), h 272 (by omega), h 275 (by omega), h 276 (by omega)]; exact ⟨rfl, rfl⟩
theorem v_at_ok {l : List Int} {i : Nat} {v : Int} {k : Int → Option vO} (h : l[i]? = some v) : v_at l i k = k v := by unfold v_at; rw [h]
section
variable {ky : List Int} {L d : Nat} {g g1 g2 : am_H} {k : Nat} {G : vG} {rs : List uF} {s rk : Nat} {as ls : List Int} {th tm : Option Int} {st : List Int} {x y : Int}
/-- the rest of an item with a sign -/
theorem ji_sg {vs : List vl} {w : Int} (M : MU ky g k G ((s, as, ls, th, y :: x :: st, rk) :: rs)) (B : MB g ((s, as, ls, th, y :: x :: st, rk) :: rs)) (hk : k < 5000) (hs : st.length ≤ 350) (hu : ust rs + st.length ≤ 14998) (e0 : g 277 k = 6) (hv : ∀ g3 : am_H, am_D (d + 12) 17 114 [am_r (am_a 254), am_i (g 278 k), am_i x, am_i y] (zS L, g3) = pI L w g3) (hV : ∀ K : vL → Option vO, vseq ky (vD ky 9) 360 vs (as, ls, th, none, y :: x :: st, G) K = K (as, ls, th, none, am_s16 w :: st, G)) : JT ky L d g k s rk as ls th (y :: x :: st) rs G vs := by
  obtain ⟨g1, h1, M1, B1, f1, e1, ek, c1⟩ := m_at hk M B
  obtain ⟨g2, h2, M2, B2, f2, e2, c2⟩ := ji_pop (d := d + 11) (L := L) M1 B1 (by rw [List.length_cons]; omega)
  obtain ⟨g3, h3, M3, B3, f3, e3, c3⟩ := ji_pop (d := d + 11) (L := L) M2 B2 (by omega)
  obtain ⟨g', h4, J⟩ := ji_put (d := d + 10) (L := L) M3 B3 ((f1.trans f2).trans f3) (e3.trans (e2.trans e1)) (by omega) w none
  refine ⟨.inl (as, ls, th, none, am_s16 w :: st, G), g', hV, ?_, J⟩
  rw [D_17_118, p_idx (by omega) (by omega), show (g 254 98).toNat = k by omega, e0, if_neg (by decide), if_neg (by decide), if_neg (by decide), if_neg (by decide), if_neg (by decide), if_neg (by decide), if_pos rfl, ← h1, h2, p_xI, p_idx (by omega) (by omega), show (g 254 98).toNat = k by omega, h3, p_xI, c2 278 (by decide), c1 278 (by decide), hv, p_xI, h4, p_xV]
theorem ji_sign (M : MU ky g k G ((s, as, ls, th, y :: x :: st, rk) :: rs)) (B : MB g ((s, as, ls, th, y :: x :: st, rk) :: rs)) (hk : k < 5000) (hs : st.length ≤ 350) (hu : ust rs + st.length ≤ 14998) (hx : rg16 x) (hy : rg16 y) (e0 : g 277 k = 6) (hc : g 278 k = 43 ∨ g 278 k = 45 ∨ g 278 k = 38 ∨ g 278 k = 124 ∨ g 278 k = 60 ∨ g 278 k = 62 ∨ g 278 k = 61 ∨ g 278 k = 42 ∨ g 278 k = 47) : JT ky L d g k s rk as ls th (y :: x :: st) rs G (opN (g 278 k)) := by
  obtain ⟨hx1, hx2⟩ := id hx
  obtain ⟨hy1, hy2⟩ := id hy
  have bl : Nat.ble 2 (y :: x :: st).length = true := Nat.ble_eq_true_of_le (by rw [List.length_cons, List.length_cons]; omega)
  have cl : ∀ (u : Nat) (w : Int), vD ky 9 u [x, y] G = some (.inl w, G) → ∀ K : vL → Option vO, vseq ky (vD ky 9) 360 [(15, u, 2)] (as, ls, th, none, y :: x :: st, G) K = K (as, ls, th, none, w :: st, G) := by
    intro u w hw K
    show cond (Nat.ble 2 (y :: x :: st).length) (v_cl (vD ky 9 u [x, y] G) fun v G => v_ps 360 st v fun st => K (as, ls, th, none, st, G)) none = _
    rw [bl, hw]
    show v_ps 360 st w (fun st => K (as, ls, th, none, st, G)) = _
    exact v_ps_ok (by omega)
  unfold opN
  by_cases c1 : g 278 k = 43
  · rw [if_pos c1]
    refine ji_sg (w := x + y) M B hk hs hu e0 (fun g3 => ?_) (fun K => rfl)
    rw [D_17_114, c1, if_neg (by decide), if_neg (by decide), if_pos rfl, p_w (by omega) (by omega)]
  rw [if_neg c1]
  by_cases c2 : g 278 k = 45
  · rw [if_pos c2]
    refine ji_sg (w := x - y) M B hk hs hu e0 (fun g3 => ?_) (fun K => rfl)
    rw [D_17_114, c2, if_neg (by decide), if_neg (by decide), if_neg (by decide), if_pos rfl, p_w (by omega) (by omega)]
  rw [if_neg c2]
  by_cases c3 : g 278 k = 38
  · rw [if_pos c3]
    refine ji_sg (w := am_and x y) M B hk hs hu e0 (fun g3 => ?_) (fun K => by rw [s16_id (and_rg hx hy)]; rfl)
    rw [D_17_114, c3, if_pos rfl]
  rw [if_neg c3]
  by_cases c4 : g 278 k = 124
  · rw [if_pos c4]
    refine ji_sg (w := am_or x y) M B hk hs hu e0 (fun g3 => ?_) (fun K => by rw [s16_id (or_rg hx hy)]; rfl)
    rw [D_17_114, c4, if_neg (by decide), if_neg (by decide), if_neg (by decide), if_neg (by decide), if_neg (by decide), if_neg (by decide), if_neg (by decide), if_pos rfl]
  rw [if_neg c4]
  have tfs : ∀ (p : Prop) [Decidable p], am_s16 (if p then -1 else 0) = if p then -1 else 0 := by
    intro p _; by_cases z : p
    · rw [if_pos z]; decide
    · rw [if_neg z]; decide
  by_cases c5 : g 278 k = 60
  · rw [if_pos c5]
    refine ji_sg (w := if x < y then -1 else 0) M B hk hs hu e0 (fun g3 => ?_) (fun K => by rw [tfs]; rfl)
    rw [D_17_114, c5, if_neg (by decide), if_neg (by decide), if_neg (by decide), if_neg (by decide), if_neg (by decide), if_pos rfl]
    by_cases z : x < y
    · rw [if_pos z, if_pos z]
    · rw [if_neg z, if_neg z]
  rw [if_neg c5]
  by_cases c6 : g 278 k = 62
  · rw [if_pos c6]
    refine ji_sg (w := if y < x then -1 else 0) M B hk hs hu e0 (fun g3 => ?_) (fun K => by rw [tfs]; rfl)
    rw [D_17_114, c6, if_neg (by decide), if_neg (by decide), if_neg (by decide), if_neg (by decide), if_neg (by decide), if_neg (by decide), if_pos rfl]
    by_cases z : y < x
    · rw [if_pos z, if_pos z]
    · rw [if_neg z, if_neg z]
  rw [if_neg c6]
  by_cases c7 : g 278 k = 61
  · rw [if_pos c7]
    refine ji_sg (w := if x = y then -1 else 0) M B hk hs hu e0 (fun g3 => ?_) (fun K => by rw [tfs]; rfl)
    rw [D_17_114, c7, if_neg (by decide), if_neg (by decide), if_neg (by decide), if_neg (by decide), if_neg (by decide), if_neg (by decide), if_neg (by decide), if_neg (by decide)]
    by_cases z : x = y
    · rw [if_pos z, if_pos z]
    · rw [if_neg z, if_neg z]
  rw [if_neg c7]
  by_cases c8 : g 278 k = 42
  · rw [if_pos c8]
    refine ji_sg (w := am_w (x * y)) M B hk hs hu e0 (fun g3 => ?_) (cl 10 _ (by rw [s16_w]; exact v_mul _ _ _ x y hx hy))
    rw [D_17_114, c8, if_neg (by decide), if_pos rfl]
  rw [if_neg c8]
  have c9 : g 278 k = 47 := by omega
  by_cases z : y = 0
  · obtain ⟨g1, h1, M1, B1, f1, e1, ek, q1⟩ := m_at hk M B
    obtain ⟨g2, h2, M2, B2, f2, e2, q2⟩ := ji_pop (d := d + 11) (L := L) M1 B1 (by rw [List.length_cons]; omega)
    obtain ⟨g3, h3, M3, B3, f3, e3, q3⟩ := ji_pop (d := d + 11) (L := L) M2 B2 (by omega)
    have e9 : g3 254 99 = -1 := M3.2.2.1.2.2.2
    have e87 : erh 3 g3 254 87 = ((ust rs + st.length : Nat) : Int) := by rw [erh_f2 (by decide) (by decide)]; exact M3.2.2.1.1
    refine ⟨.inr ((3, 3), G), _, fun K => ?_, ?_, (((f1.trans f2).trans f3).trans ((erh_fr (n := 3)).mono rfl rfl) |>.upc 313 (ust rs + st.length) (am_s16 0) rfl).upf 254 87 ((ust rs + st.length + 1 : Nat) : Int) rfl, ?_, ?_, (show (0 : Int) ≤ 3 by decide), ?_⟩
    · show cond (Nat.ble 2 (y :: x :: st).length) (v_cl (vD ky 9 11 [x, y] G) fun v G => v_ps 360 st v fun st => K (as, ls, th, none, st, G)) none = _
      rw [bl, z, v_div0]; rfl
    · rw [D_17_118, p_idx (by omega) (by omega), show (g 254 98).toNat = k by omega, e0, if_neg (by decide), if_neg (by decide), if_neg (by decide), if_neg (by decide), if_neg (by decide), if_neg (by decide), if_pos rfl, ← h1, h2, p_xI, p_idx (by omega) (by omega), show (g 254 98).toNat = k by omega, h3, p_xI, q2 278 (by decide), q1 278 (by decide), c9, D_17_114, if_neg (by decide), if_neg (by decide), if_neg (by decide), if_neg (by decide), if_pos rfl, if_pos z, m_err, p_xV, if_pos z]
      show am_xI (zS L) (pI L 0 (erh 3 g3)) _ _ = _
      rw [p_xI, m_put _ L 0 e87 (by omega), p_xV]
    · exact (M3.1.erh 3).same (fun a ha => by rw [p_up_c _ _ _ _ _ (by omega), p_up_c _ _ _ _ _ (by omega)]) (fun j hj => by rw [p_up_n _ _ _ _ _ _ (Or.inr (by omega)), p_up_c _ _ _ _ _ (by omega)])
    · rw [p_up_n _ _ _ _ _ _ (Or.inr (by decide)), p_up_c _ _ _ _ _ (by decide)]; exact erh_99 e9
    · rw [p_up_n _ _ _ _ _ _ (Or.inr (by decide)), p_up_c _ _ _ _ _ (by decide), erh_100 e9]; rfl
  · refine ji_sg (w := am_w (Int.tdiv x y)) M B hk hs hu e0 (fun g3 => ?_) (cl 11 _ (by rw [s16_w]; exact v_div _ _ _ x y hx hy z))
    rw [D_17_114, c9, if_neg (by decide), if_neg (by decide), if_neg (by decide), if_neg (by decide), if_pos rfl, if_neg z, if_neg z, if_neg z]
/-- a variable's value -/
theorem jv_get {v d2 : Nat} (M : MU ky g1 k G ((s, as, ls, th, st, rk) :: rs)) (B : MB g1 ((s, as, ls, th, st, rk) :: rs)) (f : p_fr jiC jiF g g1) (e : g1 254 100 = g 254 100) (hs : st.length ≤ 352) (hu : ust rs + st.length ≤ 15000) (hd : rs.length < 40) (V : VK g1 s v) (ra : ∀ w ∈ as, rg16 w) (rl : ∀ w ∈ ls, rg16 w) (rt : ∀ w, th = some w → rg16 w) : ∃ res g2 g' w, VI ky (ldN g1 s v) (as, ls, th, none, st, G) res ∧ am_D (d + 11) 17 112 [am_r (am_a 254), am_i (v : Int)] (zS L, g1) = pI L w g2 ∧ am_D (d2 + 2) 17 81 [am_r (am_a 254), am_i w] (zS L, g2) = pV L g' ∧ JI ky g g' k s rk rs res := by
  obtain ⟨v1, v2, v3, v4, v5, v6⟩ := V
  have e88 : g1 254 88 = ((rs.length + 1 : Nat) : Int) := M.2.2.1.2.1
  obtain ⟨m1, ⟨m2, m3⟩, ⟨m4, m5⟩, m6⟩ := M.2.2.2.1
  dsimp only at m1 m2 m3 m4 m5 m6
  have b := B.1
  dsimp only at b
  -- a value at hand
  have val : ∀ (w : Int) (vs : List vl), rg16 w → (∀ K : vL → Option vO, vseq ky (vD ky 9) 360 vs (as, ls, th, none, st, G) K = v_ps 360 st w fun st => K (as, ls, th, none, st, G)) → am_D (d + 11) 17 112 [am_r (am_a 254), am_i (v : Int)] (zS L, g1) = pI L w g1 → ∃ res g2 g' w, VI ky vs (as, ls, th, none, st, G) res ∧ am_D (d + 11) 17 112 [am_r (am_a 254), am_i (v : Int)] (zS L, g1) = pI L w g2 ∧ am_D (d2 + 2) 17 81 [am_r (am_a 254), am_i w] (zS L, g2) = pV L g' ∧ JI ky g g' k s rk rs res := by
    intro w vs rw' hV hm
    obtain ⟨g', h2, J⟩ := ji_put (d := d2) (L := L) M B f e (by omega) w none
    rw [s16_id rw'] at J
    exact ⟨_, g1, g', w, fun K => by rw [hV, v_ps_ok (by omega)], hm, h2, J⟩
  unfold ldN
  by_cases c0 : g1 272 v = 0
  · rw [if_pos c0]
    have z := v3 c0
    have es := M.2.1 (g1 276 v).toNat (by omega)
    refine val (G.1 (20 + (g1 276 v).toNat)) _ (M.1.rg _) (fun K => ?_) ?_
    · rw [show 20 + (g1 276 v).toNat = 16 + (4 + (g1 276 v).toNat) by omega]; rfl
    · rw [D_17_112, p_idx (by omega) (by omega), Int.toNat_natCast, if_pos c0, p_idx (by omega) (by omega), p_idx (by rw [Int.toNat_natCast]; omega) (by rw [Int.toNat_natCast]; omega), Int.toNat_natCast, es]
  rw [if_neg c0]
  by_cases c1 : g1 272 v = 1
  · rw [if_pos c1]
    have z := v4 c1
    have ht := m6 z.1
    obtain ⟨o1, o2⟩ := rt _ ht
    obtain ⟨res, g2, g', w, r1, r2, r3, J⟩ := ji_read (d := d + 8) (d2 := d2) (L := L) M B f e (by omega) (by omega) (g1 316 rs.length + g1 275 v) none
    refine ⟨res, g2, g', w, fun K => ?_, ?_, r3, J⟩
    · refine Eq.trans ?_ (r1 K)
      show v_o th (fun o => v_ps 360 st (am_s16 (o + (((g1 275 v).toNat : Nat) : Int))) fun st => v_p1 st fun a st => v_rc a G fun v G => K (as, ls, th, none, v :: st, G)) = _
      rw [ht]
      show v_ps 360 st (am_s16 (g1 316 rs.length + (((g1 275 v).toNat : Nat) : Int))) (fun st => v_p1 st fun a st => v_rc a G fun v G => K (as, ls, some (g1 316 rs.length), none, v :: st, G)) = _
      rw [v_ps_ok (by omega), show (((g1 275 v).toNat : Nat) : Int) = g1 275 v by omega]; rfl
    · rw [D_17_112, p_idx (by omega) (by omega), Int.toNat_natCast, if_neg c0, if_pos c1, e88, p_w (by omega) (by omega), p_idx (by omega) (by omega), p_idx (by omega) (by omega), Int.toNat_natCast, show (((rs.length + 1 : Nat) : Int) - 1).toNat = rs.length by omega, p_w (by omega) (by omega), r2, p_xI]
  rw [if_neg c1]
  by_cases c2 : g1 272 v = 2
  · rw [if_pos c2]
    have z := v5 c2
    obtain ⟨w, a1, a2⟩ : ∃ w, as[(g1 275 v).toNat + (if g1 264 s = 3 then 1 else 0)]? = some w ∧ g1 312 (24 * rs.length + (g1 275 v).toNat) = w := by
      by_cases c3 : g1 264 s = 3
      · obtain ⟨ps, p1, p2, p3⟩ := m2 c3
        rw [if_pos c3, p1, List.getElem?_cons_succ]
        exact ⟨_, List.getElem?_eq_getElem (by omega), p3 _ _ (List.getElem?_eq_getElem (by omega))⟩
      · obtain ⟨p2, p3⟩ := m3 c3
        rw [if_neg c3, Nat.add_zero]
        exact ⟨_, List.getElem?_eq_getElem (by omega), p3 _ _ (List.getElem?_eq_getElem (by omega))⟩
    refine val w _ (ra w (List.mem_of_getElem? a1)) (fun K => ?_) ?_
    · show v_at as ((g1 275 v).toNat + (if g1 264 s = 3 then 1 else 0)) (fun w => v_ps 360 st w fun st => K (as, ls, th, none, st, G)) = _
      rw [v_at_ok a1]
    · rw [D_17_112, p_idx (by omega) (by omega), Int.toNat_natCast, if_neg c0, if_neg c1, if_pos c2, e88, p_idx (by omega) (by omega), Int.toNat_natCast, p_w (x := ((rs.length + 1 : Nat) : Int) - 1) (by omega) (by omega), p_w (x := 24 * (((rs.length + 1 : Nat) : Int) - 1)) (by omega) (by omega), p_w (by omega) (by omega), p_idx (by omega) (by omega), show (24 * (((rs.length + 1 : Nat) : Int) - 1) + g1 275 v).toNat = 24 * rs.length + (g1 275 v).toNat by omega, a2]
  rw [if_neg c2]
  have z := v6 (by omega)
  have a1 : ls[(g1 275 v).toNat]? = some ls[(g1 275 v).toNat] := List.getElem?_eq_getElem (by omega)
  refine val _ _ (rl _ (List.mem_of_getElem? a1)) (fun K => ?_) ?_
  · show v_at ls (g1 275 v).toNat (fun w => v_ps 360 st w fun st => K (as, ls, th, none, st, G)) = _
    rw [v_at_ok a1]
  · have a2 := m5 _ _ a1
    rw [D_17_112, p_idx (by omega) (by omega), Int.toNat_natCast, if_neg c0, if_neg c1, if_neg c2, e88, p_idx (by omega) (by omega), Int.toNat_natCast, p_w (x := ((rs.length + 1 : Nat) : Int) - 1) (by omega) (by omega), p_w (x := 24 * (((rs.length + 1 : Nat) : Int) - 1)) (by omega) (by omega), p_w (x := 24 * (((rs.length + 1 : Nat) : Int) - 1) + 12) (by omega) (by omega), p_w (by omega) (by omega), p_idx (by omega) (by omega), show (24 * (((rs.length + 1 : Nat) : Int) - 1) + 12 + g1 275 v).toNat = 24 * rs.length + 12 + (g1 275 v).toNat by omega, a2]
end
