/-! RUN, 11: items within a frame, lines beside the model -/
/-- what lines of an item come to -/
def VI (ky : List Int) (vs : List vl) (x : vL) (res : vL ⊕ ((Int × Int) × vG)) : Prop := ∀ K : vL → Option vO, vseq ky (vD ky 9) 360 vs x K = (match res with
  | .inl y => K y
  | .inr z => some (.inr z.1, z.2))
def JI (ky : List Int) (g g' : am_H) (k : Nat) (s rk : Nat) (rs : List uF) (res : vL ⊕ ((Int × Int) × vG)) : Prop := p_fr jiC jiF g g' ∧ (match res with
  | .inl y => MU ky g' k y.2.2.2.2.2 ((s, y.1, y.2.1, y.2.2.1, y.2.2.2.2.1, rk) :: rs) ∧ g' 254 100 = g 254 100
  | .inr z => MR ky z.2 g' ∧ g' 254 99 = z.1.1 ∧ 0 ≤ z.1.1 ∧ g' 254 100 = (if z.1.1 = 3 then z.1.2 else g 254 100))
def JT (ky : List Int) (L d : Nat) (g : am_H) (k : Nat) (s rk : Nat) (as ls : List Int) (th : Option Int) (st : List Int) (rs : List uF) (G : vG) (vs : List vl) : Prop := ∃ res g', VI ky vs (as, ls, th, none, st, G) res ∧ am_D (d + 13) 17 118 [am_r (am_a 254)] (zS L, g) = pV L g' ∧ JI ky g g' (k + 1) s rk rs res
theorem v_ps_ok {m : Nat} {st : List Int} {v : Int} {k : List Int → Option vO} (h : st.length < m) : v_ps m st v k = k (v :: st) := by
  unfold v_ps
  rw [show Nat.blt st.length m = true from Nat.ble_eq_true_of_le h]; rfl
section
variable {ky : List Int} {L d : Nat} {g g1 g2 : am_H} {k : Nat} {G : vG} {rs : List uF} {s rk : Nat} {as ls : List Int} {th tm : Option Int} {st : List Int} {x y : Int}
/-- the item at hand -/
theorem m_at (hk : k < 5000) (M : MU ky g k G ((s, as, ls, th, st, rk) :: rs)) (B : MB g ((s, as, ls, th, st, rk) :: rs)) : ∃ g1, g1 = am_up g 254 98 (am_w (g 254 98 + 1)) ∧ MU ky g1 (k + 1) G ((s, as, ls, th, st, rk) :: rs) ∧ MB g1 ((s, as, ls, th, st, rk) :: rs) ∧ p_fr jiC jiF g g1 ∧ g1 254 100 = g 254 100 ∧ g 254 98 = (k : Int) ∧ (∀ c, c ≠ 254 → g1 c = g c) := by
  have e : g 254 98 = (k : Int) := M.2.2.1.2.2.1
  refine ⟨_, rfl, ?_, ?_, (p_fr.refl g).upf _ _ _ rfl, p_up_n _ _ _ _ _ _ (Or.inr (by decide)), e, fun c hc => p_up_c _ _ _ _ _ hc⟩
  · rw [e, p_w (by omega) (by omega), show (k : Int) + 1 = ((k + 1 : Nat) : Int) by omega]
    exact M.pc B (k + 1)
  · exact B.fr (fun c hc => p_up_c _ _ _ _ _ (by omega))
/-- it puts a value on the stack -/
theorem ji_put (M : MU ky g1 k G ((s, as, ls, th, st, rk) :: rs)) (B : MB g1 ((s, as, ls, th, st, rk) :: rs)) (f : p_fr jiC jiF g g1) (e : g1 254 100 = g 254 100) (hu : ust rs + st.length < 20000) (x : Int) (tm : Option Int) : ∃ g', am_D (d + 2) 17 81 [am_r (am_a 254), am_i x] (zS L, g1) = pV L g' ∧ JI ky g g' k s rk rs (.inl (as, ls, th, tm, am_s16 x :: st, G)) :=
  ⟨_, m_put d L x M.2.2.1.1 hu, (f.upc _ _ _ rfl).upf _ _ _ rfl, M.put B _, by rw [p_up_n _ _ _ _ _ _ (Or.inr (by decide)), p_up_c _ _ _ _ _ (by decide)]; exact e⟩
theorem ji_pop (M : MU ky g1 k G ((s, as, ls, th, x :: st, rk) :: rs)) (B : MB g1 ((s, as, ls, th, x :: st, rk) :: rs)) (hu : ust rs + st.length < 20000) : ∃ g', am_D (d + 1) 17 82 [am_r (am_a 254)] (zS L, g1) = pI L x g' ∧ MU ky g' k G ((s, as, ls, th, st, rk) :: rs) ∧ MB g' ((s, as, ls, th, st, rk) :: rs) ∧ p_fr jiC jiF g1 g' ∧ g' 254 100 = g1 254 100 ∧ (∀ c, c ≠ 254 → g' c = g1 c) := by
  obtain ⟨e1, e2, M2⟩ := M.pop B
  refine ⟨_, by rw [m_pop d L e1 hu, e2], M2, MB.fr (fun c hc => p_up_c _ _ _ _ _ (by omega)) (fs := (s, as, ls, th, st, rk) :: rs) B, (p_fr.refl g1).upf _ _ _ rfl, p_up_n _ _ _ _ _ _ (Or.inr (by decide)), fun c hc => p_up_c _ _ _ _ _ hc⟩
variable (M : MU ky g k G ((s, as, ls, th, st, rk) :: rs)) (B : MB g ((s, as, ls, th, st, rk) :: rs)) (hk : k < 5000) (hs : st.length ≤ 352) (hu : ust rs + st.length ≤ 15000)
theorem ji_num (M : MU ky g k G ((s, as, ls, th, st, rk) :: rs)) (B : MB g ((s, as, ls, th, st, rk) :: rs)) (hk : k < 5000) (hs : st.length ≤ 352) (hu : ust rs + st.length ≤ 15000) (e0 : g 277 k = 0) (ha : g 278 k = -1 ∨ 0 ≤ g 278 k ∧ g 278 k ≤ 32767) : JT ky L d g k s rk as ls th st rs G (if g 278 k < 0 then [(0, 0, 0), (7, 0, 0)] else [(0, 0, (g 278 k).toNat)]) := by
  obtain ⟨g1, h1, M1, B1, f1, e1, ek, c1⟩ := m_at hk M B
  obtain ⟨g', h2, J⟩ := ji_put (d := d + 10) (L := L) M1 B1 f1 e1 (by omega) (g 278 k) none
  refine ⟨_, g', ?_, ?_, J⟩
  · intro K
    by_cases c : g 278 k < 0
    · have : g 278 k = -1 := by omega
      rw [if_pos c, this]
      show v_ps 360 st 0 (fun st => v_p1 st fun x st => K (as, ls, th, none, (-x - 1) :: st, G)) = _
      rw [v_ps_ok (by omega)]; rfl
    · rw [if_neg c]
      show v_ps 360 st (((g 278 k).toNat : Nat) : Int) (fun st => K (as, ls, th, none, st, G)) = _
      rw [v_ps_ok (by omega), show (((g 278 k).toNat : Nat) : Int) = g 278 k by omega, ← s16_id (x := g 278 k) ⟨by omega, by omega⟩]
      rw [s16_id (x := g 278 k) ⟨by omega, by omega⟩, s16_id (x := g 278 k) ⟨by omega, by omega⟩]
  · rw [D_17_118, p_idx (by omega) (by omega), show (g 254 98).toNat = k by omega, if_pos e0, p_idx (by omega) (by omega), ← h1, show (g 254 98).toNat = k by omega, h2, p_xV]
theorem ji_this (M : MU ky g k G ((s, as, ls, th, st, rk) :: rs)) (B : MB g ((s, as, ls, th, st, rk) :: rs)) (hk : k < 5000) (hs : st.length ≤ 352) (hu : ust rs + st.length ≤ 15000) (hd : rs.length < 40) (hr : ∀ v, th = some v → rg16 v) (e0 : g 277 k = 3) (hf : g 264 s ≠ 2) : JT ky L d g k s rk as ls th st rs G [(0, 4, 0)] := by
  obtain ⟨g1, h1, M1, B1, f1, e1, ek, c1⟩ := m_at hk M B
  have ht : th = some (g 316 rs.length) := M.2.2.2.1.2.2.2 hf
  have e88 : g 254 88 = ((rs.length + 1 : Nat) : Int) := M.2.2.1.2.1
  obtain ⟨g', h2, J⟩ := ji_put (d := d + 10) (L := L) M1 B1 f1 e1 (by omega) (g 316 rs.length) none
  refine ⟨_, g', ?_, ?_, J⟩
  · intro K
    show v_o th (fun v => v_ps 360 st v fun st => K (as, ls, th, none, st, G)) = _
    rw [s16_id (hr _ ht), ht]
    show v_ps 360 st (g 316 rs.length) (fun st => K (as, ls, some (g 316 rs.length), none, st, G)) = _
    rw [v_ps_ok (by omega)]
  · rw [D_17_118, p_idx (by omega) (by omega), show (g 254 98).toNat = k by omega, e0, if_neg (by decide), if_neg (by decide), if_neg (by decide), if_pos rfl, e88, p_w (by omega) (by omega), p_idx (by omega) (by omega), ← h1, show (((rs.length + 1 : Nat) : Int) - 1).toNat = rs.length by omega, h2, p_xV]
/-- two values are worked out -/
theorem ji_neg (M : MU ky g k G ((s, as, ls, th, x :: st, rk) :: rs)) (B : MB g ((s, as, ls, th, x :: st, rk) :: rs)) (hk : k < 5000) (hs : st.length ≤ 351) (hu : ust rs + st.length ≤ 14999) (hx : rg16 x) (e0 : g 277 k = 7) : JT ky L d g k s rk as ls th (x :: st) rs G [(4, 0, 0)] := by
  obtain ⟨g1, h1, M1, B1, f1, e1, ek, c1⟩ := m_at hk M B
  obtain ⟨g2, h2, M2, B2, f2, e2, c2⟩ := ji_pop (d := d + 11) (L := L) M1 B1 (by omega)
  obtain ⟨g', h3, J⟩ := ji_put (d := d + 10) (L := L) M2 B2 (f1.trans f2) (e2.trans e1) (by omega) (-x) none
  refine ⟨_, g', fun K => rfl, ?_, J⟩
  obtain ⟨hx1, hx2⟩ := hx
  rw [D_17_118, p_idx (by omega) (by omega), show (g 254 98).toNat = k by omega, e0, if_neg (by decide), if_neg (by decide), if_neg (by decide), if_neg (by decide), if_neg (by decide), if_neg (by decide), if_neg (by decide), if_pos rfl, ← h1, h2, p_xI, p_w (by omega) (by omega), h3, p_xV]
theorem ji_not (M : MU ky g k G ((s, as, ls, th, x :: st, rk) :: rs)) (B : MB g ((s, as, ls, th, x :: st, rk) :: rs)) (hk : k < 5000) (hs : st.length ≤ 351) (hu : ust rs + st.length ≤ 14999) (hx : rg16 x) (e0 : g 277 k = 8) : JT ky L d g k s rk as ls th (x :: st) rs G [(7, 0, 0)] := by
  obtain ⟨g1, h1, M1, B1, f1, e1, ek, c1⟩ := m_at hk M B
  obtain ⟨g2, h2, M2, B2, f2, e2, c2⟩ := ji_pop (d := d + 11) (L := L) M1 B1 (by omega)
  obtain ⟨g', h3, J⟩ := ji_put (d := d + 10) (L := L) M2 B2 (f1.trans f2) (e2.trans e1) (by omega) (-x - 1) none
  obtain ⟨hx1, hx2⟩ := hx
  rw [s16_id (x := -x - 1) ⟨by omega, by omega⟩] at J
  refine ⟨_, g', fun K => rfl, ?_, J⟩
  rw [D_17_118, p_idx (by omega) (by omega), show (g 254 98).toNat = k by omega, e0, if_neg (by decide), if_neg (by decide), if_neg (by decide), if_neg (by decide), if_neg (by decide), if_neg (by decide), if_neg (by decide), if_neg (by decide), if_pos rfl, ← h1, h2, p_xI, p_not x ⟨by omega, by omega⟩, h3, p_xV]
/-- a value out of a row -/
theorem ji_read {d2 : Nat} (M : MU ky g1 k G ((s, as, ls, th, st, rk) :: rs)) (B : MB g1 ((s, as, ls, th, st, rk) :: rs)) (f : p_fr jiC jiF g g1) (e : g1 254 100 = g 254 100) (hs : st.length ≤ 355) (hu : ust rs + st.length ≤ 15000) (x : Int) (tm : Option Int) : ∃ res g2 g' v, (∀ K : vL → Option vO, v_rc (am_s16 x) G (fun v G => K (as, ls, th, tm, v :: st, G)) = (match res with
  | .inl y => K y
  | .inr z => some (.inr z.1, z.2))) ∧ am_D (d + 2) 17 79 [am_r (am_a 254), am_i x] (zS L, g1) = pI L v g2 ∧ am_D (d2 + 2) 17 81 [am_r (am_a 254), am_i v] (zS L, g2) = pV L g' ∧ JI ky g g' k s rk rs res := by
  by_cases c : v_pl (am_s16 x)
  · obtain ⟨g', h3, J⟩ := ji_put (d := d2) (L := L) M B f e (by omega) (g1 308 (am_s16 x).toNat) tm
    rw [M.1.rd c, s16_id (M.1.rg _)] at J
    refine ⟨_, g1, g', _, fun K => ?_, by rw [m_read, if_pos c], h3, J⟩
    unfold v_rc; rw [if_pos c]
  · have e9 : g1 254 99 = -1 := M.2.2.1.2.2.2
    have e87 : erh 20 g1 254 87 = ((ust rs + st.length : Nat) : Int) := by rw [erh_f2 (by decide) (by decide)]; exact M.2.2.1.1
    refine ⟨.inr ((3, 20), G), erh 20 g1, _, 0, fun K => ?_, by rw [m_read, if_neg c], m_put d2 L 0 e87 (by omega), ((f.trans (erh_fr.mono rfl rfl)).upc _ _ _ rfl).upf _ _ _ rfl, ?_, ?_, (show (0 : Int) ≤ 3 by decide), ?_⟩
    · unfold v_rc; rw [if_neg c]
    · exact (M.1.erh 20).same (fun a ha => by rw [p_up_c _ _ _ _ _ (by omega), p_up_c _ _ _ _ _ (by omega)]) (fun j hj => by rw [p_up_n _ _ _ _ _ _ (Or.inr (by omega)), p_up_c _ _ _ _ _ (by omega)])
    · rw [p_up_n _ _ _ _ _ _ (Or.inr (by decide)), p_up_c _ _ _ _ _ (by decide)]; exact erh_99 e9
    · rw [p_up_n _ _ _ _ _ _ (Or.inr (by decide)), p_up_c _ _ _ _ _ (by decide), erh_100 e9]; rfl
theorem ji_idx (M : MU ky g k G ((s, as, ls, th, y :: x :: st, rk) :: rs)) (B : MB g ((s, as, ls, th, y :: x :: st, rk) :: rs)) (hk : k < 5000) (hs : st.length ≤ 350) (hu : ust rs + st.length ≤ 14998) (hx : rg16 x) (hy : rg16 y) (e0 : g 277 k = 5) : JT ky L d g k s rk as ls th (y :: x :: st) rs G [(2, 0, 0), (17, 1, 0)] := by
  obtain ⟨g1, h1, M1, B1, f1, e1, ek, c1⟩ := m_at hk M B
  obtain ⟨g2, h2, M2, B2, f2, e2, c2⟩ := ji_pop (d := d + 11) (L := L) M1 B1 (by rw [List.length_cons]; omega)
  obtain ⟨g3, h3, M3, B3, f3, e3, c3⟩ := ji_pop (d := d + 11) (L := L) M2 B2 (by omega)
  obtain ⟨res, g4, g', v, r1, r2, r3, J⟩ := ji_read (d := d + 10) (d2 := d + 10) (L := L) M3 B3 ((f1.trans f2).trans f3) (e3.trans (e2.trans e1)) (by omega) (by omega) (x + y) none
  obtain ⟨hx1, hx2⟩ := hx
  obtain ⟨hy1, hy2⟩ := hy
  refine ⟨res, g', r1, ?_, J⟩
  rw [D_17_118, p_idx (by omega) (by omega), show (g 254 98).toNat = k by omega, e0, if_neg (by decide), if_neg (by decide), if_neg (by decide), if_neg (by decide), if_neg (by decide), if_pos rfl, ← h1, h2, p_xI, h3, p_xI, p_w (by omega) (by omega), r2, p_xI, r3, p_xV]
end
