/-! RUN, 13: variables, objects, storing -/
section
variable {ky : List Int} {L d : Nat} {g g1 g2 : am_H} {k : Nat} {G : vG} {rs : List uF} {s rk : Nat} {as ls : List Int} {th tm : Option Int} {st : List Int} {x y : Int}
theorem ji_var (M : MU ky g k G ((s, as, ls, th, st, rk) :: rs)) (B : MB g ((s, as, ls, th, st, rk) :: rs)) (hk : k < 5000) (hs : st.length ≤ 352) (hu : ust rs + st.length ≤ 15000) (hd : rs.length < 40) (ra : ∀ w ∈ as, rg16 w) (rl : ∀ w ∈ ls, rg16 w) (rt : ∀ w, th = some w → rg16 w) (e0 : g 277 k = 4) {v : Nat} (ev : g 278 k = (v : Int)) (V : VK g s v) : JT ky L d g k s rk as ls th st rs G (ldN g s v) := by
  obtain ⟨g1, h1, M1, B1, f1, e1, ek, c1⟩ := m_at hk M B
  obtain ⟨res, g2, g', w, r1, r2, r3, J⟩ := jv_get (d := d + 1) (d2 := d + 10) (L := L) M1 B1 f1 e1 hs hu hd (V.fr (fun c hc => c1 c (by omega))) ra rl rt
  rw [(ldN_fr (fun c hc => c1 c (by omega))).1] at r1
  refine ⟨res, g', r1, ?_, J⟩
  rw [D_17_118, p_idx (by omega) (by omega), show (g 254 98).toNat = k by omega, e0, if_neg (by decide), if_neg (by decide), if_neg (by decide), if_neg (by decide), if_pos rfl, p_idx (by omega) (by omega), show (g 254 98).toNat = k by omega, ev, ← h1, r2, p_xI, r3, p_xV]
/-- lines ahead of a call: the object -/
def obN (g : am_H) (s c : Nat) : List vl := if g 285 c = 1 then ldN g s (g 286 c).toNat else if g 285 c = 2 then [(0, 4, 0)] else []
theorem ji_obj (M : MU ky g k G ((s, as, ls, th, st, rk) :: rs)) (B : MB g ((s, as, ls, th, st, rk) :: rs)) (hk : k < 5000) (hs : st.length ≤ 352) (hu : ust rs + st.length ≤ 15000) (hd : rs.length < 40) (ra : ∀ w ∈ as, rg16 w) (rl : ∀ w ∈ ls, rg16 w) (rt : ∀ w, th = some w → rg16 w) (e0 : g 277 k = 9) {c : Nat} (ec : g 278 k = (c : Int)) (hc : c < 1000) (V : g 285 c = 1 → 0 ≤ g 286 c ∧ VK g s (g 286 c).toNat) (T : g 285 c = 2 → g 264 s ≠ 2) : JT ky L d g k s rk as ls th st rs G (obN g s c) := by
  obtain ⟨g1, h1, M1, B1, f1, e1, ek, c1⟩ := m_at hk M B
  have hd0 : am_D (d + 13) 17 118 [am_r (am_a 254)] (zS L, g) = (if g 285 c = 1 then am_xI (zS L) (am_D (d + 12) 17 112 [am_r (am_a 254), am_i (g 286 c)] (zS L, g1)) (am_up1 (zS L)) fun v38 h37 => am_xV (zS L) (am_D (d + 12) 17 81 [am_r (am_a 254), am_i v38] (zS L, h37)) (am_up1 (zS L)) fun h39 => am_E (am_D (d + 12)) m_17_118 (.inl 10) [some (am_r (am_a 254)), some (am_i (k : Int)), none] [] (zS L, h39) else am_E (am_D (d + 12)) m_17_118 (.inl 10) [some (am_r (am_a 254)), some (am_i (k : Int)), none] [] (zS L, g1)) := by
    rw [D_17_118, p_idx (by omega) (by omega), show (g 254 98).toNat = k by omega, e0, if_neg (by decide), if_neg (by decide), if_neg (by decide), if_neg (by decide), if_neg (by decide), if_neg (by decide), if_neg (by decide), if_neg (by decide), if_neg (by decide), if_pos rfl, p_idx (by omega) (by omega), show (g 254 98).toNat = k by omega, ec, p_idx (by omega) (by omega), Int.toNat_natCast, ← h1, ek]
    by_cases z : g 285 c = 1
    · rw [if_pos z, if_pos z, p_idx (by omega) (by omega), Int.toNat_natCast, ec, p_idx (by omega) (by omega), Int.toNat_natCast]
    · rw [if_neg z, if_neg z]
  unfold obN
  by_cases z1 : g 285 c = 1
  · rw [if_pos z1]
    rw [if_pos z1] at hd0
    obtain ⟨v0, V⟩ := V z1
    obtain ⟨res, g2, g', w, r1, r2, r3, J⟩ := jv_get (d := d + 1) (d2 := d + 10) (L := L) M1 B1 f1 e1 hs hu hd (V.fr (fun c hc => c1 c (by omega))) ra rl rt
    rw [(ldN_fr (fun c hc => c1 c (by omega))).1] at r1
    rw [show (((g 286 c).toNat : Nat) : Int) = g 286 c by omega] at r2
    refine ⟨res, g', r1, ?_, J⟩
    rw [hd0, r2, p_xI, r3, p_xV, q_17_118_10, p_idx (by omega) (by omega), Int.toNat_natCast, J.1.cell 278 rfl rfl, ec, p_idx (by omega) (by omega), Int.toNat_natCast, J.1.cell 285 rfl rfl, if_neg (by omega)]
  rw [if_neg z1]
  rw [if_neg z1, q_17_118_10, p_idx (by omega) (by omega), Int.toNat_natCast, c1 278 (by decide), ec, p_idx (by omega) (by omega), Int.toNat_natCast, c1 285 (by decide)] at hd0
  by_cases z2 : g 285 c = 2
  · rw [if_pos z2]
    have ht : th = some (g 316 rs.length) := M.2.2.2.1.2.2.2 (T z2)
    have e88 : g1 254 88 = ((rs.length + 1 : Nat) : Int) := M1.2.2.1.2.1
    obtain ⟨g', h2, J⟩ := ji_put (d := d + 10) (L := L) M1 B1 f1 e1 (by omega) (g 316 rs.length) none
    rw [if_pos z2, e88, p_w (by omega) (by omega), p_idx (by omega) (by omega), show (((rs.length + 1 : Nat) : Int) - 1).toNat = rs.length by omega, c1 316 (by decide), h2, p_xV] at hd0
    refine ⟨_, g', fun K => ?_, hd0, J⟩
    show v_o th (fun v => v_ps 360 st v fun st => K (as, ls, th, none, st, G)) = _
    rw [s16_id (rt _ ht), ht]
    show v_ps 360 st (g 316 rs.length) (fun st => K (as, ls, some (g 316 rs.length), none, st, G)) = _
    rw [v_ps_ok (by omega)]
  · rw [if_neg z2]
    rw [if_neg z2] at hd0
    exact ⟨.inl (as, ls, th, none, st, G), g1, fun K => rfl, hd0, f1, M1, e1⟩
/-- statement items -/
theorem m_stm (hk : k < 5000) (ek : g 254 98 = (k : Int)) (h : 11 ≤ g 277 k) : am_D (d + 13) 17 118 [am_r (am_a 254)] (zS L, g) = am_xV (zS L) (am_D (d + 12) 17 119 [am_r (am_a 254), am_i (k : Int)] (zS L, am_up g 254 98 (am_w (g 254 98 + 1)))) (am_up1 (zS L)) fun h42 => some (.inl none, (zS L, h42)) := by
  rw [D_17_118, p_idx (by omega) (by omega), show (g 254 98).toNat = k by omega, if_neg (by omega), if_neg (by omega), if_neg (by omega), if_neg (by omega), if_neg (by omega), if_neg (by omega), if_neg (by omega), if_neg (by omega), if_neg (by omega), if_neg (by omega), if_neg (by omega), ek]
theorem ji_drop (M : MU ky g k G ((s, as, ls, th, x :: st, rk) :: rs)) (B : MB g ((s, as, ls, th, x :: st, rk) :: rs)) (hk : k < 5000) (hu : ust rs + st.length ≤ 14999) (e0 : g 277 k = 19) : JT ky L d g k s rk as ls th (x :: st) rs G [(1, 5, 0)] := by
  obtain ⟨g1, h1, M1, B1, f1, e1, ek, c1⟩ := m_at hk M B
  obtain ⟨g2, h2, M2, B2, f2, e2, c2⟩ := ji_pop (d := d + 10) (L := L) M1 B1 (by omega)
  refine ⟨.inl (as, ls, th, some x, st, G), g2, fun K => rfl, ?_, f1.trans f2, M2, e2.trans e1⟩
  rw [m_stm hk ek (by omega), ← h1, D_17_119, p_idx (by omega) (by omega), Int.toNat_natCast, c1 277 (by decide), e0, if_neg (by decide), if_neg (by decide), if_neg (by decide), if_neg (by decide), if_neg (by decide), if_neg (by decide), if_neg (by decide), if_neg (by decide), if_pos rfl, h2, p_xI, p_xV]
/-- a value into the memory -/
theorem ji_write (M : MU ky g1 k G ((s, as, ls, th, st, rk) :: rs)) (B : MB g1 ((s, as, ls, th, st, rk) :: rs)) (f : p_fr jiC jiF g g1) (e : g1 254 100 = g 254 100) (a v : Int) (hv : rg16 v) : ∃ res g', (∀ K : vL → Option vO, v_wc (am_s16 a) v G (fun G => K (as, ls, th, some v, st, G)) = (match res with
  | .inl y => K y
  | .inr z => some (.inr z.1, z.2))) ∧ am_D (d + 2) 17 80 [am_r (am_a 254), am_i a, am_i v] (zS L, g1) = pV L g' ∧ JI ky g g' k s rk rs res := by
  have e9 : g1 254 99 = -1 := M.2.2.1.2.2.2
  by_cases c : v_pl (am_s16 a)
  · refine ⟨.inl (as, ls, th, some v, st, (p_set G.1 (am_s16 a).toNat v, G.2)), _, fun K => ?_, by rw [m_write, if_pos e9, if_pos c, s16_id hv], f.upc _ _ _ rfl, ?_, ?_⟩
    · unfold v_wc; rw [if_pos c]
    · exact M.jo B (M.1.wr c hv) (vfr_wr c v) ((p_fr.refl g1).upc _ _ _ rfl) (by rw [p_up_c _ _ _ _ _ (by decide)]; exact e9)
    · rw [p_up_c _ _ _ _ _ (by decide)]; exact e
  · refine ⟨.inr ((3, 20), G), erh 20 g1, fun K => ?_, by rw [m_write, if_pos e9, if_neg c], f.trans ((erh_fr (n := 20)).mono rfl rfl), M.1.erh 20, erh_99 e9, (show (0 : Int) ≤ 3 by decide), by rw [erh_100 e9]; rfl⟩
    unfold v_wc; rw [if_neg c]
theorem ji_storeAt (M : MU ky g k G ((s, as, ls, th, y :: x :: st, rk) :: rs)) (B : MB g ((s, as, ls, th, y :: x :: st, rk) :: rs)) (hk : k < 5000) (hu : ust rs + st.length ≤ 14998) (hx : rg16 x) (hy : rg16 y) (e0 : g 277 k = 14) : JT ky L d g k s rk as ls th (y :: x :: st) rs G [(1, 5, 0), (18, 1, 0)] := by
  obtain ⟨g1, h1, M1, B1, f1, e1, ek, c1⟩ := m_at hk M B
  obtain ⟨g2, h2, M2, B2, f2, e2, c2⟩ := ji_pop (d := d + 10) (L := L) M1 B1 (by rw [List.length_cons]; omega)
  obtain ⟨g3, h3, M3, B3, f3, e3, c3⟩ := ji_pop (d := d + 10) (L := L) M2 B2 (by omega)
  obtain ⟨res, g', r1, r2, J⟩ := ji_write (d := d + 9) (L := L) M3 B3 ((f1.trans f2).trans f3) (e3.trans (e2.trans e1)) x y hy
  rw [s16_id hx] at r1
  refine ⟨res, g', fun K => ?_, ?_, J⟩
  · exact Eq.trans rfl (r1 K)
  · rw [m_stm hk ek (by omega), ← h1, D_17_119, p_idx (by omega) (by omega), Int.toNat_natCast, c1 277 (by decide), e0, if_neg (by decide), if_neg (by decide), if_neg (by decide), if_pos rfl, h2, p_xI, h3, p_xI, r2, p_xV, p_xV]
theorem MR.sta (R : MR ky G g) (j : Nat) (hj : j < 12) {v : Int} (hv : rg16 v) : MR ky (p_set G.1 (20 + j) v, G.2) g := by
  obtain ⟨r1, ⟨bl, ⟨⟨b1, b2, b3, b4⟩, b5, b6⟩, b7, b8⟩, r3, r4, r5, r6⟩ := R
  have s : ∀ a, a ≠ 20 + j → p_set G.1 (20 + j) v a = G.1 a := fun a ha => p_set_n _ _ _ _ ha
  refine ⟨fun a ha => ?_, ⟨bl, ⟨⟨?_, ?_, ?_, b4⟩, fun i q hq => ?_, b6⟩, b7, b8⟩, ?_, r4, r5, fun a => ?_⟩
  · show p_set G.1 (20 + j) v a = _
    rw [s a (by unfold v_pl at ha; omega)]; exact r1 a ha
  · show p_set G.1 (20 + j) v 16 = _
    rw [s 16 (by omega)]; exact b1
  · show p_set G.1 (20 + j) v 17 = _
    rw [s 17 (by omega)]; exact b2
  · show p_set G.1 (20 + j) v 18 = _
    rw [s 18 (by omega)]; exact b3
  · show p_set G.1 (20 + j) v (16520 + i) = _ ∧ p_set G.1 (20 + j) v (16640 + i) = _
    rw [s _ (by omega), s _ (by omega)]; exact b5 i q hq
  · show _ = if p_set G.1 (20 + j) v 19 = 0 then 0 else 1
    rw [s 19 (by omega)]; exact r3
  · show rg16 (p_set G.1 (20 + j) v a)
    by_cases z : a = 20 + j
    · rw [z, p_set_s]; exact hv
    · rw [s a z]; exact r6 a
/-- a static -/
theorem MU.sta (M : MU ky g k G ((s, as, ls, th, st, rk) :: rs)) (B : MB g ((s, as, ls, th, st, rk) :: rs)) (j : Nat) (hj : j < 12) (v : Int) (hv : rg16 v) : MU ky (am_up g 311 j v) k (p_set G.1 (20 + j) v, G.2) ((s, as, ls, th, st, rk) :: rs) := by
  obtain ⟨m1, m2, ⟨m3, m4, m5, m6⟩, m7⟩ := M
  have c : ∀ a, a ≠ 311 → am_up g 311 j v a = g a := fun a ha => p_up_c _ _ _ _ _ ha
  refine ⟨(m1.sta j hj hv).same (fun a ha => c a (by omega)) (fun i hi => by rw [c 254 (by omega)]), fun i hi => ?_, ⟨by rw [c 254 (by omega)]; exact m3, by rw [c 254 (by omega)]; exact m4, by rw [c 254 (by omega)]; exact m5, by rw [c 254 (by omega)]; exact m6⟩, m7.fr (fun a ha => c a (by omega)) B (fun i _ => by rw [c 312 (by omega)]) (fun i _ => by rw [c 313 (by omega)])⟩
  show am_up g 311 j v 311 i = p_set G.1 (20 + j) v (20 + i)
  by_cases z : i = j
  · rw [z, p_up_s, p_set_s]
  · rw [p_up_n _ _ _ _ _ _ (Or.inr z), p_set_n _ _ _ _ (by omega)]; exact m2 i hi
/-- a row of vars -/
theorem MU.row (M : MU ky g k G ((s, as, ls, th, st, rk) :: rs)) (B : MB g ((s, as, ls, th, st, rk) :: rs)) {as2 ls2 : List Int} (j : Nat) (v : Int) (hj : 24 * rs.length ≤ j) (h : MF (am_up g 312 j v) rs.length (s, as2, ls2, th, st, rk)) : MU ky (am_up g 312 j v) k G ((s, as2, ls2, th, st, rk) :: rs) := by
  obtain ⟨m1, m2, ⟨m3, m4, m5, m6⟩, m7, m8, m9⟩ := M
  have c : ∀ a, a ≠ 312 → am_up g 312 j v a = g a := fun a ha => p_up_c _ _ _ _ _ ha
  exact ⟨m1.same (fun a ha => c a (by omega)) (fun i hi => by rw [c 254 (by omega)]), fun i hi => by rw [c 311 (by omega)]; exact m2 i hi, ⟨by rw [c 254 (by omega)]; exact m3, by rw [c 254 (by omega)]; exact m4, by rw [c 254 (by omega)]; exact m5, by rw [c 254 (by omega)]; exact m6⟩, h, SK.fr m8 (fun i _ _ => by rw [c 313 (by omega)]), m9.fr (fun a ha => c a (by omega)) B.2 (fun i hi => p_up_n _ _ _ _ _ _ (Or.inr (by omega))) (fun i _ => by rw [c 313 (by omega)])⟩
theorem AR_up {b i c : Nat} {l : List Int} (A : AR (g c) b l) (hi : i < l.length) (v : Int) : AR (am_up g c (b + i) v c) b (l.set i v) := by
  rw [p_up_f]; exact A.set hi v
theorem ji_store (M : MU ky g k G ((s, as, ls, th, x :: st, rk) :: rs)) (B : MB g ((s, as, ls, th, x :: st, rk) :: rs)) (hk : k < 5000) (hs : st.length ≤ 351) (hu : ust rs + st.length ≤ 14999) (hd : rs.length < 40) (hx : rg16 x) (rt : ∀ w, th = some w → rg16 w) (e0 : g 277 k = 13) {v : Nat} (ev : g 278 k = (v : Int)) (V : VK g s v) : JT ky L d g k s rk as ls th (x :: st) rs G (stN g s v) := by
  obtain ⟨g1, h1, M1, B1, f1, e1, ek, c1⟩ := m_at hk M B
  obtain ⟨g2, h2, M2, B2, f2, e2, c2⟩ := ji_pop (d := d + 10) (L := L) M1 B1 (by omega)
  have V2 : VK g2 s v := V.fr (fun c hc => (c2 c (by omega)).trans (c1 c (by omega)))
  rw [← (ldN_fr (g' := g2) (s := s) (v := v) (fun c hc => (c2 c (by omega)).trans (c1 c (by omega)))).2]
  have fin : am_D (d + 13) 17 118 [am_r (am_a 254)] (zS L, g) = am_xV (zS L) (am_xV (zS L) (am_D (d + 11) 17 113 [am_r (am_a 254), am_i (v : Int), am_i x] (zS L, g2)) (am_up1 (zS L)) fun h8 => some (.inl none, (zS L, h8))) (am_up1 (zS L)) fun h42 => some (.inl none, (zS L, h42)) := by
    rw [m_stm hk ek (by omega), ← h1, D_17_119, p_idx (by omega) (by omega), Int.toNat_natCast, c1 277 (by decide), e0, if_neg (by decide), if_neg (by decide), if_pos rfl, p_idx (by omega) (by omega), Int.toNat_natCast, h2, p_xI, c1 278 (by decide), ev]
  have e88 : g2 254 88 = ((rs.length + 1 : Nat) : Int) := M2.2.2.1.2.1
  obtain ⟨v1, v2, v3, v4, v5, v6⟩ := V2
  obtain ⟨m1, ⟨m2, m3⟩, ⟨m4, m5⟩, m6⟩ := M2.2.2.2.1
  dsimp only at m1 m2 m3 m4 m5 m6
  have b := B2.1
  dsimp only at b
  have e100 : g2 254 100 = g 254 100 := e2.trans e1
  have ff := f1.trans f2
  unfold stN
  by_cases c0 : g2 272 v = 0
  · rw [if_pos c0]
    have z := v3 c0
    refine ⟨.inl (as, ls, th, none, st, (p_set G.1 (20 + (g2 276 v).toNat) x, G.2)), am_up g2 311 (g2 276 v).toNat x, fun K => ?_, ?_, ff.upc _ _ _ rfl, M2.sta B2 _ (by omega) x hx, by rw [p_up_c _ _ _ _ _ (by decide)]; exact e100⟩
    · rw [show 20 + (g2 276 v).toNat = 16 + (4 + (g2 276 v).toNat) by omega]; rfl
    · rw [fin, D_17_113, p_idx (by omega) (by omega), Int.toNat_natCast, if_pos c0, p_idx (by omega) (by omega), Int.toNat_natCast, p_idx (by omega) (by omega), p_xV, p_xV]
  rw [if_neg c0]
  by_cases c1' : g2 272 v = 1
  · rw [if_pos c1']
    have z := v4 c1'
    have ht := m6 z.1
    obtain ⟨o1, o2⟩ := rt _ ht
    obtain ⟨res, g', r1, r2, J⟩ := ji_write (d := d + 8) (L := L) M2 B2 ff e100 (g2 316 rs.length + g2 275 v) x hx
    refine ⟨res, g', fun K => ?_, ?_, J⟩
    · refine Eq.trans ?_ (r1 K)
      show v_o th (fun o => v_ps 360 st (am_s16 (o + (((g2 275 v).toNat : Nat) : Int))) fun st => v_p1 st fun a st => v_wc a x G fun G => K (as, ls, th, some x, st, G)) = _
      rw [ht]
      show v_ps 360 st (am_s16 (g2 316 rs.length + (((g2 275 v).toNat : Nat) : Int))) (fun st => v_p1 st fun a st => v_wc a x G fun G => K (as, ls, some (g2 316 rs.length), some x, st, G)) = _
      rw [v_ps_ok (by omega), show (((g2 275 v).toNat : Nat) : Int) = g2 275 v by omega]; rfl
    · rw [fin, D_17_113, p_idx (by omega) (by omega), Int.toNat_natCast, if_neg c0, if_pos c1', e88, p_w (by omega) (by omega), p_idx (by omega) (by omega), p_idx (by omega) (by omega), Int.toNat_natCast, show (((rs.length + 1 : Nat) : Int) - 1).toNat = rs.length by omega, p_w (by omega) (by omega), r2, p_xV, p_xV, p_xV]
  rw [if_neg c1']
  by_cases c2' : g2 272 v = 2
  · rw [if_pos c2']
    have z := v5 c2'
    have hl : (g2 275 v).toNat + (if g2 264 s = 3 then 1 else 0) < as.length := by
      by_cases c3 : g2 264 s = 3
      · obtain ⟨ps, p1, p2, p3⟩ := m2 c3
        rw [if_pos c3, p1, List.length_cons]; omega
      · obtain ⟨p2, p3⟩ := m3 c3
        rw [if_neg c3]; omega
    refine ⟨.inl (as.set ((g2 275 v).toNat + (if g2 264 s = 3 then 1 else 0)) x, ls, th, none, st, G), am_up g2 312 (24 * rs.length + (g2 275 v).toNat) x, fun K => ?_, ?_, ff.upc _ _ _ rfl, M2.row B2 _ x (by omega) ?_, by rw [p_up_c _ _ _ _ _ (by decide)]; exact e100⟩
    · show cond (Nat.blt ((g2 275 v).toNat + (if g2 264 s = 3 then 1 else 0)) as.length) (K (as.set ((g2 275 v).toNat + (if g2 264 s = 3 then 1 else 0)) x, ls, th, none, st, G)) none = _
      rw [show Nat.blt ((g2 275 v).toNat + (if g2 264 s = 3 then 1 else 0)) as.length = true from Nat.ble_eq_true_of_le hl]; rfl
    · rw [fin, D_17_113, p_idx (by omega) (by omega), Int.toNat_natCast, if_neg c0, if_neg c1', if_pos c2', e88, p_idx (by omega) (by omega), Int.toNat_natCast, p_w (x := ((rs.length + 1 : Nat) : Int) - 1) (by omega) (by omega), p_w (x := 24 * (((rs.length + 1 : Nat) : Int) - 1)) (by omega) (by omega), p_w (by omega) (by omega), p_idx (by omega) (by omega), show (24 * (((rs.length + 1 : Nat) : Int) - 1) + g2 275 v).toNat = 24 * rs.length + (g2 275 v).toNat by omega, p_xV, p_xV]
    · have c : ∀ a, a ≠ 312 → am_up g2 312 (24 * rs.length + (g2 275 v).toNat) x a = g2 a := fun a ha => p_up_c _ _ _ _ _ ha
      unfold MF
      rw [c 315 (by decide), c 314 (by decide), c 264 (by decide), c 316 (by decide), c 267 (by decide), c 268 (by decide)]
      refine ⟨m1, ⟨fun c3 => ?_, fun c3 => ?_⟩, ⟨m4, m5.fr (fun j j1 j2 => p_up_n _ _ _ _ _ _ (Or.inr (by omega)))⟩, m6⟩
      · obtain ⟨ps, p1, p2, p3⟩ := m2 c3
        refine ⟨ps.set (g2 275 v).toNat x, ?_, by rw [List.length_set]; exact p2, AR_up p3 (by omega) x⟩
        show as.set ((g2 275 v).toNat + (if g2 264 s = 3 then 1 else 0)) x = _
        rw [if_pos c3, p1]; rfl
      · obtain ⟨p2, p3⟩ := m3 c3
        show ((as.set ((g2 275 v).toNat + (if g2 264 s = 3 then 1 else 0)) x).length : Int) = _ ∧ AR _ _ (as.set ((g2 275 v).toNat + (if g2 264 s = 3 then 1 else 0)) x)
        rw [if_neg c3, Nat.add_zero, List.length_set]
        exact ⟨p2, AR_up p3 (by omega) x⟩
  rw [if_neg c2']
  have z := v6 (by omega)
  refine ⟨.inl (as, ls.set (g2 275 v).toNat x, th, none, st, G), am_up g2 312 (24 * rs.length + 12 + (g2 275 v).toNat) x, fun K => ?_, ?_, ff.upc _ _ _ rfl, M2.row B2 _ x (by omega) ?_, by rw [p_up_c _ _ _ _ _ (by decide)]; exact e100⟩
  · show cond (Nat.blt (g2 275 v).toNat ls.length) (K (as, ls.set (g2 275 v).toNat x, th, none, st, G)) none = _
    rw [show Nat.blt (g2 275 v).toNat ls.length = true from Nat.ble_eq_true_of_le (show (g2 275 v).toNat + 1 ≤ ls.length by omega)]; rfl
  · rw [fin, D_17_113, p_idx (by omega) (by omega), Int.toNat_natCast, if_neg c0, if_neg c1', if_neg c2', e88, p_idx (by omega) (by omega), Int.toNat_natCast, p_w (x := ((rs.length + 1 : Nat) : Int) - 1) (by omega) (by omega), p_w (x := 24 * (((rs.length + 1 : Nat) : Int) - 1)) (by omega) (by omega), p_w (x := 24 * (((rs.length + 1 : Nat) : Int) - 1) + 12) (by omega) (by omega), p_w (by omega) (by omega), p_idx (by omega) (by omega), show (24 * (((rs.length + 1 : Nat) : Int) - 1) + 12 + g2 275 v).toNat = 24 * rs.length + 12 + (g2 275 v).toNat by omega, p_xV, p_xV]
  · have c : ∀ a, a ≠ 312 → am_up g2 312 (24 * rs.length + 12 + (g2 275 v).toNat) x a = g2 a := fun a ha => p_up_c _ _ _ _ _ ha
    unfold MF
    rw [c 315 (by decide), c 314 (by decide), c 264 (by decide), c 316 (by decide), c 267 (by decide), c 268 (by decide)]
    refine ⟨m1, ⟨fun c3 => ?_, fun c3 => ?_⟩, ⟨by rw [← m4]; show ((ls.set (g2 275 v).toNat x).length : Int) = _; rw [List.length_set], AR_up m5 (by omega) x⟩, m6⟩
    · obtain ⟨ps, p1, p2, p3⟩ := m2 c3
      exact ⟨ps, p1, p2, p3.fr (fun j j1 j2 => p_up_n _ _ _ _ _ _ (Or.inr (by omega)))⟩
    · obtain ⟨p2, p3⟩ := m3 c3
      dsimp only
      exact ⟨p2, p3.fr (fun j j1 j2 => p_up_n _ _ _ _ _ _ (Or.inr (by omega)))⟩
end
