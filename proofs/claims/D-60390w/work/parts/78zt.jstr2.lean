/-! RUN, 15: strings -/
def chN : List Nat → List vl
  | [] => []
  | c :: cl => (0, 0, c) :: (15, 20, 2) :: chN cl
def strN (cl : List Nat) : List vl := (0, 0, cl.length) :: (15, 15, 1) :: chN cl
section
variable {ky : List Int} {L d : Nat} {g g1 g2 : am_H} {k : Nat} {G : vG} {rs : List uF} {s rk : Nat} {as ls : List Int} {th tm : Option Int} {st : List Int} {x y : Int}
/-- the run has ended within an item: a value comes on the stack, nobody looks at it -/
theorem ji_late {z : Int × Int} {t : Nat} (R : MR ky G g1) (f : p_fr jiC jiF g g1) (e9 : g1 254 99 = z.1) (z0 : 0 ≤ z.1) (e100 : g1 254 100 = if z.1 = 3 then z.2 else g 254 100) (e87 : g1 254 87 = (t : Int)) (ht : t < 20000) (x : Int) : ∃ g', am_D (d + 2) 17 81 [am_r (am_a 254), am_i x] (zS L, g1) = pV L g' ∧ JI ky g g' k s rk rs (.inr (z, G)) := by
  refine ⟨_, m_put d L x e87 ht, (f.upc _ _ _ rfl).upf _ _ _ rfl, ?_, ?_, z0, ?_⟩
  · exact R.same (fun a ha => by rw [p_up_c _ _ _ _ _ (by omega), p_up_c _ _ _ _ _ (by omega)]) (fun j hj => by rw [p_up_n _ _ _ _ _ _ (Or.inr (by omega)), p_up_c _ _ _ _ _ (by omega)])
  · rw [p_up_n _ _ _ _ _ _ (Or.inr (by decide)), p_up_c _ _ _ _ _ (by decide)]; exact e9
  · rw [p_up_n _ _ _ _ _ _ (Or.inr (by decide)), p_up_c _ _ _ _ _ (by decide)]; exact e100
/-- letters -/
theorem ji_chars {o pl : Int} {n : Nat} (hk : k < 5000) (ro : rg16 o) (hs : st.length ≤ 352) (hu : ust rs + st.length ≤ 15000) (e79 : g 279 k = (n : Int)) (e03 : g 303 k = pl) (hp : 0 ≤ pl ∧ pl + 1 + n ≤ 4000) : ∀ (cl : List Nat) (i : Nat) {g1 : am_H} {G : vG}, i + cl.length = n → (∀ (j c : Nat), cl[j]? = some c → g 304 (pl.toNat + 1 + (i + j)) = (c : Int) ∧ c ≤ 32767) → MU ky g1 (k + 1) G ((s, as, ls, th, st, rk) :: rs) → MB g1 ((s, as, ls, th, st, rk) :: rs) → p_fr jiC jiF g g1 → g1 254 100 = g 254 100 → ∃ res g', (∀ K : vL → Option vO, vseq ky (vD ky 9) 360 (chN cl) (as, ls, th, none, o :: st, G) K = (match res with
    | .inl y => K y
    | .inr z => some (.inr z.1, z.2))) ∧ am_E (am_D (d + 11)) m_17_116 (.inl 1) [some (am_r (am_a 254)), some (am_i (k : Int)), some (am_i o), some (am_i (i : Int))] [] (zS L, g1) = pV L g' ∧ JI ky g g' (k + 1) s rk rs res
  | [], i, g1, G, hn, hc, M, B, f, e => by
    obtain ⟨g', h2, J⟩ := ji_put (d := d + 9) (L := L) M B f e (by omega) o none
    rw [s16_id ro] at J
    refine ⟨_, g', fun K => rfl, ?_, J⟩
    have hn : i = n := hn
    rw [q_17_116_1, p_idx (by omega) (by omega), Int.toNat_natCast, f.cell 279 rfl rfl, e79, if_neg (by omega), h2, p_xV]
  | c :: cl, i, g1, G, hn, hc, M, B, f, e => by
    rw [List.length_cons] at hn
    obtain ⟨c1, c2⟩ := hc 0 c rfl
    have c1 : g 304 (pl.toNat + 1 + i) = (c : Int) := c1
    have e9 : g1 254 99 = -1 := M.2.2.1.2.2.2
    have rc : rg16 (c : Int) := ⟨by omega, by omega⟩
    obtain ⟨x0, -, v0, -, -, -⟩ := j_append 7 L M.1 e9 o (c : Int) ro rc
    obtain ⟨x, g2, v1, r1, ⟨J1, J2, J3, J4⟩, j4⟩ := j_append (d + 8) L M.1 e9 o (c : Int) ro rc
    have ex : x0 = x := vD_u v0 v1
    subst ex
    have VV : ∀ K : vL → Option vO, vseq ky (vD ky 9) 360 (chN (c :: cl)) (as, ls, th, none, o :: st, G) K = v_cl (some x0) fun v G => v_ps 360 st v fun st => vseq ky (vD ky 9) 360 (chN cl) (as, ls, th, none, st, G) K := by
      intro K
      show v_ps 360 (o :: st) (c : Int) (fun st => cond (Nat.ble 2 st.length) (v_cl (vD ky 9 20 (st.take 2).reverse G) fun v G => v_ps 360 (st.drop 2) v fun st => vseq ky (vD ky 9) 360 (chN cl) (as, ls, th, none, st, G) K) none) = _
      rw [v_ps_ok (by rw [List.length_cons]; omega)]
      show cond (Nat.ble 2 ((c : Int) :: o :: st).length) (v_cl (vD ky 9 20 [o, (c : Int)] G) fun v G => v_ps 360 st v fun st => vseq ky (vD ky 9) 360 (chN cl) (as, ls, th, none, st, G) K) none = _
      rw [show Nat.ble 2 ((c : Int) :: o :: st).length = true from Nat.ble_eq_true_of_le (by rw [List.length_cons, List.length_cons]; omega), v0]; rfl
    have f2 : p_fr jiC jiF g g2 := f.trans (J3.mono rfl rfl)
    have step : am_E (am_D (d + 11)) m_17_116 (.inl 1) [some (am_r (am_a 254)), some (am_i (k : Int)), some (am_i o), some (am_i (i : Int))] [] (zS L, g1) = am_E (am_D (d + 11)) m_17_116 (.inl 1) [some (am_r (am_a 254)), some (am_i (k : Int)), some (am_i o), some (am_i ((i + 1 : Nat) : Int))] [] (zS L, g2) := by
      rw [q_17_116_1, p_idx (by omega) (by omega), Int.toNat_natCast, f.cell 279 rfl rfl, e79, if_pos (by omega), if_pos e9, p_idx (by omega) (by omega), Int.toNat_natCast, f.cell 303 rfl rfl, e03, p_w (x := pl + 1) (by omega) (by omega), p_w (by omega) (by omega), p_idx (by omega) (by omega), f.cell 304 rfl rfl, show (pl + 1 + (i : Int)).toNat = pl.toNat + 1 + i by omega, c1, r1, p_xV, p_w (by omega) (by omega)]; rfl
    obtain ⟨xo, G2⟩ := x0
    cases xo with
    | inl v =>
      dsimp only at J1 J2 J4
      have ev : v = o := j4 v rfl
      subst ev
      have M2 := M.jo B J1 J2 J3 J4.1
      have B2 : MB g2 ((s, as, ls, th, st, rk) :: rs) := B.fr (fun a ha => by rcases ha with rfl | rfl <;> exact J3.cell _ rfl rfl)
      obtain ⟨res, g', r2, r3, J⟩ := ji_chars (o := v) hk ro hs hu e79 e03 hp cl (i + 1) (by omega) (fun j c hj => by have := hc (j + 1) c hj; rw [show i + (j + 1) = i + 1 + j by omega] at this; exact this) M2 B2 f2 (J4.2.1.trans e)
      refine ⟨res, g', fun K => ?_, step.trans r3, J⟩
      rw [VV]
      show v_ps 360 st v (fun st => vseq ky (vD ky 9) 360 (chN cl) (as, ls, th, none, st, G2) K) = _
      rw [v_ps_ok (by omega)]; exact r2 K
    | inr z =>
      dsimp only at J1 J4
      have e87 : g2 254 87 = ((ust rs + st.length : Nat) : Int) := by rw [J3 254 87 rfl rfl]; exact M.2.2.1.1
      obtain ⟨g', h2, J⟩ := ji_late (d := d + 9) (L := L) (k := k + 1) (s := s) (rk := rk) (rs := rs) J1 f2 J4.1 J4.2.1 (by rw [J4.2.2, e]) e87 (by omega) o
      refine ⟨.inr (z, G2), g', fun K => by rw [VV]; rfl, ?_, J⟩
      rw [step, q_17_116_1, p_idx (by omega) (by omega), Int.toNat_natCast, f2.cell 279 rfl rfl, e79]
      by_cases q : ((i + 1 : Nat) : Int) < (n : Int)
      · rw [if_pos q, if_neg (by rw [J4.1]; omega), h2, p_xV]
      · rw [if_neg q, h2, p_xV]
theorem ji_str {pl : Int} {cl : List Nat} (M : MU ky g k G ((s, as, ls, th, st, rk) :: rs)) (B : MB g ((s, as, ls, th, st, rk) :: rs)) (hk : k < 5000) (hs : st.length ≤ 352) (hu : ust rs + st.length ≤ 15000) (e0 : g 277 k = 1) (hl : cl.length ≤ 4000) (e79 : g 279 k = (cl.length : Int)) (e03 : g 303 k = pl) (hp : 0 ≤ pl ∧ pl + 1 + cl.length ≤ 4000) (hc : ∀ (j c : Nat), cl[j]? = some c → g 304 (pl.toNat + 1 + j) = (c : Int) ∧ c ≤ 32767) : JT ky L d g k s rk as ls th st rs G (strN cl) := by
  obtain ⟨g1, h1, M1, B1, f1, e1, ek, c1⟩ := m_at hk M B
  have e9 : g1 254 99 = -1 := M1.2.2.1.2.2.2
  have rn : rg16 (cl.length : Int) := ⟨by omega, by omega⟩
  obtain ⟨x0, -, -, v0, -, -, -⟩ := j_new 6 L M1.1 e9 (cl.length : Int) rn
  obtain ⟨x, g2, r, v1, r1, J0, j4⟩ := j_new (d + 8) L M1.1 e9 (cl.length : Int) rn
  have ex : x0 = x := vD_u v0 v1
  subst ex
  have rr0 := fun v hv => J0.rg (v := v) hv
  obtain ⟨J1, J2, J3, J4⟩ := J0
  have VV : ∀ K : vL → Option vO, vseq ky (vD ky 9) 360 (strN cl) (as, ls, th, none, st, G) K = v_cl (some x0) fun v G => v_ps 360 st v fun st => vseq ky (vD ky 9) 360 (chN cl) (as, ls, th, none, st, G) K := by
    intro K
    show v_ps 360 st (cl.length : Int) (fun st => cond (Nat.ble 1 st.length) (v_cl (vD ky 9 15 (st.take 1).reverse G) fun v G => v_ps 360 (st.drop 1) v fun st => vseq ky (vD ky 9) 360 (chN cl) (as, ls, th, none, st, G) K) none) = _
    rw [v_ps_ok (by omega)]
    show cond (Nat.ble 1 ((cl.length : Int) :: st).length) (v_cl (vD ky 9 15 [(cl.length : Int)] G) fun v G => v_ps 360 st v fun st => vseq ky (vD ky 9) 360 (chN cl) (as, ls, th, none, st, G) K) none = _
    rw [show Nat.ble 1 ((cl.length : Int) :: st).length = true from Nat.ble_eq_true_of_le (by rw [List.length_cons]; omega), v0]; rfl
  have f2 : p_fr jiC jiF g g2 := f1.trans (J3.mono rfl rfl)
  have hd0 : am_D (d + 13) 17 118 [am_r (am_a 254)] (zS L, g) = am_xV (zS L) (am_E (am_D (d + 11)) m_17_116 (.inl 1) [some (am_r (am_a 254)), some (am_i (k : Int)), some (am_i r), some (am_i 0)] [] (zS L, g2)) (am_up1 (zS L)) fun h4 => some (.inl none, (zS L, h4)) := by
    rw [D_17_118, p_idx (by omega) (by omega), show (g 254 98).toNat = k by omega, e0, if_neg (by decide), if_pos rfl, ← h1, ek, D_17_116, p_idx (by omega) (by omega), Int.toNat_natCast, c1 279 (by decide), e79, r1, p_xI]
  obtain ⟨xo, G2⟩ := x0
  cases xo with
  | inl v =>
    dsimp only at J1 J2 J4
    have ev : r = v := j4 v rfl
    subst ev
    have M2 := M1.jo B1 J1 J2 J3 J4.1
    have B2 : MB g2 ((s, as, ls, th, st, rk) :: rs) := B1.fr (fun a ha => by rcases ha with rfl | rfl <;> exact J3.cell _ rfl rfl)
    obtain ⟨res, g', r2, r3, J⟩ := ji_chars (o := r) (d := d) (L := L) (n := cl.length) hk (rr0 r rfl) hs hu e79 e03 hp cl 0 (by omega) (fun j c hj => by rw [Nat.zero_add]; exact hc j c hj) M2 B2 f2 (J4.2.1.trans e1)
    refine ⟨res, g', fun K => ?_, ?_, J⟩
    · rw [VV]
      show v_ps 360 st r (fun st => vseq ky (vD ky 9) 360 (chN cl) (as, ls, th, none, st, G2) K) = _
      rw [v_ps_ok (by omega)]; exact r2 K
    · rw [hd0]
      have r3 : am_E (am_D (d + 11)) m_17_116 (.inl 1) [some (am_r (am_a 254)), some (am_i (k : Int)), some (am_i r), some (am_i 0)] [] (zS L, g2) = pV L g' := r3
      rw [r3, p_xV]
  | inr z =>
    dsimp only at J1 J4
    have e87 : g2 254 87 = ((ust rs + st.length : Nat) : Int) := by rw [J3 254 87 rfl rfl]; exact M1.2.2.1.1
    obtain ⟨g', h2, J⟩ := ji_late (d := d + 9) (L := L) (k := k + 1) (s := s) (rk := rk) (rs := rs) J1 f2 J4.1 J4.2.1 (by rw [J4.2.2, e1]) e87 (by omega) r
    refine ⟨.inr (z, G2), g', fun K => by rw [VV]; rfl, ?_, J⟩
    rw [hd0, q_17_116_1, p_idx (by omega) (by omega), Int.toNat_natCast, f2.cell 279 rfl rfl, e79]
    by_cases q : (0 : Int) < (cl.length : Int)
    · rw [if_pos q, if_neg (by rw [J4.1]; omega), h2, p_xV, p_xV]
    · rw [if_neg q, h2, p_xV, p_xV]
end
