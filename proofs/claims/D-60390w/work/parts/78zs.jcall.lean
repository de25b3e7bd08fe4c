/-! RUN, 14: calls of the system -/
section
variable {ky : List Int} {L d : Nat} {g g1 g2 : am_H} {k : Nat} {G : vG} {rs : List uF} {s rk : Nat} {as ls : List Int} {th tm : Option Int} {x y : Int}
/-- values go into the model's row -/
theorem m_args {u1 u4 : Option am_V} {x2 x3 : Int} : ∀ (m : Nat) {g : am_H} {st : List Int}, MU ky g k G ((s, as, ls, th, st, rk) :: rs) → MB g ((s, as, ls, th, st, rk) :: rs) → m ≤ st.length → m ≤ 8 → ust rs + st.length ≤ 15000 → ∃ g', am_E (am_D (d + 11)) m_17_115 (.inl 4) [some (am_r (am_a 254)), u1, some (am_i x2), some (am_i x3), u4, some (am_i ((m : Int) - 1))] [] (zS L, g) = am_E (am_D (d + 11)) m_17_115 (.inl 4) [some (am_r (am_a 254)), u1, some (am_i x2), some (am_i x3), u4, some (am_i (-1))] [] (zS L, g') ∧ MU ky g' k G ((s, as, ls, th, st.drop m, rk) :: rs) ∧ MB g' ((s, as, ls, th, st.drop m, rk) :: rs) ∧ p_fr jiC jiF g g' ∧ g' 254 100 = g 254 100 ∧ (∀ c, c ≠ 254 → c ≠ 321 → g' c = g c) ∧ (∀ i v, (st.take m).reverse[i]? = some v → g' 321 i = v) ∧ (∀ i, m ≤ i → g' 321 i = g 321 i)
  | 0, g, st, M, B, _, _, _ => ⟨g, rfl, M, B, p_fr.refl g, rfl, fun _ _ _ => rfl, fun i v hi => (by cases hi), fun _ _ => rfl⟩
  | m + 1, g, [], M, B, h, _, _ => by cases h
  | m + 1, g, v :: st, M, B, hm, h8, hu => by
    rw [List.length_cons] at hm hu
    obtain ⟨g1, h1, M1, B1, f1, e1, c1⟩ := ji_pop (d := d + 10) (L := L) M B (by omega)
    have M2 : MU ky (am_up g1 321 m v) k G ((s, as, ls, th, st, rk) :: rs) := by
      obtain ⟨m1, m2, ⟨m3, m4, m5, m6⟩, m7⟩ := M1
      have c : ∀ a, a ≠ 321 → am_up g1 321 m v a = g1 a := fun a ha => p_up_c _ _ _ _ _ ha
      exact ⟨m1.same (fun a ha => c a (by omega)) (fun i hi => by rw [c 254 (by omega)]), fun i hi => by rw [c 311 (by omega)]; exact m2 i hi, ⟨by rw [c 254 (by omega)]; exact m3, by rw [c 254 (by omega)]; exact m4, by rw [c 254 (by omega)]; exact m5, by rw [c 254 (by omega)]; exact m6⟩, m7.fr (fun a ha => c a (by omega)) B1 (fun i _ => by rw [c 312 (by omega)]) (fun i _ => by rw [c 313 (by omega)])⟩
    have B2 : MB (am_up g1 321 m v) ((s, as, ls, th, st, rk) :: rs) := B1.fr (fun c hc => p_up_c _ _ _ _ _ (by omega))
    obtain ⟨g', r1, r2, r3, r4, r5, r6, r7, r8⟩ := m_args m (g := am_up g1 321 m v) M2 B2 (by omega) (by omega) (by omega)
    refine ⟨g', ?_, r2, r3, (f1.upc _ _ _ rfl).trans r4, ?_, fun c hc hc2 => by rw [r6 c hc hc2, p_up_c _ _ _ _ _ hc2, c1 c hc], fun i w hi => ?_, fun i hi => ?_⟩
    · rw [q_17_115_4, if_neg (by omega), h1, p_xI, p_idx (by omega) (by omega), show (((m + 1 : Nat) : Int) - 1).toNat = m by omega, p_w (by omega) (by omega), show ((m + 1 : Nat) : Int) - 1 + -1 = (m : Int) - 1 by omega]
      exact r1
    · rw [r5, p_up_c _ _ _ _ _ (by decide), e1]
    · rw [List.take_succ_cons, List.reverse_cons] at hi
      have lt : (st.take m).reverse.length = m := by rw [List.length_reverse, List.length_take]; omega
      by_cases z : i < m
      · rw [List.getElem?_append_left (by omega)] at hi
        exact r7 i w hi
      · rw [List.getElem?_append_right (by omega), lt] at hi
        have : i = m := by
          have := (List.getElem?_eq_some_iff.1 hi).1
          rw [List.length_singleton] at this; omega
        subst this
        rw [Nat.sub_self] at hi
        rw [r8 i (Nat.le_refl _), p_up_s]
        exact Option.some.inj hi
    · rw [r8 i (by omega), p_up_n _ _ _ _ _ _ (Or.inr (by omega)), c1 321 (by decide)]
variable {st : List Int}
theorem ji_sys {c ci li u n : Nat} (M : MU ky g k G ((s, as, ls, th, st, rk) :: rs)) (B : MB g ((s, as, ls, th, st, rk) :: rs)) (hk : k < 5000) (hs : st.length ≤ 352) (hu : ust rs + st.length ≤ 15000) (rst : ∀ w ∈ st, rg16 w) (e0 : g 277 k = 10) (ec : g 278 k = (c : Int)) (hc : c < 1000) (e7 : g 287 c = (ci : Int)) (hT : (ci, li, u, n) ∈ sysT) (e8 : g 288 c - g 297 ci = (li : Int)) (b8 : 0 ≤ g 288 c ∧ g 288 c ≤ 1000) (en : g 284 c + (if 0 < g 285 c then 1 else 0) = (n : Int)) (b4 : 0 ≤ g 284 c ∧ g 284 c ≤ 100) (hn : n ≤ st.length) : JT ky L d g k s rk as ls th st rs G [(15, u, n)] := by
  obtain ⟨g1, h1, M1, B1, f1, e1, ek, c1⟩ := m_at hk M B
  have hT2 : ci ≤ 7 ∧ n ≤ 4 ∧ li ≤ 20 := by
    have : ∀ q ∈ sysT, q.1 ≤ 7 ∧ q.2.2.2 ≤ 4 ∧ q.2.1 ≤ 20 := by decide
    exact this _ hT
  obtain ⟨g2, r1, M2, B2, f2, e2, c2, r7, r8⟩ := m_args (d := d) (L := L) (u1 := some (am_i (c : Int))) (u4 := some (am_i (n : Int))) (x2 := g 287 c) (x3 := g 288 c) n M1 B1 hn (by omega) hu
  have la : (st.take n).reverse.length = n := by rw [List.length_reverse, List.length_take]; omega
  have hd0 : am_D (d + 13) 17 118 [am_r (am_a 254)] (zS L, g) = am_xV (zS L) (am_E (am_D (d + 11)) m_17_115 (.inl 4) [some (am_r (am_a 254)), some (am_i (c : Int)), some (am_i (g 287 c)), some (am_i (g 288 c)), some (am_i (n : Int)), some (am_i ((n : Int) - 1))] [] (zS L, g1)) (am_up1 (zS L)) fun h41 => some (.inl none, (zS L, h41)) := by
    rw [D_17_118, p_idx (by omega) (by omega), show (g 254 98).toNat = k by omega, e0, if_neg (by decide), if_neg (by decide), if_neg (by decide), if_neg (by decide), if_neg (by decide), if_neg (by decide), if_neg (by decide), if_neg (by decide), if_neg (by decide), if_neg (by decide), if_pos rfl, p_idx (by omega) (by omega), show (g 254 98).toNat = k by omega, ec, ← h1, D_17_115, p_idx (by omega) (by omega), p_idx (by omega) (by omega), Int.toNat_natCast, c1 287 (by decide), c1 288 (by decide), c1 284 (by decide), c1 285 (by decide), if_pos (by omega), p_idx (by omega) (by omega), p_idx (by omega) (by omega), Int.toNat_natCast]
    by_cases z : 0 < g 285 c
    · rw [if_pos z] at en ⊢
      rw [p_w (x := g 284 c + 1) (by omega) (by omega), en, p_w (by omega) (by omega)]
    · rw [if_neg z] at en ⊢
      rw [p_w (x := g 284 c + 0) (by omega) (by omega), en, p_w (by omega) (by omega)]
  rw [r1, q_17_115_4, if_pos (by decide), e7, p_idx (by omega) (by omega), Int.toNat_natCast, c2 297 (by decide) (by decide), c1 297 (by decide), p_w (by omega) (by omega), e8] at hd0
  obtain ⟨o, g3, r, j1, j2, j3, j4⟩ := j_sys (d + 2) L M2.1 M2.2.2.1.2.2.2 ci li u n hT (st.take n).reverse la (fun i v hi => ⟨r7 i v hi, rst v (List.mem_of_mem_take (List.mem_reverse.1 (List.mem_of_getElem? hi)))⟩)
  rw [j2, p_xI] at hd0
  have bl : Nat.ble n st.length = true := Nat.ble_eq_true_of_le hn
  have dl : (st.drop n).length = st.length - n := List.length_drop
  have VV : ∀ K : vL → Option vO, vseq ky (vD ky 9) 360 [(15, u, n)] (as, ls, th, none, st, G) K = v_cl (some o) fun v G => v_ps 360 (st.drop n) v fun st => K (as, ls, th, none, st, G) := by
    intro K
    show cond (Nat.ble n st.length) (v_cl (vD ky 9 u (st.take n).reverse G) fun v G => v_ps 360 (st.drop n) v fun st => K (as, ls, th, none, st, G)) none = _
    rw [bl, j1]; rfl
  obtain ⟨J1, J2, J3, J4⟩ := j3
  obtain ⟨oo, G2⟩ := o
  have f23 : p_fr jiC jiF g g3 := (f1.trans f2).trans (J3.mono rfl rfl)
  cases oo with
  | inl v =>
    dsimp only at J4 J1 J2
    have M3 := M2.jo B2 J1 J2 J3 J4.1
    have B3 : MB g3 ((s, as, ls, th, st.drop n, rk) :: rs) := B2.fr (fun a ha => by rcases ha with rfl | rfl <;> exact J3.cell _ rfl rfl)
    obtain ⟨g', h2, J⟩ := ji_put (d := d + 9) (L := L) M3 B3 f23 (J4.2.1.trans (e2.trans e1)) (by omega) r none
    rw [j4 v rfl] at J
    refine ⟨_, g', fun K => ?_, ?_, J⟩
    · rw [VV]
      show v_ps 360 (st.drop n) v (fun st => K (as, ls, th, none, st, G2)) = _
      rw [v_ps_ok (by omega)]
    · rw [hd0, h2, p_xV, p_xV]
  | inr z =>
    dsimp only at J4 J1
    have e87 : g3 254 87 = ((ust rs + (st.drop n).length : Nat) : Int) := by rw [J3 254 87 rfl rfl]; exact M2.2.2.1.1
    refine ⟨.inr (z, G2), _, fun K => by rw [VV]; rfl, by rw [hd0, m_put _ L r e87 (by omega), p_xV, p_xV], (f23.upc _ _ _ rfl).upf _ _ _ rfl, ?_, ?_, J4.2.1, ?_⟩
    · exact J1.same (fun a ha => by rw [p_up_c _ _ _ _ _ (by omega), p_up_c _ _ _ _ _ (by omega)]) (fun j hj => by rw [p_up_n _ _ _ _ _ _ (Or.inr (by omega)), p_up_c _ _ _ _ _ (by omega)])
    · rw [p_up_n _ _ _ _ _ _ (Or.inr (by decide)), p_up_c _ _ _ _ _ (by decide)]; exact J4.1
    · rw [p_up_n _ _ _ _ _ _ (Or.inr (by decide)), p_up_c _ _ _ _ _ (by decide), J4.2.2, e2, e1]
end
