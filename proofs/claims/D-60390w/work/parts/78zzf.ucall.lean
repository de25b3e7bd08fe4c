/-! RUN, 27: a sub of the text is called, on both sides -/
/-- lines ahead of a sub's items -/
def hdN (g : am_H) (u : Nat) : List vl := if g 264 u = 3 then [(0, 1, 0), (1, 4, 0)] else if g 264 u = 1 then [(0, 0, (if g 262 (g 263 u).toNat ≤ 1 then 1 else g 262 (g 263 u).toNat).toNat), (15, 3, 1), (1, 4, 0)] else []
section
variable {ky : List Int} {lab fs gv : Nat → Nat} {h0 g0 : am_H} {at' : Nat → Nat × List Nat} {P : Nat → Int} {fr : Nat → Prop} {wp : Nat → Nat} {w0 N : Nat} {h g : am_H} {r : Nat → Int} {ab k : Nat} {s rk : Nat} {as ls : List Int} {th th2 : Option Int} {st : List Int} {rs : List uF} {G : vG} {L n d : Nat} {q q2 : Nat × Nat} {a dd : Int} {vs : List vl} {v : Int} {f : uF}
/-- the object of a constructor -/
theorem MU.obj (M : MU ky g k G ((s, as, ls, th, st, rk) :: rs)) (B : MB g ((s, as, ls, th, st, rk) :: rs)) (h3 : g 264 s ≠ 3) (v : Int) : MU ky (am_up g 316 rs.length v) k G ((s, as, ls, some v, st, rk) :: rs) := by
  obtain ⟨m1, m2, ⟨m3, m4, m5, m6⟩, ⟨n1, ⟨n2, n3⟩, n4, n5⟩, m8, m9⟩ := M
  have c : ∀ a, a ≠ 316 → am_up g 316 rs.length v a = g a := fun a ha => p_up_c _ _ _ _ _ ha
  refine ⟨m1.same (fun a ha => c a (by omega)) (fun j hj => by rw [c 254 (by decide)]), fun j hj => by rw [c 311 (by decide)]; exact m2 j hj, ⟨by rw [c 254 (by decide)]; exact m3, by rw [c 254 (by decide)]; exact m4, by rw [c 254 (by decide)]; exact m5, by rw [c 254 (by decide)]; exact m6⟩, ⟨by rw [c 315 (by decide), c 314 (by decide)]; exact n1, ⟨fun z => absurd (by rw [c 264 (by decide)] at z; exact z) h3, fun z => by rw [c 312 (by decide), c 267 (by decide)]; exact n3 h3⟩, by rw [c 312 (by decide), c 268 (by decide)]; exact n4, fun _ => by rw [p_up_s]⟩, SK.fr m8 (fun j _ _ => by rw [c 313 (by decide)]), m9.fr2 (fun a ha => c a (by omega)) B.2 (fun a j ha hj => ?_) (fun j _ => by rw [c 312 (by decide)]) (fun j _ => by rw [c 313 (by decide)])⟩
  rcases ha with rfl | rfl | rfl
  · rw [c 314 (by decide)]
  · rw [c 315 (by decide)]
  · exact p_up_n _ _ _ _ _ _ (Or.inr (by omega))
/-- what a call leaves to be done: the frame stands on both sides, heads of subs are ahead -/
theorem u_head {u k1 nl : Nat} {as' : List Int} {q' : Nat × Nat} {h1 : am_H} {g1 : am_H} {r2 : Nat → Int} {ab2 : Nat} {D0 : Option am_O} (R2 : hrg ((q'.1 : Int), a, dd, r2)) (hq0 : q'.2 = 0) (hi : HI h1 lab fs) (I : IOR ky G h1) (C2 : CU r2 wp w0 ab2 (u, as', List.replicate nl 0, none, [], k + 1) ((s, as, ls, th, st, rk) :: rs) G) (Y : LU h1 lab fs gv 1 q' (hdN g1 u)) (hq : q2 = lfold q' (hdN g1 u)) (M : MU ky g1 k1 G ((u, as', List.replicate nl 0, th2, [], k + 1) :: (s, as, ls, th, st, rk) :: rs)) (B : MB g1 ((u, as', List.replicate nl 0, th2, [], k + 1) :: (s, as, ls, th, st, rk) :: rs)) (hd : rs.length < 39) (so : g1 264 u = 1 ∨ g1 264 u = 2 ∨ g1 264 u = 3) (h262 : g1 264 u = 1 → g1 262 (g1 263 u).toNat ≤ 1000) (hth : th2 = if g1 264 u = 2 then none else some (g1 316 (rs.length + 1))) (h3 : g1 264 u = 3 → as'[0]? = th2)
    (hD : D0 = (if g1 264 u = 1 then am_xI (zS L) (am_D (d + 10) 17 84 [am_r (am_a 254), am_i (if g1 262 (g1 263 u).toNat < 1 then 1 else g1 262 (g1 263 u).toNat)] (zS L, g1)) (am_up1 (zS L)) fun v h8 => some (.inl none, (zS L, am_up h8 316 (rs.length + 1) v)) else pV L g1)) :
    (∃ h2 g2 a2 d2 r3 th3, D0 = pV L g2 ∧ (∀ o, CL L n h2 q2.2 ((q2.1 : Int), a2, d2, r3) o → H3 L n h1 ((q'.1 : Int), a, dd, r2) o) ∧ hrg ((q2.1 : Int), a2, d2, r3) ∧ HI h2 lab fs ∧ (∃ G2, IOR ky G2 h2 ∧ CU r3 wp w0 ab2 (u, as', List.replicate nl 0, th3, [], k + 1) ((s, as, ls, th, st, rk) :: rs) G2 ∧ MU ky g2 k1 G2 ((u, as', List.replicate nl 0, th3, [], k + 1) :: (s, as, ls, th, st, rk) :: rs)) ∧ MB g2 ((u, as', List.replicate nl 0, th3, [], k + 1) :: (s, as, ls, th, st, rk) :: rs) ∧ p_fr ioC ioF h1 h2 ∧ p_fr (316 :: jC) jF g1 g2 ∧ g2 254 100 = g1 254 100) ∨
    (∃ e v G2 hf g2, D0 = pV L g2 ∧ H3 L n h1 ((q'.1 : Int), a, dd, r2) (pI L e hf) ∧ hEnd ky h1 e v G2 hf ∧ MR ky G2 g2 ∧ g2 254 99 = e ∧ 0 ≤ e ∧ g2 254 100 = (if e = 3 then v else g1 254 100) ∧ p_fr (316 :: jC) jF g1 g2 ∧ ∀ k, rg16 (hf 18 k)) := by
  have k4 : ((s, as, ls, th, st, rk) :: rs).length < 40 := by rw [List.length_cons]; omega
  unfold hdN at Y hq
  rcases so with so | so | so
  · -- constructor
    rw [if_neg (by omega), if_pos so] at Y hq
    rw [if_pos so] at hD
    obtain ⟨nf, hnf, hn1⟩ : ∃ nf : Nat, (nf : Int) = (if g1 262 (g1 263 u).toNat < 1 then 1 else g1 262 (g1 263 u).toNat) ∧ nf = (if g1 262 (g1 263 u).toNat ≤ 1 then 1 else g1 262 (g1 263 u).toNat).toNat := by
      refine ⟨_, ?_, rfl⟩
      by_cases z : g1 262 (g1 263 u).toNat ≤ 1
      · rw [if_pos z]
        by_cases z2 : g1 262 (g1 263 u).toNat < 1
        · rw [if_pos z2]; rfl
        · rw [if_neg z2]; omega
      · rw [if_neg z, if_neg (by omega)]; omega
    rw [← hn1] at Y hq
    rw [← hnf] at hD
    have nfb : nf ≤ 1000 := by
      have := h262 so
      rw [hn1]
      by_cases z : g1 262 (g1 263 u).toNat ≤ 1
      · rw [if_pos z]; decide
      · rw [if_neg z]; omega
    have rn : rg16 (nf : Int) := ⟨by omega, by omega⟩
    have e9 : g1 254 99 = -1 := M.2.2.1.2.2.2
    obtain ⟨x0, -, -, v0, -, -, -, -⟩ := j_alloc 7 L M.1 e9 (nf : Int) rn
    obtain ⟨x, g3, rv, v1, r1, J0, j4, -⟩ := j_alloc (d + 8) L M.1 e9 (nf : Int) rn
    have ex : x0 = x := vD_u v0 v1
    subst ex
    obtain ⟨J1, J2, J3, J4⟩ := J0
    rw [r1, p_xI] at hD
    have VV : ∀ K : vL → Option vO, vseq ky (vD ky 9) 360 [(0, 0, nf), (15, 3, 1), (1, 4, 0)] (as', List.replicate nl 0, none, none, [], G) K = v_cl (some x0) fun v G => K (as', List.replicate nl 0, some v, none, [], G) := by
      intro K
      show v_ps 360 [] (nf : Int) (fun st => cond (Nat.ble 1 st.length) (v_cl (vD ky 9 3 (st.take 1).reverse G) fun v G => v_ps 360 (st.drop 1) v fun st => v_p1 st fun v st => K (as', List.replicate nl 0, some v, none, st, G)) none) = _
      rw [v_ps_ok (by decide)]
      show v_cl (vD ky 9 3 [(nf : Int)] G) (fun v G => v_ps 360 [] v fun st => v_p1 st fun v st => K (as', List.replicate nl 0, some v, none, st, G)) = _
      rw [v0]; rfl
    have hl : ∀ l ∈ [((0 : Nat), (0 : Nat), nf), (15, 3, 1), (1, 4, 0)], lin l := by
      intro l hl
      simp only [List.mem_cons, List.not_mem_nil, or_false] at hl
      rcases hl with rfl | rfl | rfl
      · exact Or.inl (Nat.zero_le _)
      · exact Or.inr (Or.inr (Or.inr (Or.inr rfl)))
      · exact Or.inl (by decide)
    obtain ⟨xo, G2⟩ := x0
    cases xo with
    | inl v =>
      have V : VI ky [(0, 0, nf), (15, 3, 1), (1, 4, 0)] (as', List.replicate nl 0, none, none, [], G) (.inl (as', List.replicate nl 0, some v, none, [], G2)) := fun K => VV K
      obtain ⟨p1, -⟩ := c_lin (L := L) (n := n) hl Y hi C2 I R2 (Nat.zero_le _) k4 V
      obtain ⟨h2, a2, d2, r3, o1, o2, o3, o4, o5, o6⟩ := p1 _ rfl
      dsimp only at J1 J2 J4 o3 o4
      have er : rv = v := (j4 v rfl).1
      subst er
      have M3 := M.jo B J1 J2 J3 J4.1
      have B3 : MB g3 ((u, as', List.replicate nl 0, th2, [], k + 1) :: (s, as, ls, th, st, rk) :: rs) := B.fr (fun a ha => by rcases ha with rfl | rfl <;> exact J3.cell _ rfl rfl)
      have M4 := M3.obj B3 (by rw [J3.cell 264 rfl rfl]; omega) rv
      have e22 : q2.2 = 0 := by rw [hq, (LU_lin hl Y).2.2.2.2.2]
      rw [← hq] at o1 o2
      refine Or.inl ⟨h2, am_up g3 316 (rs.length + 1) rv, a2, d2, r3, some rv, hD, fun o Ho => ?_, o2, hi.fr o5, ⟨G2, o4, o3, M4⟩, MB.fr (fun c hc => p_up_c _ _ _ _ _ (by omega)) (fs := (u, as', List.replicate nl 0, th2, [], k + 1) :: (s, as, ls, th, st, rk) :: rs) B3, o5, (J3.mono rfl rfl).upc _ _ _ rfl, by rw [p_up_c _ _ _ _ _ (by decide)]; exact J4.2.1⟩
      rw [e22] at Ho
      have := o1 o Ho
      unfold CL at this
      rw [if_pos hq0] at this
      exact this
    | inr z =>
      have V : VI ky [(0, 0, nf), (15, 3, 1), (1, 4, 0)] (as', List.replicate nl 0, none, none, [], G) (.inr (z, G2)) := fun K => VV K
      obtain ⟨-, p2⟩ := c_lin (L := L) (n := n) hl Y hi C2 I R2 (Nat.zero_le _) k4 V
      obtain ⟨hf, o1, o2, o3⟩ := p2 _ rfl
      dsimp only at J1 J4 o1 o2
      unfold CL at o1
      rw [if_pos hq0] at o1
      refine Or.inr ⟨z.1, z.2, G2, hf, am_up g3 316 (rs.length + 1) rv, hD, o1, o2, ?_, by rw [p_up_c _ _ _ _ _ (by decide)]; exact J4.1, J4.2.1, by rw [p_up_c _ _ _ _ _ (by decide)]; exact J4.2.2, (J3.mono rfl rfl).upc _ _ _ rfl, o3⟩
      exact J1.same (fun a ha => by rw [p_up_c _ _ _ _ _ (by omega)]) (fun j hj => by rw [p_up_c _ _ _ _ _ (by decide)])
  · -- function
    rw [if_neg (by omega), if_neg (by omega)] at Y hq
    rw [if_neg (by omega)] at hD
    rw [if_pos so] at hth
    subst hth
    have hq : q2 = q' := hq
    subst hq
    refine Or.inl ⟨h1, g1, a, dd, r2, none, hD, fun o Ho => ?_, R2, hi, ⟨G, I, C2, M⟩, B, p_fr.refl h1, p_fr.refl g1, rfl⟩
    unfold CL at Ho
    rw [if_pos hq0] at Ho
    exact Ho
  · -- method
    rw [if_pos so] at Y hq
    rw [if_neg (by omega)] at hD
    rw [if_neg (by omega)] at hth
    have h3 := h3 so
    rw [hth] at h3
    have hl : ∀ l ∈ [((0 : Nat), (1 : Nat), (0 : Nat)), (1, 4, 0)], lin l := by
      intro l hl
      simp only [List.mem_cons, List.not_mem_nil, or_false] at hl
      rcases hl with rfl | rfl
      · exact Or.inl (Nat.zero_le _)
      · exact Or.inl (by decide)
    have V : VI ky [(0, 1, 0), (1, 4, 0)] (as', List.replicate nl 0, none, none, [], G) (.inl (as', List.replicate nl 0, some (g1 316 (rs.length + 1)), none, [], G)) := by
      intro K
      show v_at as' 0 (fun v => v_ps 360 [] v fun st => v_p1 st fun v st => K (as', List.replicate nl 0, some v, none, st, G)) = _
      rw [v_at_ok h3, v_ps_ok (by decide)]; rfl
    obtain ⟨p1, -⟩ := c_lin (L := L) (n := n) hl Y hi C2 I R2 (Nat.zero_le _) k4 V
    obtain ⟨h2, a2, d2, r3, o1, o2, o3, o4, o5, o6⟩ := p1 _ rfl
    dsimp only at o3 o4
    have e22 : q2.2 = 0 := by rw [hq, (LU_lin hl Y).2.2.2.2.2]
    rw [← hq] at o1 o2
    rw [hth] at M B
    refine Or.inl ⟨h2, g1, a2, d2, r3, _, hD, fun o Ho => ?_, o2, hi.fr o5, ⟨G, o4, o3, M⟩, B, o5, p_fr.refl g1, rfl⟩
    rw [e22] at Ho
    have := o1 o Ho
    unfold CL at this
    rw [if_pos hq0] at this
    exact this
end
