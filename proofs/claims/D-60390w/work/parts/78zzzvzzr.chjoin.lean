/-! CHIPS, 70: chips() of both sides -/
section
variable {d e L : Nat} {K V P : Nat → Int} {W : Nat → List Int} {Z : Nat} {chs : List cCh} {ch : cCh} {c n : Nat} {h h1 h2 h10 h11 n1 n3 : am_H}
theorem ch_fin (J : cjR h h1) (F : p_fr chC chF h1 h2) (z : h2 254 1 = 0) (lo : ∀ c k, c < 254 → h2 c k = h1 c k) (A : CA h2) : p_fr chC chF h h2 ∧ pt_R h2 ∧ CHS h2 := by
  obtain ⟨j1, j2, j3, j4, N, j5, j6⟩ := J
  have e12 : h2 1 2 = 0 := by rw [lo 1 2 (by decide)]; exact j2
  exact ⟨j1.trans F, ⟨by rw [e12, z], by omega, by omega, fun k hk => by omega⟩, j4.fc F, A, N, j5.next (lo 74 3 (by decide)) (lo 74 4 (by decide)) (funext fun k => lo 75 k (by decide)) (funext fun k => lo 76 k (by decide)) (funext fun k => lo 77 k (by decide)), j6⟩
/-- a fault on both sides -/
theorem ch_flt (J : cjR h h1) (b : h1 1 24 = 0) (M : mjR h1 h2) (p : h1 1 3 = h2 254 4) : p_fr chC chF h h2 ∧ pt_R h2 ∧ CHS h2 ∧ BR h2 ∧ h2 1 3 = h2 254 4 := by
  obtain ⟨m1, m2, m3, m4, m5, m6⟩ := M
  obtain ⟨q1, q2, q3⟩ := ch_fin J m1 m2 m3 m4
  have b2 : h2 1 24 = 0 := by rw [m3 1 24 (by decide)]; exact b
  exact ⟨q1, q2, q3, ⟨m5, by rw [b2, m6], Or.inl b2⟩, by rw [m3 1 3 (by decide)]; exact p⟩
/-- the board stands -/
theorem ch_bx (Y : kY K V Z chs) (LK : kL K V chs) (hin : ∀ ch ∈ chs, ch.2.2.1 < ch.2.1.length) (hcn : c + 1 = chs.length) (hc : chs[c]? = some ch) (hs : gAll V chs c ≤ 1500 ∧ bAll K V chs c ≤ 40000) (N : NET K V P Z chs ch c n1) (f3 : p_fr [197, 198, 199, 202, 203, 204, 205] [(195, 15), (195, 16)] n1 n3) (Q : mQ K V P W Z chs h10) (e174 : h10 254 174 = (c : Int)) (e69 : h10 254 69 = 0) (en : h10 254 3 = (n : Int)) (fb : p_fr mbC mbF h10 h11) (MNn : MN K V chs (h11 355) (h11 356) (h11 357) (h11 358) 16 c 0 (ownx K V chs ch) 0) (FI : ∀ x, x < inb V ch → h11 355 x = -1) (e158 : h11 254 158 = ((bAll K V chs c : Nat) : Int)) (e161 : h11 254 161 = ((gAll V chs c : Nat) : Int)) {v : Int} (hv : v = 0 ∨ v = 1)
    (CS : ∀ (o ra rb : Nat → Nat), cGt (gAll V chs c) (2 + bAll K V chs c) (n1 196) (n1 198) (n1 199) (n1 200) (n1 201) o ra rb → ∃ ord lev, OD (gAll V chs c) (fun i => n1 201 i = 0) (fun i => pOf (gAll V chs c) (fun i => n1 201 i = 0) o (ra i)) (fun i => pOf (gAll V chs c) (fun i => n1 201 i = 0) o (rb i)) ord lev ∧ CLO (gAll V chs c) (fun i => n1 201 i = 0) (fun i => pOf (gAll V chs c) (fun i => n1 201 i = 0) o (ra i)) (fun i => pOf (gAll V chs c) (fun i => n1 201 i = 0) o (rb i)) lev ∧ (v = 1 ↔ ord.length = cz (n1 201) (gAll V chs c)) ∧ (v = 1 → (n3 195 15 = (ord.length : Int) ∧ ∀ (t i : Nat), ord[t]? = some i → n3 203 t = (i : Int)) ∧ (∀ i, i < gAll V chs c → n3 198 i = (ra i : Int) ∧ n3 199 i = (rb i : Int)) ∧ MXL ord lev (n3 195 16) ∧ n3 197 = stl o (fC ra rb) ord (n1 197)))
    (u1 u3 u4 u5 u6 : Option am_V) : ∃ h2, (am_xV (zS L) (am_E (am_D (e + 7)) m_17_177 (.inl 8) [some (am_r (am_a 254)), u1, some (am_i 0), u3, u4, u5, u6] [] (zS L, h11)) (am_up1 (zS L)) fun h6 => am_E (am_D (e + 8)) m_17_183 (.inl 8) [some (am_r (am_a 254)), some (am_i (n : Int)), some (am_i 1)] [] (zS L, h6)) = pI L (if v = 1 then 0 else 6) h2 ∧ p_fr [359, 360, 361, 362, 363] [(254, 4), (254, 69), (254, 70), (254, 152), (254, 166), (254, 173)] h11 h2 ∧ (v = 0 → h2 254 4 = (n : Int) ∧ h2 254 152 = h11 254 152) ∧ (v = 1 → h2 254 4 = -1 ∧ h2 254 152 = 1 ∧ ((∀ a k, 53 ≤ a → a ≤ 209 → h11 a k = n3 a k) → h11 36 6 = n3 36 6 → BX h2)) := by
  have hcl := (List.getElem?_eq_some_iff.1 hc).1
  have hcm := List.mem_of_getElem? hc
  have l16 := Q.2.1.2
  obtain ⟨⟨Zn, w3, gc, e18, e17⟩, CNn, ⟨S0, S1, SI⟩, ⟨V1, V0, VZ⟩, F206⟩ := N
  obtain ⟨o, ra, rb, oM, sa, sb, R, zc, zm, PBn, cG, mG, OUT, oMe, zce, zme⟩ := pb_mk Y LK hin hc hs.1 hs.2 CNn S0 S1 SI MNn FI
  obtain ⟨ord, lev, O, C, vq, CS1⟩ := CS o ra rb cG
  have PBo := PBn
  obtain ⟨⟨pg, pB, pib⟩, P2, ⟨t1, t2, un1, un2⟩, P4, P5, P6, P7, P8, P9⟩ := PBn
  have rin : ∀ {r : Nat} {s : Int}, rrx (inb V ch) o oM R zc zm r s → inp (gAll V chs c) (h11 356) s ∧ s < ((bAll K V chs c : Nat) : Int) := fun {r s} H => by
    rcases H with ⟨-, rfl⟩ | ⟨x, x1, -, rfl⟩ | ⟨-, y, rfl, z⟩ | ⟨i, j, g, -, rfl⟩
    · exact ⟨⟨by omega, fun z => by omega⟩, by omega⟩
    · exact ⟨⟨by omega, fun _ => by rw [Int.toNat_natCast, P9 x x1]; omega⟩, by omega⟩
    · obtain ⟨z1, z2, z3⟩ := P8 y z
      exact ⟨⟨by omega, fun _ => by rw [Int.toNat_natCast, z3]; omega⟩, by omega⟩
    · have jg := (P2 i j g).1.2.1
      obtain ⟨z1, z2, z3⟩ := P5 j jg
      exact ⟨⟨by omega, fun _ => by rw [Int.toNat_natCast, z3]; omega⟩, by omega⟩
  have sin : ∀ j, j < gAll V chs c → (inp (gAll V chs c) (h11 356) (sa j) ∧ inp (gAll V chs c) (h11 356) (sb j)) ∧ sa j < ((bAll K V chs c : Nat) : Int) ∧ sb j < ((bAll K V chs c : Nat) : Int) := fun j hj => by
    obtain ⟨i, r⟩ := t2 j hj
    obtain ⟨-, a1, a2, a3⟩ := P2 i j r
    obtain ⟨x1, x2⟩ := rin a1
    by_cases z : n1 201 i = 0
    · obtain ⟨y1, y2⟩ := rin (a2 z)
      exact ⟨⟨x1, y1⟩, x2, y2⟩
    · rw [a3 z]
      exact ⟨⟨x1, by omega, fun z => by omega⟩, x2, by omega⟩
  have oMI : ∀ j, j < gAll V chs c → h11 358 j + (if h11 357 j = 0 then 2 else 1) = (oM j : Int) := fun j hj => by
    obtain ⟨-, y, y1, -⟩ := mG.2 j hj
    have := oMe j hj
    rw [this, y1, Int.toNat_natCast]
    by_cases z : h11 357 j = 0
    · rw [if_pos z, if_pos z]; omega
    · rw [if_neg z, if_neg z]; omega
  obtain ⟨ord', lev', O', C', alt⟩ := mj_b (e := e) (L := L) (h := h11) (n := n) (oM := oM) hs.2 mG rfl rfl rfl rfl e158 e161 (by rw [fb 254 69 rfl rfl]; exact e69) (by rw [fb 254 3 rfl rfl]; exact en) sin (fun j hj z => by
    have := oMI j hj
    rw [if_pos z] at this
    exact ⟨this, (P5 j hj).2.1⟩) u1 u3 u4 u5 u6
  have LV := pb_lev PBo O C O' C'
  obtain ⟨mem, len, czq⟩ := pb_ord PBo O O' LV
  rcases alt with ⟨c1, h2, M, r2, z2, m363, m36, m16, ⟨k4, k152, k173⟩, f2⟩ | ⟨c1, h2, r2, k4, f2⟩
  · have v1 : v = 1 := vq.2 (by rw [len, c1, czq])
    rw [if_pos v1]
    refine ⟨h2, r2, f2.mono rfl rfl, fun z => by omega, fun _ => ⟨k4, k152, fun low l36 => ?_⟩⟩
    obtain ⟨⟨q15, q203⟩, qab, qmx, q197⟩ := CS1 v1
    have lo2 : ∀ a k, 53 ≤ a → a ≤ 209 → h2 a k = n3 a k := fun a k h1 h2' => by rw [f2 a k (by simp; omega) (by simp; omega)]; exact low a k h1 h2'
    have lc2 : ∀ a, 53 ≤ a → a ≤ 209 → h2 a = n3 a := fun a h1 h2' => funext fun k => lo2 a k h1 h2'
    have e201 : h2 201 = n1 201 := by rw [lc2 201 (by decide) (by decide), f3.cell 201 rfl rfl]
    have e356 : h2 356 = h11 356 := f2.cell 356 rfl rfl
    have e357 : h2 357 = h11 357 := f2.cell 357 rfl rfl
    have e358 : h2 358 = h11 358 := f2.cell 358 rfl rfl
    have e355 : h2 355 = h11 355 := f2.cell 355 rfl rfl
    have e196 : h2 196 = n1 196 := by rw [lc2 196 (by decide) (by decide), f3.cell 196 rfl rfl]
    have lenc : (ord.length : Int) = n1 195 10 := by rw [gc.2.1, vq.1 v1]
    obtain ⟨me1, me2⟩ := mO_end (K := K) Y.1 hin hc (fun q hq => (Y.2.1 ch hcm q hq).2)
    have io := inb_own (K := K) (V := V) (chs := chs) (hin ch hcm)
    have wa := wfl_all (V := V) ch
    have wl : (cWs V ch).length = ch.2.1.length := by unfold cWs; rw [List.length_map]
    obtain ⟨⟨kg1, kg2⟩, kg3, -⟩ := Zn.1.2.1
    have kw := Zn.1.2.2 (2 + c) (by omega)
    obtain ⟨kn1, kn2, kn3⟩ := kNm_c (V := V) (chs := chs) hc
    obtain ⟨⟨ka1, ka1'⟩, ka2, -⟩ := kg3 (2 + c) (by omega)
    rw [kb_c, kn1] at ka1
    rw [kb_c, kn3] at ka2
    rw [kb_c, kn2] at kw
    have nl : (cNm V ch).length = ch.2.1.length := by unfold cNm; rw [List.length_map]
    have oPn := oP_n hc
    have oPl : oP chs (c + 1) ≤ (aP chs).length := flat_le _ chs (c + 1)
    have ms := Q.2.2.1.1
    have fm : p_fr (mbC ++ [359, 360, 361, 362, 363]) (mbF ++ [(254, 4), (254, 152), (254, 166), (254, 173)]) h10 h2 := (fb.mono rfl rfl).trans (f2.mono rfl rfl)
    have wg : ∀ k, k < ch.2.1.length → (cWs V ch)[k]? = some ((cWs V ch).getD k 1) := fun k hk => by
      rw [List.getD_eq_getElem?_getD, List.getElem?_eq_getElem (by omega)]; rfl
    have cell : ∀ a k, 53 ≤ a → a ≤ 196 → a ≠ 195 → h2 a k = n1 a k := fun a k h1 h2' h3 => by rw [lo2 a k h1 (by omega), f3 a k (by simp; omega) (by simp; omega)]
    refine ⟨c, ch.2.1.length, ch.2.2.1, oP chs c, gAll V chs c, bAll K V chs c, inb V ch, cWs V ch, o, ra, rb, oM, sa, sb, lev, lev', R, zc, zm, ord, ord', ⟨⟨⟨by omega, ⟨wl, (Y.2.2.2.1 ch hcm).1, hin ch hcm⟩, by omega, fun w hw => ?_, rfl, by omega⟩, ⟨?_, ?_, ?_, fun k hk => ⟨?_, ?_⟩⟩, ?_, ?_, ?_, fun k hk => ?_⟩, ?_, fun i hi => ⟨?_, ?_, ?_⟩, fun j hj => ⟨?_, ?_, ?_, ?_⟩, ⟨?_, ?_, LV⟩, ⟨⟨?_, fun t i ht => ?_⟩, ?_, fun t i ht => ?_⟩, ⟨?_, ?_, ?_, ?_, ?_⟩, ?_, fun x hx1 hx2 => ?_⟩, ?_, ?_⟩
    · unfold cWs at hw
      obtain ⟨p, -, rfl⟩ := List.mem_map.1 hw
      exact c_w_rg V p.2
    · rw [lo2 195 18 (by decide) (by decide), f3 195 18 rfl rfl]; exact e18
    · rw [cell _ _ (by omega) (by omega) (by omega), ka1, nl]
    · rw [cell _ _ (by omega) (by omega) (by omega)]; exact ka2
    · rw [cell _ _ (by omega) (by omega) (by omega)]; exact kw k _ (wg k hk)
    · rw [lo2 206 k (by decide) (by decide), f3.cell 206 rfl rfl]; exact F206 k hk
    · rw [fm 254 174 rfl rfl]; exact e174
    · rw [fm.cell 329 rfl rfl]; exact (Q.2.2.2.2.1 c (by omega)).1
    · rw [fm.cell 329 rfl rfl, (Q.2.2.2.2.1 (c + 1) (by omega)).1, oPn]
    · obtain ⟨p, hp⟩ : ∃ p, ch.2.1[k]? = some p := ⟨_, List.getElem?_eq_getElem hk⟩
      obtain ⟨-, -, q3, q4⟩ := Q.2.2.2.2.2.1 c ch hc k p hp
      rw [fm.cell 330 rfl rfl, fm.cell 332 rfl rfl]
      refine ⟨q3, ?_⟩
      rw [q4]
      have := wg k hk
      unfold cWs at this ⊢
      rw [List.getElem?_map, hp] at this
      exact Option.some.inj this
    · rw [e201, e356, e357]; exact PBo
    · rw [lc2 198 (by decide) (by decide)]; exact (qab i hi).1
    · rw [lc2 199 (by decide) (by decide)]; exact (qab i hi).2
    · rw [lc2 200 (by decide) (by decide), f3.cell 200 rfl rfl]; exact (cG.2.1 i hi).1.1
    · exact (m36 j hj).1
    · exact (m36 j hj).2.1
    · rw [e358, e357]; exact oMI j hj
    · exact (m36 j hj).2.2
    · rw [e201]; exact O
    · rw [e356, e357]; exact O'
    · rw [lo2 195 15 (by decide) (by decide)]; exact q15
    · rw [lo2 203 t (by decide) (by decide)]; exact q203 t i ht
    · exact m16.1
    · exact m16.2 t i ht
    · rw [lo2 195 9 (by decide) (by decide), f3 195 9 rfl rfl]; exact gc.1
    · rw [f2 254 161 rfl rfl]; exact e161
    · rw [lo2 195 10 (by decide) (by decide), f3 195 10 rfl rfl]; exact lenc.symm
    · rw [lo2 195 11 (by decide) (by decide), f3 195 11 rfl rfl, lenc]; exact gc.2.2
    · rw [f2 36 6 rfl rfl, l36, f3 36 6 rfl rfl, kg1, fm 254 122 rfl rfl, Q.2.1.1]
    · rw [lo2 195 16 (by decide) (by decide)]; exact qmx
    · rw [e196, e355, e356]
      exact OUT x hx1 (by omega)
    · rw [lc2 197 (by decide) (by decide), q197, m363]
      refine pb_set PBo O O' mem ⟨⟨V0, V1, fun x hx => ?_⟩, fun i j r => ?_, fun r z => ?_, fun y z => ?_, fun r hr => ?_, fun y hy => Or.inl (z2 y hy)⟩
      · rw [VZ (2 + x) (by omega) (by omega), z2 x (by omega)]
      · obtain ⟨⟨i1, j1, -⟩, -⟩ := P2 i j r
        have := P4 i i1
        have := P5 j j1
        rw [VZ (o i) (by omega) (by omega), z2 (oM j) (by omega)]
      · rcases P7 r z with z' | z'
        · rw [z']; exact V0
        · exact VZ r (by omega) (by omega)
      · exact z2 y (P8 y z).2.1
      · rcases (show r = 0 ∨ r = 1 ∨ 2 ≤ r by omega) with z | z | z
        · rw [z]; exact Or.inl V0
        · rw [z]; exact Or.inr V1
        · exact Or.inl (VZ r z hr)
    · rw [lo2 195 17 (by decide) (by decide), f3 195 17 rfl rfl, e17, k173]
  · have v0 : v ≠ 1 := fun z => c1 (by rw [← len, vq.1 z, czq])
    rw [if_neg v0]
    exact ⟨h2, r2, f2.mono rfl rfl, fun _ => ⟨k4, f2 254 152 rfl rfl⟩, fun z => absurd z v0⟩
/-- chips() -/
theorem ch_join (R : pt_R h) (S : CHS h) (B : 0 ≤ h 254 174 ∧ h 254 174 ≤ 15) (x : Int) : ∃ r h1 h2, am_D (d + 23) 0 17 [am_r (am_a 1), am_i x] (zS L, h) = pI L r h1 ∧ am_D (e + 9) 17 183 [am_r (am_a 254), am_i x] (zS L, h1) = pI L r h2 ∧ p_fr chC chF h h2 ∧ pt_R h2 ∧ CHS h2 ∧ ((r = -1 ∧ h2 = h) ∨ (BR h2 ∧ h2 1 3 = h2 254 4)) := by
  obtain ⟨T1, T2, T3, T4⟩ := R
  by_cases cx : x < 0 ∨ h 1 2 < x
  · refine ⟨-1, h, h, ?_, ?_, p_fr.refl h, ⟨T1, T2, T3, T4⟩, S, Or.inl ⟨rfl, rfl⟩⟩
    · rw [D_0_17]
      by_cases z : x < 0
      · rw [if_pos z]
      · rw [if_neg z, if_pos (by omega)]
    · rw [D_17_183, D_17_3]
      by_cases z : x < 0
      · rw [if_pos z, p_bit0]
        show am_xI (zS L) (pI L 0 h) _ _ = _
        rw [p_xI, if_pos rfl]
      · rw [if_neg z, if_pos (by omega), p_bit0]
        show am_xI (zS L) (pI L 0 h) _ _ = _
        rw [p_xI, if_pos rfl]
  obtain ⟨n, rfl⟩ : ∃ n : Nat, x = (n : Int) := ⟨x.toNat, by omega⟩
  have hn : n ≤ 4000 := by omega
  have tr : ∀ k, k < n → (-128 ≤ h 2 k ∧ h 2 k ≤ 127) ∧ h 2 k % 256 = h 255 k := fun k hk => T4 k (by omega)
  have t255 : ∀ k, k < n → 0 ≤ h 255 k ∧ h 255 k ≤ 255 := fun k hk => by have := (tr k hk).2; omega
  obtain ⟨K, V, P, W, Z, tkc, tkm, WD, hP, hv, k0⟩ := tk_R (n := n) (h 255) hn
  have T : cT K Z := by
    obtain ⟨b, -, Rb, -⟩ := mj_pre (e := 0) (L := L) (h := h) t255 hn (by omega) S.2.1 B tkm
    exact Rb.1
  have CJ := cj_c (d := d) (L := L) (h := h) tr hn (by omega) S tkc k0 hv T
  have MJ := fun (h1 : am_H) (J : cjR h h1) => mj_m (e := e) (L := L) (n := n) (h := h1) (K := K) (V := V) (P := P) (W := W) (Z := Z) (fun k hk => by rw [J.2.2.1 255 k (by decide)]; exact t255 k hk) hn (by rw [J.2.2.1 254 1 (by decide)]; omega) (fun c hc => by rw [J.2.2.1 353 c (by decide), J.2.2.1 354 c (by decide)]; exact S.2.1 c hc) (by rw [J.2.2.1 254 174 (by decide)]; exact B) (by rw [show h1 255 = h 255 from funext fun k => J.2.2.1 255 k (by decide)]; exact tkm) WD hP hv T
  cases hx : c_chs K V (Z + 1) (Z + 1) [] 0 with
  | inl e' =>
    rw [hx] at CJ
    dsimp only at CJ
    obtain ⟨h1, r1, p1, b1, J1⟩ := CJ
    have M := MJ h1 J1
    rw [hx] at M
    dsimp only at M
    obtain ⟨h2, r2, p2, J2⟩ := M
    obtain ⟨q1, q2, q3, q4⟩ := ch_flt J1 b1 J2 (by rw [p1, p2])
    exact ⟨e'.1, h1, h2, r1, r2, q1, q2, q3, Or.inr q4⟩
  | inr chs =>
    rw [hx] at CJ
    dsimp only at CJ
    cases hk : cksS K V chs chs 0 with
    | some e' =>
      rw [hk] at CJ
      dsimp only at CJ
      obtain ⟨h1, r1, p1, b1, J1⟩ := CJ
      have M := MJ h1 J1
      rw [hx] at M
      dsimp only at M
      rw [hk] at M
      dsimp only at M
      obtain ⟨h2, r2, p2, J2⟩ := M
      obtain ⟨q1, q2, q3, q4⟩ := ch_flt J1 b1 J2 (by rw [p1, p2])
      exact ⟨e'.1, h1, h2, r1, r2, q1, q2, q3, Or.inr q4⟩
    | none =>
      rw [hk] at CJ
      dsimp only at CJ
      have MK : ∀ (h1 : am_H), cjR h h1 → _ := fun h1 J => by
        have M := MJ h1 J
        rw [hx] at M
        dsimp only at M
        rw [hk] at M
        dsimp only at M
        exact M
      rcases CJ with ⟨c, ch, h1, w1, w2, w3, r1, p1, b1, J1⟩ | ⟨w1, hz, Zz, z3, Jz, rz⟩
      · rcases MK h1 J1 with ⟨c', ch', h2, y1, y2, y3, r2, p2, J2⟩ | ⟨y1, -⟩
        · have ec : c = c' := by
            rcases Nat.lt_trichotomy c c' with z | z | z
            · exact absurd w2 (y3 c z)
            · exact z
            · exact absurd y2 (w3 c' z)
          subst ec
          rw [w1] at y1
          injection y1 with y1
          subst y1
          obtain ⟨q1, q2, q3, q4⟩ := ch_flt J1 b1 J2 (by rw [p1, p2])
          exact ⟨6, h1, h2, r1, r2, q1, q2, q3, Or.inr q4⟩
        · exact absurd w2 (y1 c (List.getElem?_eq_some_iff.1 w1).1)
      · obtain ⟨e0, ct1, ct2, ⟨l1, l2⟩, E, CT, hin⟩ := ch_read T hv (show Z < Z + 1 by omega) hx
        obtain ⟨Y, LK⟩ := ch_ckd E CT l1 l2 hk w1
        have hin' : ∀ ch ∈ chs, ch.2.2.1 < ch.2.1.length := fun ch hch => (hin ch hch).2
        have MK2 := fun (h1 : am_H) (J : cjR h h1) => ((MK h1 J).resolve_left (fun ⟨c, _, _, y1, y2, _⟩ => absurd y2 (w1 c (List.getElem?_eq_some_iff.1 y1).1))).2
        obtain ⟨c, ch, hc, hcn, alt⟩ := MK2 hz Jz
        have hcm := List.mem_of_getElem? hc
        -- frames of the component's tail
        have tail : ∀ (nz : am_H) (u : am_H), p_fr (mkC ++ []) mkF hz nz → p_fr [] [(1, 3), (1, 24)] nz u → cjR h u := fun nz u f1 f2 => by
          have f3 : p_fr mkC (mkF ++ [(1, 3), (1, 24)]) hz u := (f1.mono rfl rfl).trans (f2.mono rfl rfl)
          refine Jz.step (f3.mono rfl rfl) (fun k => ⟨f3 1 2 rfl rfl, fun c hc => f3 c k (by unfold mkC; simp; omega) (by unfold mkF; simp; omega), f3 74 k rfl rfl, f3 75 k rfl rfl, f3 76 k rfl rfl, f3 77 k rfl rfl⟩)
        rcases alt with ⟨ns, -⟩ | ⟨hs, g10, -, gQ, gI, g69, g174, g3, -⟩
        · rcases cb_make (d := d) (L := L) Y E CT LK hin' hcn hc Zz with ⟨-, nz, r, f⟩ | ⟨z, -⟩
          · obtain ⟨h1, e1⟩ : ∃ h1, h1 = am_up (am_up nz 1 24 0) 1 3 (n : Int) := ⟨_, rfl⟩
            have f1 : p_fr [] [(1, 3), (1, 24)] nz h1 := by rw [e1]; exact ((p_fr.refl nz).upf _ _ _ rfl).upf _ _ _ rfl
            have J1 := tail nz h1 (f.mono rfl rfl) f1
            rw [r, p_xI, p_bit0, if_pos rfl, ← e1] at rz
            obtain ⟨c', ch', hc', hcn', alt'⟩ := MK2 h1 J1
            have ec : c = c' := by omega
            subst ec
            rcases alt' with ⟨-, h2, r2, p2, J2⟩ | ⟨z, -⟩
            · obtain ⟨q1, q2, q3, q4⟩ := ch_flt J1 (by rw [e1]; simp [p_up]) J2 (by rw [p2, e1, p_up_s])
              exact ⟨6, h1, h2, rz, r2, q1, q2, q3, Or.inr q4⟩
            · exact absurd z ns
          · exact absurd z ns
        · obtain ⟨n1, v, n3, N, f13, rv, hv01, fn3, CS⟩ := cj_b (d := d) (L := L) Y E CT LK hin' hcn hc Zz hs (fun S A B O D CNn S0 S1 SI => by
            obtain ⟨g11, -, -, -, -, -, -, MNn, FI, -⟩ := mb_bld (d := 0) (L := L) (P := P) E WD CT Y LK hin hc hs.1 hs.2 gQ gI g174
            obtain ⟨o, ra, rb, -, -, -, -, -, -, -, cG, -⟩ := pb_mk Y LK hin' hc hs.1 hs.2 CNn S0 S1 SI MNn FI
            exact ⟨o, ra, rb, cG⟩)
          obtain ⟨h1, e1⟩ : ∃ h1, h1 = if v = 0 then am_up (am_up n3 1 24 0) 1 3 (n : Int) else am_up n3 1 24 1 := ⟨_, rfl⟩
          have f1 : p_fr [] [(1, 3), (1, 24)] n3 h1 := by
            rw [e1]
            split
            · exact ((p_fr.refl n3).upf _ _ _ rfl).upf _ _ _ rfl
            · exact (p_fr.refl n3).upf _ _ _ rfl
          have fz3 : p_fr (mkC ++ []) mkF hz n3 := (f13.mono rfl rfl).trans (fn3.mono rfl rfl)
          have J1 := tail n3 h1 fz3 f1
          have rc : am_D (d + 23) 0 17 [am_r (am_a 1), am_i (n : Int)] (zS L, h) = pI L (if v = 1 then 0 else 6) h1 := by
            rw [rz, rv, p_xI]
            rcases hv01 with z | z
            · rw [e1, z, p_bit0, if_pos rfl, if_pos rfl, if_neg (by decide)]
            · rw [e1, z, p_bit1, if_neg (by decide), if_pos rfl, if_neg (by decide)]
          obtain ⟨c', ch', hc', hcn', alt'⟩ := MK2 h1 J1
          have ec : c = c' := by omega
          subst ec
          rw [hc] at hc'
          injection hc' with hc'
          subst hc'
          rcases alt' with ⟨z, -⟩ | ⟨-, h10, r10, Q10, I10, k69, k174, k3, J10⟩
          · exact absurd hs z
          obtain ⟨h11, u1, u3, u4, u5, u6, r11, MNn, FI, ⟨k158, k161⟩, fb⟩ := mb_bld (d := e + 2) (L := L) (P := P) E WD CT Y LK hin hc hs.1 hs.2 Q10 I10 k174
          have r11' : am_D (e + 8) 17 177 [am_r (am_a 254)] (zS L, h10) = am_E (am_D (e + 7)) m_17_177 (.inl 8) [some (am_r (am_a 254)), u1, some (am_i 0), u3, u4, u5, u6] [] (zS L, h11) := r11
          obtain ⟨h2, r2, f2, v0, v1⟩ := ch_bx (e := e) (L := L) Y LK hin' hcn hc hs N fn3 Q10 k174 k69 k3 fb MNn FI k158 k161 hv01 CS u1 u3 u4 u5 u6
          rw [r11', r2] at r10
          have J11 : mjR h1 h11 := J10.step fb rfl rfl
          obtain ⟨j1, j2, j3, j4, j5, j6⟩ := J11
          have lo : ∀ c k, c < 254 → h2 c k = h1 c k := fun c k hc => by
            rw [f2 c k (by simp; omega) (by simp; omega)]; exact j3 c k hc
          obtain ⟨q1, q2, q3⟩ := ch_fin J1 (j1.trans (f2.mono rfl rfl)) (by rw [f2 254 1 rfl rfl]; exact j2) lo (fun c hc => by rw [f2.cell 353 rfl rfl, f2.cell 354 rfl rfl]; exact j4 c hc)
          refine ⟨_, h1, h2, rc, r10, q1, q2, q3, Or.inr ⟨⟨by rw [f2 254 174 rfl rfl]; exact j5, ?_, ?_⟩, ?_⟩⟩
          · rw [lo 1 24 (by decide)]
            rcases hv01 with z | z
            · rw [(v0 z).2, j6, e1, if_pos z]; simp [p_up]
            · rw [(v1 z).2.1, e1, if_neg (by omega), p_up_s]
          · rw [lo 1 24 (by decide)]
            rcases hv01 with z | z
            · left; rw [e1, if_pos z]; simp [p_up]
            · right
              refine ⟨by rw [e1, if_neg (by omega), p_up_s], (v1 z).2.2 (fun a k ha hb => ?_) ?_⟩
              · rw [j3 a k (by omega), f1 a k rfl (by simp; omega)]
              · rw [j3 36 6 (by decide), f1 36 6 rfl rfl]
          · rw [lo 1 3 (by decide)]
            rcases hv01 with z | z
            · rw [(v0 z).1, e1, if_pos z, p_up_s]
            · rw [(v1 z).1, e1, if_neg (by omega), p_up_n _ _ _ _ _ _ (Or.inr (by decide)), fz3 1 3 rfl rfl]; exact z3
end
