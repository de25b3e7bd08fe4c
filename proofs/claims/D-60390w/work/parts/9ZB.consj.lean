/-! CONSTRUCTORS, 20: the component's constructor -/
def koB4 : List am_A := ((m_0_1.getD 4 (false, [])).2).drop 8
set_option maxRecDepth 100000 in
theorem q_c4a (Γ : am_G) (L : Nat) (h : am_H) (n : Int) (u1 u2 u4 u5 : Option am_V) : am_E Γ m_0_1 (.inl 4) [some (am_r (am_a 1)), u1, u2, some (am_i n), u4, u5] [] (koZ L koT3, h) = am_xI (koZ L koT3) (Γ 7 26 [am_r (am_a 212), am_i n, am_i 1] (koZ L koT3, h)) (am_up1 (koZ L koT3)) fun _ h1 => am_cV (Γ 0 2 [am_r (am_a 1)] (koZ L koT3, h1)) am_up0 fun σ => am_E Γ m_0_1 (.inr koB4) [some (am_r (am_a 1)), u1, u2, some (am_i n), u4, u5] [] σ := by
  rw [am_cut Γ m_0_1 8 4]
  rfl
set_option maxRecDepth 100000 in
theorem q_c4b (Γ : am_G) (L : Nat) (h : am_H) (u1 u2 u3 u4 u5 : Option am_V) : am_E Γ m_0_1 (.inr koB4) [some (am_r (am_a 1)), u1, u2, u3, u4, u5] [] (koZ L koT4, h) = am_xV (koZ L koT4) (Γ 14 16 [am_r (am_a 12)] (koZ L koT4, h)) (am_up1 (koZ L koT4)) fun h1 => am_xV (koZ L koT4) (Γ 14 29 [am_r (am_a 12), am_r (am_a 8), am_i 0, am_r (am_a 217), am_i 0] (koZ L koT4, h1)) (am_up1 (koZ L koT4)) fun h2 => some (.inl none, (koZ L koT4, am_up (am_up (am_up (am_up h2 1 4 (h2 8 3)) 1 7 (h2 8 4)) 1 5 (h2 12 3)) 1 6 (h2 4 3))) := by
  rw [← am_unr_E Γ m_0_1 60]
  rfl
set_option maxRecDepth 100000 in
theorem ko_z3 : ((List.range' 213 26 ++ [8, 9, 10, 11, 12, 13, 14, 15, 16, 241, 242, 243]).all fun c => decide (koF koW3 c = some [])) = true := by decide +kernel
def row212 : Bool := match koF koW3 212 with
  | some l => ((List.range 36).all fun k => decide (alk l k = syRow.getD k 0)) && (l.all fun e => Nat.blt e.1 36)
  | none => false
set_option maxRecDepth 100000 in
theorem ko_r212 : row212 = true := by decide +kernel
set_option maxRecDepth 100000 in
theorem ko_nm3 : koR koW3 4 3 = some 35 ∧ koR koW3 4 4 = some (pn_used syN1 : Int) ∧ syN1.length = 35 ∧ ((List.range 35).all fun i => decide (koR koW3 6 i = some (pn_pos syN1 i : Int)) && decide (koR koW3 7 i = some (((syN1.getD i []).length : Nat) : Int)) && ((List.range (syN1.getD i []).length).all fun j => decide (koR koW3 5 (pn_pos syN1 i + j) = some ((syN1.getD i []).getD j 0)))) = true := by decide +kernel
theorem ko_nNc : ([4, 5, 6, 7, 8, 9, 10, 11, 12, 13, 14, 15, 16, 212, 213, 214, 215, 216, 217, 218, 219, 220, 221].all (koN koWN)) = true := by decide +kernel
theorem ko_nGc : ([4, 5, 6, 7, 8, 9, 10, 11, 212, 213, 214, 217, 218, 219, 220, 221].all (koN koWG)) = true := by decide +kernel
set_option maxRecDepth 100000 in
theorem sy_eg : ((List.range 49).all fun s => decide (tz sT2 221 s + (if tz sT2 220 s = 3 then 1 else 0) = (gvS s : Int))) = true ∧ tz sT2 8 3 = 1572 ∧ (syCd.all fun e => decide (0 ≤ e.1) && decide (0 ≤ e.2.1) && decide (0 ≤ e.2.2)) = true := by decide +kernel
theorem alk_out {n : Nat} : ∀ {l : List (Nat × Int)}, (l.all fun e => Nat.blt e.1 n) = true → ∀ k, n ≤ k → alk l k = 0
  | [], _, _, _ => rfl
  | (j, v) :: l, h, k, hk => by
    rw [List.all_cons, Bool.and_eq_true, Nat.blt_eq] at h
    show (if k = j then v else alk l k) = 0
    have h1 : j < n := h.1
    rw [if_neg (by omega)]
    exact alk_out h.2 k hk
section
variable {e L : Nat} {h : am_H}
set_option maxRecDepth 100000 in
/-- the heap ahead of the system's text -/
theorem ko_h3 : pna_R (koH koW3 h) syN1 ∧ (∀ c k, 213 ≤ c → c ≤ 238 → koH koW3 h c k = 0) ∧ (∀ c k, (8 ≤ c ∧ c ≤ 16) ∨ 241 ≤ c ∧ c ≤ 243 → koH koW3 h c k = 0) ∧ ∀ k, koH koW3 h 212 k = syRow.getD k 0 := by
  have z : ∀ c k, c ∈ List.range' 213 26 ++ [8, 9, 10, 11, 12, 13, 14, 15, 16, 241, 242, 243] → koH koW3 h c k = 0 := fun c k hc => koF_ok (of_decide_eq_true (List.all_eq_true.1 ko_z3 c hc)) k
  refine ⟨?_, fun c k h1 h2 => z c k (List.mem_append_left _ (List.mem_range'_1.2 ⟨h1, by omega⟩)), fun c k hc => z c k (List.mem_append_right _ ?_), fun k => ?_⟩
  · obtain ⟨n1, n2, n3, n4⟩ := ko_nm3
    refine ⟨by rw [koR_h n1, n3]; rfl, koR_h n2, fun i w hi => ?_⟩
    have il := (List.getElem?_eq_some_iff.1 hi).1
    have a := List.all_eq_true.1 n4 i (List.mem_range.2 (by omega))
    simp only [Bool.and_eq_true, decide_eq_true_eq] at a
    have gd : syN1.getD i [] = w := by rw [List.getD_eq_getElem?_getD, hi]; rfl
    rw [gd] at a
    refine ⟨koR_h a.1.1, koR_h a.1.2, fun j x hj => ?_⟩
    have jl := (List.getElem?_eq_some_iff.1 hj).1
    have b := of_decide_eq_true (List.all_eq_true.1 a.2 j (List.mem_range.2 jl))
    rw [koR_h b, List.getD_eq_getElem?_getD, hj]; rfl
  · simp only [List.mem_cons, List.not_mem_nil, or_false]
    omega
  · have ck := ko_r212
    unfold row212 at ck
    split at ck
    · rename_i l hl
      rw [Bool.and_eq_true] at ck
      rw [koF_ok hl k]
      rcases Nat.lt_or_ge k 36 with q | q
      · exact of_decide_eq_true (List.all_eq_true.1 ck.1 k (List.mem_range.2 q))
      · rw [alk_out ck.2 k q, List.getD_eq_getElem?_getD, List.getElem?_eq_none (by show 36 ≤ k; exact q)]; rfl
    · cases ck
set_option maxRecDepth 100000 in
theorem cons_c : ∃ hB hR g' hW, am_D (e + 219) 0 1 [am_r (am_a 1)] (koZ L [(0, 0, List.replicate 25 am_n)], h) = some (.inl none, (koZ L koT4, am_up (am_up (am_up (am_up hW 1 4 (hW 8 3)) 1 7 (hW 8 4)) 1 5 (hW 12 3)) 1 6 (hW 4 3))) ∧
    p_fr [3] [] (koH koW3 h) hB ∧ (p_fr [] pc_ps (tgx g' sT2) hR ∧ pna_R hR syN2 ∧ (hR 241 = yK ∧ hR 242 = yV ∧ hR 243 = yP) ∧ p_fr (List.range' 4 8 ++ List.range' 212 32) [] hB hR) ∧ TRS hW ∧ hW 12 3 = 9623 ∧ (∀ c, c ≠ 12 → c ≠ 13 → c ≠ 14 → c ≠ 15 → c ≠ 16 → hW c = koH koWG (koH koWN hR) c) := by
  obtain ⟨x1, x2, x3, x4⟩ := ko_h3 (h := h)
  obtain ⟨hB, rB, XB, fB⟩ := sp_lines (d := e + 217) (L := L) (h0 := koH koW3 h) (u1 := some (am_r (am_a 210))) (u2 := some (am_r (am_a 211))) 47 0 (h := koH koW3 h) (by decide) (fun i x hx => by cases hx) (p_fr.refl _)
  obtain ⟨hR, g', rR, pf, RN, KVP, fR⟩ := sy_read (e := e) (L := L) (h := hB) XB (x1.next (fB 4 3 rfl rfl) (fB 4 4 rfl rfl) (fB.cell 5 rfl rfl) (fB.cell 6 rfl rfl) (fB.cell 7 rfl rfl)) (fun c k h1 h2 => by rw [fB c k (by simp; omega) rfl]; exact x2 c k h1 h2) (fun c k hc => by rw [fB c k (by simp; omega) rfl]; exact x3 c k (by omega)) (fun k => by rw [fB.cell 212 rfl rfl]; exact x4 k)
  -- what stands behind the reading
  have tg : ∀ c k, c ≠ 212 → hR c k = tgx g' sT2 c k := fun c k hc => pf c k rfl (by unfold pc_ps; simp; omega)
  have tgc : ∀ c, c = 213 ∨ c = 214 ∨ c = 217 ∨ c = 218 ∨ c = 219 ∨ c = 220 ∨ c = 221 ∨ c = 8 → hR c = tz sT2 c := fun c hc => funext fun k => by
    rw [tg c k (by omega)]
    rcases hc with rfl | rfl | rfl | rfl | rfl | rfl | rfl | rfl <;> rfl
  obtain ⟨hN, eN⟩ : ∃ hN, hN = koH koWN hR := ⟨_, rfl⟩
  have nN : ∀ c, c ∈ [4, 5, 6, 7, 8, 9, 10, 11, 12, 13, 14, 15, 16, 212, 213, 214, 215, 216, 217, 218, 219, 220, 221] → hN c = hR c := fun c hc => by rw [eN]; exact koN_ok (List.all_eq_true.1 ko_nNc c hc)
  obtain ⟨hG, eG⟩ : ∃ hG, hG = koH koWG hN := ⟨_, rfl⟩
  have nG : ∀ c, c ∈ [4, 5, 6, 7, 8, 9, 10, 11, 212, 213, 214, 217, 218, 219, 220, 221] → hG c = hN c := fun c hc => by rw [eG]; exact koN_ok (List.all_eq_true.1 ko_nGc c hc)
  have z12 : ∀ c k, 12 ≤ c → c ≤ 16 → hN c k = 0 := fun c k h1 h2 => by
    rw [nN c (by simp only [List.mem_cons, List.not_mem_nil, or_false]; omega), fR c k (by
      cases e : (List.range' 4 8 ++ List.range' 212 32).contains c with
      | false => rfl
      | true =>
        have := List.contains_iff_mem.1 e
        rw [List.mem_append, List.mem_range'_1, List.mem_range'_1] at this
        omega) rfl, fB c k (by simp; omega) rfl]
    exact x3 c k (by omega)
  have cdr : ∀ (j : Nat) (l : vl), syVs[j]? = some l → hG 9 j = (l.1 : Int) ∧ hG 10 j = (l.2.1 : Int) ∧ hG 11 j = (l.2.2 : Int) := fun j l hl => by
    unfold syVs at hl
    rw [List.getElem?_map] at hl
    cases hx : syCd.reverse[j]? with
    | none => rw [hx] at hl; cases hl
    | some x =>
      rw [hx] at hl
      injection hl with hl
      have rg := List.all_eq_true.1 sy_eg.2.2 x (List.mem_reverse.1 (List.mem_of_getElem? hx))
      simp only [Bool.and_eq_true, decide_eq_true_eq] at rg
      have gd : sT2.2.reverse.getD j (0, 0, 0) = x := by
        show syCd.reverse.getD j (0, 0, 0) = x
        rw [List.getD_eq_getElem?_getD, hx]; rfl
      have q9 : tgx g' sT2 9 j = x.1 := by
        show (sT2.2.reverse.getD j (0, 0, 0)).1 = x.1
        rw [gd]
      have q10 : tgx g' sT2 10 j = x.2.1 := by
        show (sT2.2.reverse.getD j (0, 0, 0)).2.1 = x.2.1
        rw [gd]
      have q11 : tgx g' sT2 11 j = x.2.2 := by
        show (sT2.2.reverse.getD j (0, 0, 0)).2.2 = x.2.2
        rw [gd]
      rw [nG 9 (by decide), nG 10 (by decide), nG 11 (by decide), nN 9 (by decide), nN 10 (by decide), nN 11 (by decide), tg 9 j (by decide), tg 10 j (by decide), tg 11 j (by decide), q9, q10, q11, ← hl]
      dsimp only
      omega
  obtain ⟨hW, rW, w12, U, b3, b4, b5, b6⟩ := sy_write (d := e + 212) (L := L) (h := hG) cdr (by rw [nG 8 (by decide), nN 8 (by decide), tgc 8 (by omega)]; exact sy_eg.2.1) (by rw [eG]; exact koR_h g12_ok) (fun s hs => by
    rw [nG 221 (by decide), nG 220 (by decide), nN 221 (by decide), nN 220 (by decide), tgc 221 (by omega), tgc 220 (by omega)]
    exact of_decide_eq_true (List.all_eq_true.1 sy_eg.1 s (List.mem_range.2 hs)))
  have s1 : skS (koT3.length + 1) [am_r (am_a 212), am_i 7370, am_i 1] := skS_1 (v := am_i 0) (w := am_i 0) (by rw [ko_T3n]; decide) (sk_i (sk_i sk_0))
  have s2 : skS (koT4.length + 1) [am_r (am_a 12), am_r (am_a 8), am_i 0, am_r (am_a 217), am_i 0] := skS_1 (v := am_i 0) (w := am_i 0) (by rw [ko_T4n]; decide) (skS_1 (v := am_i 0) (w := am_i 0) (by rw [ko_T4n]; decide) (sk_i (skS_1 (v := am_i 0) (w := am_i 0) (by rw [ko_T4n]; decide) (sk_i sk_0))))
  have rR' := sk_use ko_T3 rfl s1 rR
  have rW' := sk_use ko_T4 rfl s2 rW
  have rN := ko_num (d := e + 214) (L := L) (h := hR) RN (fun c hc => tgc c (by omega))
  have rG := ko_beg (d := e + 209) (L := L) (h := hN) z12
  refine ⟨hB, hR, g', hW, ?_, fB, ⟨pf, RN, KVP, fR⟩, sy_trs eG U b3 b4, w12, fun c h1 h2 h3 h4 h5 => by rw [b6 c h1 h2 h3 h4 h5, eG, eN]⟩
  show am_E (am_D (e + 218)) m_0_1 (.inl 0) [some (am_r (am_a 1)), none, none, none, none, none] [] (koZ L [(0, 0, List.replicate 25 am_n)], h) = _
  have c0 : am_E (am_D (e + 218)) m_0_1 (.inl 0) [some (am_r (am_a 1)), none, none, none, none, none] [] (koZ L [(0, 0, List.replicate 25 am_n)], h) = am_E (am_D (e + 218)) m_0_1 (.inl 3) [some (am_r (am_a 1)), some (am_r (am_a 210)), some (am_r (am_a 211)), some (am_i 0), some (am_r (am_a 244)), some (am_i 0)] [] (koZ L koT3, koH koW3 h) := ko_c0 (d := e + 210)
  have rB' : am_E (am_D (e + 218)) m_0_1 (.inl 3) [some (am_r (am_a 1)), some (am_r (am_a 210)), some (am_r (am_a 211)), some (am_i 0), some (am_r (am_a 244)), some (am_i 0)] [] (koZ L koT3, koH koW3 h) = am_E (am_D (e + 218)) m_0_1 (.inl 4) [some (am_r (am_a 1)), some (am_r (am_a 210)), some (am_r (am_a 211)), some (am_i 7370), some (am_r (am_a 244)), some (am_i 47)] [] (koZ L koT3, hB) := rB
  have rN' : am_D (e + 218) 0 2 [am_r (am_a 1)] (koZ L koT3, hR) = some (.inl none, (koZ L koT4, hN)) := by rw [eN]; exact rN
  have rG' : am_D (e + 218) 14 16 [am_r (am_a 12)] (koZ L koT4, hN) = some (.inl none, (koZ L koT4, hG)) := by rw [eG]; exact rG
  have rW2 : am_D (e + 218) 14 29 [am_r (am_a 12), am_r (am_a 8), am_i 0, am_r (am_a 217), am_i 0] (koZ L koT4, hG) = some (.inl none, (koZ L koT4, hW)) := rW'
  have xI : ∀ {S : List am_C} {v : Int} {g : am_H} {f : Nat → am_H → Option am_O} {k : Int → am_H → Option am_O}, am_xI S (some (.inl (some (am_i v)), (S, g))) f k = k v g := fun {S v g f k} => by
    unfold am_xI
    dsimp only
    rw [if_pos rfl]
  have xV : ∀ {S : List am_C} {g : am_H} {f : Nat → am_H → Option am_O} {k : am_H → Option am_O}, am_xV S (some (.inl none, (S, g))) f k = k g := fun {S g f k} => by
    unfold am_xV
    dsimp only
    rw [if_pos rfl]
  rw [c0, rB', q_c4a, rR', xI, rN']
  show am_E (am_D (e + 218)) m_0_1 (.inr koB4) _ [] (koZ L koT4, hN) = _
  rw [q_c4b, rG', xV, rW2, xV]
end
