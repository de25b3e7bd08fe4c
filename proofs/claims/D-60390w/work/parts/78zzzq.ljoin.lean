/-! LOAD, 16: load() of both sides, joined -/
def ldC : List Nat := [279, 303, 304, 305, 306, 307] ++ (prC ++ (pc_C ++ (tlC ++ (mpC ++ mq_C))))
def ldF : List (Nat × Nat) := [(212, 24), (254, 71), (254, 74), (254, 76), (1, 3), (1, 17), (1, 18)] ++ (prF ++ (pc_P ++ (pc_pf ++ (tlF ++ (mpF ++ mq_F)))))
/-- the told commands: on both sides the same -/
def CMDS (h : am_H) : Prop := ∃ l : List (Int × Int × Int), (h 235 3 = (l.length : Int) ∧ rws h 236 0 l) ∧ h 254 76 = (l.length : Int) ∧ ∀ j v, l[j]? = some v → (h 305 j = v.1 ∧ h 306 j = v.2.1 ∧ h 307 j = v.2.2) ∧ r16 v ∧ l.length ≤ 8000
/-- a program stands -/
def PGX (h : am_H) : Prop := ∃ lab fs gv at' P fr qp N u ws, PGM lab fs gv h at' P fr qp N 49 u ws
section
variable {N0 ws : List (List Int)} {sc ss : Nat → Int} {cc cs : Nat → Nat} {h hc hm : am_H} {t : Nat → Int} {n k' : Nat}
theorem TRS_eq {h h' : am_H} (e : ∀ c, c = 13 ∨ c = 14 ∨ c = 15 ∨ c = 16 → h' c = h c) (T : TRS h) : TRS h' := by
  unfold TRS SYSC sttl at *
  rw [e 13 (by omega), e 14 (by omega), e 15 (by omega), e 16 (by omega)]
  exact T
/-- what stands behind the component's reading, for texts to come -/
theorem ls_keep (I : LST N0 ws sc ss cc cs h) (C : cPre N0 t n k' h hc) {g' h1 h2 : am_H} (q : cQ 9 49 1572 hc g') (ok : ce_ok g') (f1 : p_fr tlC (tlF ++ pc_pf) g' h1) (f2 : p_fr ([279, 303, 304, 305, 306, 307] ++ (mpC ++ mq_C)) ([(254, 71), (254, 74), (254, 76)] ++ (mpF ++ mq_F)) h1 h2) (T : TRS h1) (l51 : 0 ≤ h2 254 51 ∧ h2 254 51 ≤ 142) : LST N0 ws sc ss cc cs h2 ∧ p_fr ldC ldF h h2 := by
  obtain ⟨SFh, ⟨e14, e15, e16, e17⟩, told, nms, ⟨k2899, k243⟩, ⟨r1, r2, r3, r4⟩, TT, r51⟩ := I
  obtain ⟨LC, ⟨c83, c84, c12, c19, c2⟩, ⟨t213, t217, t15, t20, t21, t22, t23, t10⟩, A, fr, hi, p243, txt⟩ := C
  obtain ⟨q1, q2, q3, q4⟩ := q
  -- from the tokens to the end
  have F : p_fr ([279, 303, 304, 305, 306, 307] ++ (pc_C ++ (tlC ++ (mpC ++ mq_C)))) ([(212, 24), (254, 71), (254, 74), (254, 76)] ++ (pc_P ++ (pc_pf ++ (tlF ++ (mpF ++ mq_F))))) hc h2 := ((q1.mono rfl rfl).trans (f1.mono rfl rfl)).trans (f2.mono rfl rfl)
  have F1 : p_fr ([279, 303, 304, 305, 306, 307] ++ (tlC ++ (mpC ++ mq_C))) ([(254, 71), (254, 74), (254, 76)] ++ (pc_pf ++ (tlF ++ (mpF ++ mq_F)))) g' h2 := (f1.mono rfl rfl).trans (f2.mono rfl rfl)
  have A2 : AGR N0 hc h2 := by
    refine ⟨fun i hi => ?_, fun j hj => ?_, fun k hk => ?_, ⟨F.cell 211 rfl rfl, F.cell 297 rfl rfl, F.cell 298 rfl rfl, F.cell 299 rfl rfl, F.cell 300 rfl rfl, F.cell 301 rfl rfl⟩, fun i _ => by rw [F.cell 6 rfl rfl, F.cell 7 rfl rfl]; exact ⟨rfl, rfl⟩, fun k _ => by rw [F.cell 5 rfl rfl]⟩
    · rw [F1.cell 214 rfl rfl, F1.cell 215 rfl rfl, F1.cell 216 rfl rfl]; exact q3 i hi
    · rw [F1.cell 218 rfl rfl, F1.cell 219 rfl rfl, F1.cell 220 rfl rfl, F1.cell 221 rfl rfl, F1.cell 222 rfl rfl]; exact q4 j hj
    · refine F 212 k rfl ?_
      simp [pc_P, pc_pf, tlF, mpF, mq_F, mp_F3, mp_F2]
      omega
  have e1 : ∀ j, j = 4 ∨ j = 5 ∨ j = 6 ∨ j = 7 ∨ j = 19 → h2 1 j = hc 1 j := fun j hj => by
    rcases hj with rfl | rfl | rfl | rfl | rfl <;> exact F 1 _ rfl rfl
  have e2 : ∀ j, j = 4 ∨ j = 5 ∨ j = 6 ∨ j = 7 → hc 1 j = h 1 j := fun j hj => by
    rcases hj with rfl | rfl | rfl | rfl <;> exact fr 1 _ rfl rfl
  obtain ⟨G, g01, g02, g03⟩ := lx_grow (t := t) (n := n) (most := 1000) (n + 1) 0 0 N0
  obtain ⟨o1, o2, o3, o4, o5, o6, o7, o8⟩ := ok
  refine ⟨⟨SF_agr A2 (SF_agr A SFh), ⟨by rw [e1 4 (by omega), e2 4 (by omega)]; exact e14, by rw [e1 5 (by omega), e2 5 (by omega)]; exact e15, by rw [e1 6 (by omega), e2 6 (by omega)]; exact e16, by rw [e1 7 (by omega), e2 7 (by omega)]; exact e17⟩, Or.inr ⟨by rw [e1 19 (by omega)]; exact c19, by rw [F 212 20 rfl rfl]; exact t20, by rw [F 212 21 rfl rfl]; exact t21, by rw [F 212 22 rfl rfl]; exact t22⟩, ?_, ⟨by rw [F.cell 241 rfl rfl, hi 241 2899 (by omega) (by decide)]; exact k2899, fun i => by rw [F.cell 243 rfl rfl]; exact p243 i⟩, ⟨by rw [F1 235 3 rfl rfl]; exact o3, by rw [F1 235 4 rfl rfl]; exact o4, by rw [F1 223 5 rfl rfl]; exact o7, by rw [F1 229 5 rfl rfl]; exact o8⟩, TRS_eq (fun c hc' => by rcases hc' with rfl | rfl | rfl | rfl <;> first | exact f2.cell 13 rfl rfl | exact f2.cell 14 rfl rfl | exact f2.cell 15 rfl rfl | exact f2.cell 16 rfl rfl) T, l51⟩, (fr.mono rfl rfl).trans (F.mono rfl rfl)⟩
  obtain ⟨-, -, -, ⟨P1, P2, P3⟩⟩ := LC
  rw [g01] at P1 P2 P3
  rw [F 4 3 rfl rfl, F 4 4 rfl rfl, F.cell 6 rfl rfl]
  cases G with
  | nil =>
    left
    rw [List.append_nil] at P1 P2
    exact ⟨P1, P2⟩
  | cons w G =>
    right
    refine ⟨by rw [P1, List.length_append, List.length_cons]; omega, ?_⟩
    have gi : (N0 ++ w :: G)[N0.length]? = some w := by rw [List.getElem?_append_right (Nat.le_refl _), Nat.sub_self]; rfl
    rw [(P3 _ _ gi).1, pn_pos_end]
/-- the names with which a run begins, behind a text -/
theorem bgn_of {c0 h' : am_H} {n0 n3 m : Nat} {S : am_H} {V : Nat → Int} (SFc : SF N0 ws sc ss cc cs hc) (t213 : hc 213 3 = 9) (t217 : hc 217 5 = 49) (FT0 : FT 9 49 V S c0 n0 n3) (U : rU 9 49 hc (am_up c0 212 24 (hc 212 24))) (eT : ∀ a, 213 ≤ a → a ≤ 222 → h' a = c0 a) (e212 : ∀ k, 19 ≤ k → k ≠ 24 → h' 212 k = c0 212 k) (e211 : h' 211 = hc 211) (mo : mainOK c0) (mc : mainC c0 = (m : Int)) : BGN (am_up h' 212 24 1) m := by
  obtain ⟨⟨Y, -⟩, -, -, -, ⟨g1, g2, g3⟩, -⟩ := SFc
  rw [Rz_id t213 t217] at g1 g2 g3
  obtain ⟨u1, u2, u3, u4⟩ := U
  have c214 : ∀ k, k < 9 → c0 214 k = hc 214 k := fun k hk => by have := (u1 k hk).1; rw [p_up_c _ _ _ _ _ (by decide)] at this; exact this
  have c218 : ∀ k, k < 49 → c0 218 k = hc 218 k ∧ c0 219 k = hc 219 k := fun k hk => by
    obtain ⟨x1, x2, -⟩ := u2 k hk
    rw [p_up_c _ _ _ _ _ (by decide)] at x1 x2
    exact ⟨x1, x2⟩
  have c212 : ∀ k, 19 ≤ k → k ≠ 24 → c0 212 k = hc 212 k := fun k hk h24 => by have := u4 k hk; rw [p_up_n _ _ _ _ _ _ (Or.inr h24)] at this; exact this
  obtain ⟨H, hH⟩ : ∃ H, H = am_up h' 212 24 1 := ⟨_, rfl⟩
  have HC : ∀ a, a ≠ 212 → H a = h' a := fun a ha => by rw [hH, p_up_c _ _ _ _ _ ha]
  have H212 : ∀ k, 19 ≤ k → k ≠ 24 → H 212 k = c0 212 k := fun k h1 h2 => by rw [hH, p_up_n _ _ _ _ _ _ (Or.inr h2)]; exact e212 k h1 h2
  have H211 : H 211 = hc 211 := by rw [HC 211 (by decide)]; exact e211
  have cl : ∀ x, ce_cls hc x ≠ -1 → ce_cls H x = ce_cls hc x := fun x hx => by
    unfold ce_cls at hx ⊢
    rw [HC 214 (by decide), HC 213 (by decide), eT 214 (by decide) (by decide), eT 213 (by decide) (by decide)]
    rw [t213] at hx ⊢
    exact p_find_ext (by rw [FT0.1.2.2.1]; omega) (fun j _ hj => c214 j (by omega)) hx
  have sb : ∀ o x, ce_sub hc o x ≠ -1 → ce_sub H o x = ce_sub hc o x := fun o x hx => by
    unfold ce_sub at hx ⊢
    rw [HC 218 (by decide), HC 219 (by decide), HC 217 (by decide), eT 218 (by decide) (by decide), eT 219 (by decide) (by decide), eT 217 (by decide) (by decide)]
    rw [t217] at hx ⊢
    exact p_find2_ext (by rw [FT0.1.2.2.2.1]; omega) (fun j _ hj => c218 j (by omega)) hx
  have on : ∀ o x, ce_sub hc o x ≠ -1 → o ≠ -1 := fun o x hx z => by
    unfold ce_sub at hx
    rcases p_find2_rg (hc 218) (hc 219) o x (hc 217 5).toNat 0 with w | ⟨w1, w2, w3, -⟩
    · exact hx w
    · have := Y.2.2.2.2.1 (p_find2 (hc 218) (hc 219) o x (hc 217 5).toNat 0).toNat (by rw [t217] at w2; rw [t217]; omega)
      rw [w3] at this; omega
  rw [← hH]
  unfold BGN
  rw [H211, H212 28 (by decide) (by decide), H212 26 (by decide) (by decide), H212 27 (by decide) (by decide), c212 28 (by decide) (by decide)]
  have n1 : ce_sub hc (ce_cls hc (hc 212 28)) (hc 211 10) ≠ -1 := by rw [g1]; decide
  have n2 : ce_sub hc (ce_cls hc (hc 211 11)) (hc 211 10) ≠ -1 := by rw [g2]; decide
  have n3 : ce_sub hc (ce_cls hc (hc 211 12)) (hc 211 13) ≠ -1 := by rw [g3]; decide
  refine ⟨by rw [cl _ (on _ _ n1), sb _ _ n1]; exact g1, by rw [cl _ (on _ _ n2), sb _ _ n2]; exact g2, ?_, by rw [cl _ (on _ _ n3), sb _ _ n3]; exact g3⟩
  have eo : ce_own H (c0 212 26) = ce_own c0 (c0 212 26) := by
    unfold ce_own
    rw [HC 214 (by decide), HC 213 (by decide), eT 214 (by decide) (by decide), eT 213 (by decide) (by decide), H212 20 (by decide) (by decide)]
  have es : ∀ o x, ce_sub H o x = ce_sub c0 o x := fun o x => by
    unfold ce_sub
    rw [HC 218 (by decide), HC 219 (by decide), HC 217 (by decide), eT 218 (by decide) (by decide), eT 219 (by decide) (by decide), eT 217 (by decide) (by decide)]
  rw [eo, es]
  unfold mainC at mc
  split at mc
  · omega
  · exact mc
end
