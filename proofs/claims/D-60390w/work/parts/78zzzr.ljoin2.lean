/-! LOAD, 17: load() of both sides, joined: the theorem -/
theorem pI_inj {L : Nat} {a b : Int} {h h' : am_H} (e : pI L a h = pI L b h') : a = b ∧ h = h' := by
  have s1 := Prod.mk.inj (Option.some.inj e)
  refine ⟨?_, (Prod.mk.inj s1.2).2⟩
  have s2 := Option.some.inj (Sum.inl.inj s1.1)
  injection s2
section
variable {N0 ws : List (List Int)} {sc ss t : Nat → Int} {cc cs : Nat → Nat} {h hc hm : am_H} {n k' : Nat}
/-- lines as they stand -/
theorem ls_HR {K P V : Nat → Int} {gv : Nat → Nat} {g0 c0 h' : am_H} {p : pr_S} {S : mi_S} {c' : ce_S} {f : Nat → List (Int × Int × Int)} {a : Nat → Nat × List Nat} {N : Nat} (X : LDX K P V sc ss t cs gv n g0 c0 p S c' f a) (hN : S.1 254 33 = (N : Int)) (e : ∀ c, c = 8 ∨ c = 9 ∨ c = 10 ∨ c = 11 → h' c = c'.1 c) : tU (hvl c0 S.1) (ivl f) (S.1 269) (p.1 3) N = HR h' 1572 (h' 8 3 - 1572).toNat := by
  obtain ⟨-, -, -, rows, l8, -⟩ := lay_ok X hN
  rw [e 8 (by omega), l8, show (((1572 + (tU (hvl c0 S.1) (ivl f) (S.1 269) (p.1 3) N).length : Nat) : Int) - 1572).toNat = (tU (hvl c0 S.1) (ivl f) (S.1 269) (p.1 3) N).length by omega]
  apply List.ext_getElem?
  intro j
  unfold HR
  rw [List.getElem?_map]
  by_cases hj : j < (tU (hvl c0 S.1) (ivl f) (S.1 269) (p.1 3) N).length
  · obtain ⟨r1, r2, r3⟩ := rows j _ (List.getElem?_eq_getElem hj)
    rw [List.getElem?_range hj, List.getElem?_eq_getElem hj]
    show _ = some (hrw h' (1572 + j))
    unfold hrw
    rw [e 9 (by omega), e 10 (by omega), e 11 (by omega), r1, r2, r3, Int.toNat_natCast, Int.toNat_natCast, Int.toNat_natCast]
  · rw [List.getElem?_eq_none (by omega), List.getElem?_eq_none (by rw [List.length_range]; omega)]; rfl
/-- parameters of subs, as the translator sees them -/
def gvh (h' : am_H) (j : Nat) : Nat := (h' 221 j + (if h' 220 j = 3 then 1 else 0)).toNat
theorem gvh_of {K P V : Nat → Int} {Z : Nat} {mn mM : Int} {es : List gx_V} {p : pr_S} {S : mi_S} {c0 : am_H} {c' : ce_S} {hr h1 h' : am_H} (O : okL K P V sc ss cc cs 9 49 4 1572 152 Z mn mM hc hm es p S c0 c' hr h1) (e : p_fr [] pc_ps c'.1 h') (SUE : ∀ u, u < p.1 3 → 0 ≤ S.1 267 u) : ∀ u, u < p.1 3 → h' 221 (49 + u) + (if h' 220 (49 + u) = 3 then 1 else 0) = (gvh h' (49 + u) : Int) ∧ gvh h' (49 + u) = (S.1 267 u).toNat + (if S.1 264 u = 3 then 1 else 0) := by
  obtain ⟨-, ⟨FT0, -⟩, ⟨-, R2, -⟩, -⟩ := O
  intro u hu
  have e1 : h' 221 (49 + u) = S.1 267 u := by rw [e.cell 221 rfl rfl, R2.1.1 221 (by omega)]; exact (FT0.2.2 u hu).2.2
  have e2 : h' 220 (49 + u) = S.1 264 u := by rw [e.cell 220 rfl rfl, R2.1.1 220 (by omega)]; exact (FT0.2.2 u hu).2.1.2.2.1
  have := SUE u hu
  unfold gvh
  rw [e1, e2]
  split <;> omega
/-- the component's load() where a text has no fault -/
theorem comp_ok (d L : Nat) {u3 : Option am_V} {x2 : Int} {K P V : Nat → Int} {Z : Nat} {g0 c0 : am_H} {mn mM : Int} {es : List gx_V} {p : pr_S} {S : mi_S} {c' : ce_S} {hr h1 h' : am_H} {f : Nat → List (Int × Int × Int)} {a : Nat → Nat × List Nat} {N : Nat} {u1 : Option am_V} (I : LST N0 ws sc ss cc cs h) (C : cPre N0 t n k' h hc) (O : okL K P V sc ss cc cs 9 49 4 1572 152 Z mn mM hc hm es p S c0 c' hr h1) (e : p_fr [] pc_ps c'.1 h') (X : LDX (kM K Z) P V sc ss t cs (gvh h') n g0 c0 p S c' f a) (hN : S.1 254 33 = (N : Int)) :
    ∃ (h2 : am_H) (lab fs : Nat → Nat) (w u : Nat), am_E (am_D (d + 7)) m_0_7 (.inl 7) [some (am_r (am_a 1)), u1, some (am_i x2), u3] [am_i 1, am_r (am_a 1)] (zS L, h') = pI L 0 h2 ∧ LU h2 lab fs (gvh h') 1 (9623, 0) (HR h' 1572 (h' 8 3 - 1572).toNat) ∧ (u < p.1 3 ∧ m_mainf V mn mM S.1 (S.1 254 17).toNat 0 (-1) = (u : Int) ∧ S.1 264 u = 2 ∧ S.1 267 u = 0) ∧ LU h2 lab fs (gvh h') 0 (w, 0) (begN (49 + u)) ∧ (cmw h2 6 shL ∧ SYS h2 lab fs ∧ ∀ q, lab q < 32768 ∧ fs q < 32768) ∧ cmw h2 0 (([((17000 : Nat) : Int), -5104] ++ wKeep ((0 : Nat) : Int)) ++ [(w : Int), -5497]) ∧ TRS h2 ∧ (h2 1 18 = 1 ∧ h2 1 3 = -1 ∧ h2 1 17 = hc 243 0) ∧ p_fr tlC tlF h' h2 := by
  have lHR := ls_HR X hN (fun c hc' => by rcases hc' with rfl | rfl | rfl | rfl <;> first | exact e.cell 8 rfl rfl | exact e.cell 9 rfl rfl | exact e.cell 10 rfl rfl | exact e.cell 11 rfl rfl)
  obtain ⟨lg, nd, tr, rows, l8, wn, l14⟩ := lay_ok X hN
  have SUE : ∀ u, u < p.1 3 → 0 ≤ S.1 267 u := by
    obtain ⟨⟨-, ⟨-, -, -, SUs, -⟩, -⟩, -⟩ := X
    exact fun u hu => (SUs.1 u hu).1.1
  have gh := gvh_of O e SUE
  have p3 : p.1 3 ≤ 60 := by
    obtain ⟨⟨-, -, -, Rv, -⟩, -⟩ := X
    exact Rv.2.1.2.2.2.2.1
  have i14 := I.2.1.1
  obtain ⟨SFh, -, -, -, -, -, TT, -⟩ := I
  obtain ⟨LC, ⟨c83, c84, c12, c19, c2⟩, ⟨t213, t217, t15, t20, t21, t22, t23, t10⟩, A, fr, hi, p243, txt⟩ := C
  obtain ⟨-, ⟨FT0, SY0, SKn0, U0⟩, ⟨nl, R2, TR0, q1, q2, q3, cq⟩, -, mo, mc, mne, -⟩ := O
  have R1 := R2.1
  have FF : p_fr pc_C ((212, 24) :: (pc_P ++ pc_pf)) hc h' := (cq.1.mono rfl rfl).trans (e.mono rfl rfl)
  have eT : ∀ a, 213 ≤ a → a ≤ 222 → h' a = c0 a := fun a h1 h2 => by
    have : h' a = c'.1 a := by
      funext j
      refine e a j rfl ?_
      simp [pc_ps]
      omega
    rw [this, R1.1 a (by omega)]
  have e212 : ∀ k, 19 ≤ k → k ≠ 24 → h' 212 k = c0 212 k := fun k h1 h2 => by
    rw [e 212 k rfl (by simp [pc_ps]; omega), R1.2 k h1]
  have SFc := SF_agr A SFh
  -- the main sub
  obtain ⟨u, hu, un, u2, u0⟩ : ∃ u : Nat, mainC c0 = ((49 + u : Nat) : Int) ∧ u < p.1 3 ∧ S.1 264 u = 2 ∧ S.1 267 u = 0 := by
    obtain ⟨m1, m2, m3⟩ := mo
    have mf : 0 ≤ m_mainf V mn mM S.1 (S.1 254 17).toNat 0 (-1) ∧ m_mainf V mn mM S.1 (S.1 254 17).toNat 0 (-1) < (p.1 3 : Int) := by
      have key : ∀ (m s : Nat) (r : Int), (r = -1 ∨ 0 ≤ r ∧ r < ((s + m : Nat) : Int)) → (m_mainf V mn mM S.1 m s r = -1 ∨ 0 ≤ m_mainf V mn mM S.1 m s r ∧ m_mainf V mn mM S.1 m s r < ((s + m : Nat) : Int)) := by
        intro m
        induction m with
        | zero => intro s r hr; exact hr
        | succ m ih =>
          intro s r hr
          unfold m_mainf
          rw [show s + (m + 1) = s + 1 + m by omega]
          refine ih (s + 1) _ ?_
          split
          · right; omega
          · rcases hr with z | z
            · exact Or.inl z
            · right; omega
      have := key (S.1 254 17).toNat 0 (-1) (Or.inl rfl)
      have h17 := FT0.1.2.1
      rcases this with z | z
      · exact absurd z mne
      · omega
    refine ⟨(m_mainf V mn mM S.1 (S.1 254 17).toNat 0 (-1)).toNat, by rw [mc]; omega, by omega, ?_, ?_⟩
    · have := (FT0.2.2 (m_mainf V mn mM S.1 (S.1 254 17).toNat 0 (-1)).toNat (by omega)).2.1.2.2.1
      rw [← this, ← m2, mc]; congr 1; omega
    · have := (FT0.2.2 (m_mainf V mn mM S.1 (S.1 254 17).toNat 0 (-1)).toNat (by omega)).2.2
      rw [← this, ← m3, mc]; congr 1; omega
  have B := bgn_of SFc t213 t217 FT0 U0 eT e212 (FF.cell 211 rfl rfl) mo hu
  have h213 : h' 213 3 = 9 + (p.1 0 : Int) := by rw [eT 213 (by decide) (by decide)]; exact FT0.1.2.2.1
  have h217 : h' 217 5 = 49 + (p.1 3 : Int) := by rw [eT 217 (by decide) (by decide)]; exact FT0.1.2.2.2.1
  have h20 : h' 212 20 = 9 := by rw [e212 20 (by decide) (by decide)]; exact FT0.1.2.2.2.2.1
  have p0 : p.1 0 ≤ 12 := by
    obtain ⟨⟨-, -, -, Rv, -⟩, -⟩ := X
    exact Rv.2.1.2.2.2.1
  have T' : TRS h' := TRS_eq (h := h) (fun c hc' => by
    rcases hc' with rfl | rfl | rfl | rfl
    · rw [FF.cell 13 rfl rfl, fr.cell 13 rfl rfl]
    · rw [FF.cell 14 rfl rfl, fr.cell 14 rfl rfl]
    · rw [FF.cell 15 rfl rfl, fr.cell 15 rfl rfl]
    · rw [FF.cell 16 rfl rfl, fr.cell 16 rfl rfl]) TT
  have e12 : h' 12 3 = 9623 := by rw [FF 12 3 rfl rfl]; exact c12
  have rr := R2.2.2.2.2.1.1
  have ls3 : (tU (hvl c0 S.1) (ivl f) (S.1 269) (p.1 3) N).length ≤ 3000 := by
    have a1 := rr.2
    have a2 : p.1 8 ≤ 300 := R2.2.2.2.2.1.2.2.2.2.2.1
    have a3 : p.2.2.2 4 ≤ 2100 := R2.2.2.2.2.1.2.2.2.2.2.2.1
    omega
  have e14' : h' 1 4 = 1572 := by
    rw [FF 1 4 rfl rfl, fr 1 4 rfl rfl]
    exact i14
  obtain ⟨h2, lab, fs, w, r, U1, U2, sy, wd, T2, ⟨v18, v3, v17⟩, -, f2⟩ := tr_load (L := L) (d := d) (h := h') (gv := gvh h') (m := 49 + u) (ls := tU (hvl c0 S.1) (ivl f) (S.1 269) (p.1 3) N) (u1 := u1) (u3 := u3) (x2 := x2) T' e12 e14' (fun j l hj => by rw [e.cell 9 rfl rfl, e.cell 10 rfl rfl, e.cell 11 rfl rfl]; exact rows j l hj) (by rw [e 8 3 rfl rfl]; exact l8) ls3 lg nd (fun x hx => by have := tr x hx; omega) wn (fun l hl h14 => by
      obtain ⟨s, hs, es⟩ := l14 l hl h14
      rw [es]; exact (gh s hs).1) B (by omega) (by omega) (by omega) (by omega)
  rw [lHR] at U1
  exact ⟨h2, lab, fs, w, u, r, U1, ⟨un, by have := mc; rw [hu] at this; omega, u2, u0⟩, U2, sy, wd, T2, ⟨v18, by rw [v3, e 212 10 rfl rfl, cq.1 212 10 rfl rfl]; exact t10, by rw [v17, FF.cell 243 rfl rfl]⟩, f2⟩
end
