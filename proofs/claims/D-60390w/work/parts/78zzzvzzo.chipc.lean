/-! CHIPS, 67: chips() of the component -/
section
variable {K V : Nat → Int} {Z : Nat} {chs : List cCh}
theorem lkX_p {ch : cCh} {W : Nat → Int} {wd : Int} {l : cLk} {e : cF} (h : lkX K V ch W wd l = some e) : 0 < e.1 := by
  unfold lkX at h
  repeat' split at h
  all_goals first
    | (cases h; done)
    | (injection h with h; subst h; first | exact (by decide : (0 : Int) < 4) | exact (by decide : (0 : Int) < 5))
theorem lkD_p {ch : cCh} {wd : Int} {l : cLk} {Q G : Nat → Int} {e : cF} (h : lkD K V ch wd l Q G = .inl e) : 0 < e.1 := by
  unfold lkD at h
  repeat' split at h
  all_goals first
    | (cases h; done)
    | (injection h with h; subst h; first | exact (by decide : (0 : Int) < 3) | exact (by decide : (0 : Int) < 4) | exact (by decide : (0 : Int) < 5))
theorem lkS_p {k : Nat} {ch : cCh} {W : Nat → Int} {l : cLk} {s : cSt} {e : cF} (h : lkS K V chs k ch W l s = .inl e) : 0 < e.1 := by
  unfold lkS at h
  split at h
  · injection h with h; subst h; exact (by decide : (0 : Int) < 4)
  · split at h
    · split at h
      · split at h
        · split at h
          · rename_i e' he'
            injection h with h; subst h; exact lkX_p he'
          · cases h
        · injection h with h; subst h; exact (by decide : (0 : Int) < 3)
      · split at h
        · rename_i e' he'
          injection h with h; subst h; exact lkD_p he'
        · cases h
    · injection h with h; subst h; exact (by decide : (0 : Int) < 5)
theorem lksS_p {k : Nat} {ch : cCh} {W : Nat → Int} : ∀ (ls : List cLk) {s : cSt} {e : cF}, lksS K V chs k ch W ls s = .inl e → 0 < e.1
  | [], s, e, h => by cases h
  | l :: ls, s, e, h => by
    unfold lksS at h
    split at h
    · rename_i e' he'
      injection h with h; subst h; exact lkS_p he'
    · exact lksS_p ls h
theorem prsS_p {ch : cCh} {W : Nat → Int} : ∀ (ps : List (Nat × List cLk)) {s : (Nat → Int) × (Nat → Int)} {e : cF}, prsS K V chs ch W ps s = .inl e → 0 < e.1
  | [], s, e, h => by cases h
  | q :: ps, s, e, h => by
    unfold prsS at h
    split at h
    · rename_i e' he'
      injection h with h; subst h
      unfold prS at he'
      split at he'
      · injection he' with he'; subst he'; exact (by decide : (0 : Int) < 4)
      · split at he'
        · rename_i e2 he2
          injection he' with he'; subst he'; exact lksS_p _ he2
        · cases he'
    · exact prsS_p ps h
theorem pnS_p {ns : List Int} : ∀ (ps : List (Nat × Int)) {k : Nat} {e : cF}, pnS V ns ps k = some e → 0 < e.1
  | [], k, e, h => by cases h
  | p :: ps, k, e, h => by
    unfold pnS at h
    split at h
    · split at h
      · exact pnS_p ps h
      · injection h with h; subst h; exact (by decide : (0 : Int) < 5)
    · injection h with h; subst h; exact (by decide : (0 : Int) < 3)
theorem cksS_p : ∀ (cs : List cCh) {c : Nat} {e : cF}, cksS K V chs cs c = some e → 0 < e.1
  | [], c, e, h => by cases h
  | ch :: cs, c, e, h => by
    unfold cksS at h
    split at h
    · rename_i e' he'
      injection h with h; subst h
      unfold ckS at he'
      split at he'
      · rename_i e2 he2
        injection he' with he'; subst he'
        unfold hdS at he2
        split at he2
        · exact pnS_p _ he2
        · injection he2 with he2; subst he2; exact (by decide : (0 : Int) < 3)
      · split at he'
        · rename_i e2 he2
          injection he' with he'; subst he'; exact prsS_p _ he2
        · cases he'
    · exact cksS_p cs h
theorem c_chs_p (T : cT K Z) {M : Nat} (hM : Z < M) : ∀ (m : Nat) {acc : List cCh} {i : Nat} {e : cF}, c_chs K V M m acc i = .inl e → i ≤ Z → Z < i + m → 0 < e.1
  | 0, acc, i, e, h, hi, hm => by omega
  | m + 1, acc, i, e, h, hi, hm => by
    have rg := c_chp_rg (V := V) (n := acc.length) T hi hM
    unfold c_chs at h
    split at h
    · rename_i e' he'
      injection h with h; subst h
      rw [he'] at rg
      dsimp only at rg
      omega
    · rename_i u hu
      rw [hu] at rg
      dsimp only at rg
      split at h
      · cases h
      · exact c_chs_p T hM m h rg.2 (by omega)
end
/-- what chips() changes -/
def chC : List Nat := [3] ++ List.range' 53 157 ++ [256, 257, 258, 259, 260] ++ List.range' 328 38
def chF : List (Nat × Nat) := [(1, 2), (1, 3), (1, 24), (36, 5), (36, 6), (36, 7), (36, 8), (36, 9), (36, 10), (254, 1), (254, 3), (254, 4), (254, 9), (254, 10), (254, 11), (254, 12), (254, 69), (254, 70), (254, 122), (254, 125), (254, 131), (254, 134), (254, 144), (254, 148), (254, 149), (254, 150), (254, 152), (254, 158), (254, 161), (254, 166), (254, 170), (254, 173), (254, 174)]
theorem chC_n {c : Nat} (h : chC.contains c = false) : c < 53 ∨ 209 < c := by
  rcases Nat.lt_or_ge c 53 with z | z
  · exact Or.inl z
  · rcases Nat.lt_or_ge 209 c with w | w
    · exact Or.inr w
    · exfalso
      have : c ∈ chC := by
        unfold chC
        simp only [List.mem_append, List.mem_range'_1]
        left; left; right; omega
      rw [List.contains_iff_mem.2 this] at h
      cases h
theorem chF_n {k : Nat} (h : chF.contains (36, k) = false) : k < 5 ∨ 10 < k := by
  rcases Nat.lt_or_ge k 5 with z | z
  · exact Or.inl z
  · rcases Nat.lt_or_ge 10 k with w | w
    · exact Or.inr w
    · exfalso
      have : k = 5 ∨ k = 6 ∨ k = 7 ∨ k = 8 ∨ k = 9 ∨ k = 10 := by omega
      rcases this with rfl | rfl | rfl | rfl | rfl | rfl <;> exact absurd h (by decide)
theorem ch_kfy {h h' : am_H} (f : kfy h h') : p_fr chC chF h h' := fun c k hc hf => by
  have := chC_n hc
  exact f c k (by omega) (by omega) (by omega) (by omega) (fun e => by subst e; exact chF_n hf)
theorem ch_kfa {h h' : am_H} (f : kfa h h') : p_fr chC chF h h' := fun c k hc hf => by
  have := chC_n hc
  by_cases e : c = 36
  · subst e
    have := chF_n hf
    exact f.2 k (by omega) (by omega) (by omega) (by omega)
  · exact f.1 c k (by omega) e
theorem ch_kfs {h h' : am_H} (f : kfs h h') : p_fr chC chF h h' := fun c k hc hf => by
  have := chC_n hc
  by_cases e : c = 36
  · subst e
    have := chF_n hf
    exact f.2 k (by omega) (by omega)
  · exact f.1 c k (by omega) e
/-- what stands: gates' rows, names -/
def CHS (h : am_H) : Prop := gT h ∧ CA h ∧ ∃ N, pnb_R h N ∧ N.length ≤ 1400
section
variable {K V P : Nat → Int} {Z : Nat} {chs : List cCh} {h h' : am_H}
theorem kZ.fr2 (H : kZ K V P Z chs h) (f : ∀ c k, (c = 36 ∧ k = 6 ∨ 38 ≤ c ∧ c ≤ 51 ∨ 78 ≤ c ∧ c ≤ 80 ∨ 83 ≤ c ∧ c ≤ 194) → h' c k = h c k) : kZ K V P Z chs h' := by
  obtain ⟨⟨R, ⟨⟨g1, g2⟩, g3, g4⟩, gw⟩, hw⟩ := H
  have kbr : ∀ k, k < 2 + chs.length → (kb k = 38 ∨ kb k = 45 ∨ 83 ≤ kb k ∧ kb k ≤ 188) := fun k hk => by rcases kb_lo k with z | z | ⟨c, z1, z2⟩ <;> omega
  refine ⟨⟨R.fr (funext fun k => f 78 k (by omega)) (funext fun k => f 79 k (by omega)) (funext fun k => f 80 k (by omega)), ⟨⟨by rw [f 36 6 (by omega)]; exact g1, g2⟩, fun k hk => ?_, fun c ch hc => ?_⟩, fun k hk j y hy => ?_⟩, fun c ch hc j hj => ?_⟩
  · have := kbr k hk
    obtain ⟨a1, a2, a3⟩ := g3 k hk
    have e0 : ∀ j, h' (kb k) j = h (kb k) j := fun j => f _ _ (by omega)
    have e1 : ∀ j, h' (kb k + 1) j = h (kb k + 1) j := fun j => f _ _ (by omega)
    rw [e0, e0]
    exact ⟨a1, a2, fun j y hy => by rw [e1]; exact a3 j y hy⟩
  · have := (List.getElem?_eq_some_iff.1 hc).1
    obtain ⟨a1, a2, a3, a4, a5⟩ := g4 c ch hc
    have eb : ∀ k, h' (83 + 7 * c) k = h (83 + 7 * c) k := fun k => f _ _ (by omega)
    have e3 : ∀ k, h' (83 + 7 * c + 3) k = h (83 + 7 * c + 3) k := fun k => f _ _ (by omega)
    have e4 : ∀ k, h' (83 + 7 * c + 4) k = h (83 + 7 * c + 4) k := fun k => f _ _ (by omega)
    rw [eb, eb, eb, eb]
    exact ⟨a1, a2, a3, fun k q hq => by rw [e3]; exact a4 k q hq, fun k t ht => by rw [e4]; exact a5 k t ht⟩
  · have := kbr k hk
    rw [f _ _ (by omega)]; exact gw k hk j y hy
  · have := (List.getElem?_eq_some_iff.1 hc).1
    rw [f _ _ (by omega)]; exact hw c ch hc j hj
theorem gT.fc (G : gT h) (f : p_fr chC chF h h') : gT h' := by
  unfold gT
  rw [f.cell 38 rfl rfl, f.cell 39 rfl rfl, f.cell 40 rfl rfl, f.cell 45 rfl rfl, f.cell 46 rfl rfl, f.cell 47 rfl rfl]
  exact G
/-- what chips() leaves of the component -/
def cjR (h h' : am_H) : Prop := p_fr chC chF h h' ∧ h' 1 2 = 0 ∧ (∀ c k, 254 ≤ c → h' c k = h c k) ∧ gT h' ∧ ∃ N, pnb_R h' N ∧ N.length ≤ 1400
theorem cjR.step {g : am_H} (H : cjR g h) (f : p_fr chC chF h h') (f2 : ∀ k, h' 1 2 = h 1 2 ∧ (∀ c, 254 ≤ c → h' c k = h c k) ∧ h' 74 k = h 74 k ∧ h' 75 k = h 75 k ∧ h' 76 k = h 76 k ∧ h' 77 k = h 77 k) : cjR g h' := by
  obtain ⟨h1, h2, h3, h4, N, h5, h6⟩ := H
  exact ⟨h1.trans f, by rw [(f2 0).1]; exact h2, fun c k hc => by rw [(f2 k).2.1 c hc]; exact h3 c k hc, h4.fc f, N, h5.next (f2 3).2.2.1 (f2 4).2.2.1 (funext fun k => (f2 k).2.2.2.1) (funext fun k => (f2 k).2.2.2.2.1) (funext fun k => (f2 k).2.2.2.2.2), h6⟩
end
section
variable {d L : Nat} {n : Nat} {h : am_H} {K V P : Nat → Int} {Z : Nat}
/-- up to the tokens -/
theorem cj_pre (T4 : ∀ k, k < n → (-128 ≤ h 2 k ∧ h 2 k ≤ 127) ∧ h 2 k % 256 = h 255 k) (hn : n ≤ 4000) (hn2 : (n : Int) ≤ h 1 2) (S : CHS h) (tk : ∀ (hc : am_H) (k' : Nat), kc_S (h 255) n k' (cx_toks (h 255) n 2000 (n + 1) 0 0 cx_N0).1 (cx_toks (h 255) n 2000 (n + 1) 0 0 cx_N0).2 hc → kR K V P Z hc) (k0 : K 0 ≠ 7) : ∃ b, am_D (d + 23) 0 17 [am_r (am_a 1), am_i (n : Int)] (zS L, h) = (am_xI (zS L) (am_E (am_D (d + 21)) m_4_13 (.inl 1) [some (am_r (am_a 36)), some (am_i (n : Int)), none] [] (zS L, b)) (am_up1 (zS L)) fun v3 h2 => if (v3 : Int) = 0 then am_E (am_D (d + 22)) m_0_17 (.inl 4) [some (am_r (am_a 1)), some (am_i (n : Int)), some (am_i v3)] [am_i 1, am_r (am_a 1)] (zS L, am_up h2 1 3 (h2 36 8)) else am_E (am_D (d + 22)) m_0_17 (.inl 4) [some (am_r (am_a 1)), some (am_i (n : Int)), some (am_i v3)] [am_i 0, am_r (am_a 1)] (zS L, am_up h2 1 3 (h2 36 8))) ∧ kN K V P Z 0 b ∧ kCs V P [] b ∧ b 36 8 = -1 ∧ cjR h b := by
  obtain ⟨G, -, N, R, hN⟩ := S
  obtain ⟨a1, ra1, a12, a13, fa1⟩ := pt_take_c (d := d + 21) (L := L) (n := n) n h 0 (by omega) hn (fun k hk => (T4 k hk).1)
  have ra1 : am_E (am_D (d + 21)) m_0_10 (.inl 1) [some (am_r (am_a 1)), some (am_i (n : Int)), some (am_i 0)] [] (zS L, h) = pV L a1 := ra1
  obtain ⟨b1, rb1, fb1, Rb1⟩ := kc_begin (d + 17) L (h := a1) (R.next (fa1 74 3 rfl rfl) (fa1 74 4 rfl rfl) (fa1.cell 75 rfl rfl) (fa1.cell 76 rfl rfl) (fa1.cell 77 rfl rfl)) hN
  obtain ⟨b2, e2⟩ : ∃ b2, b2 = am_up (am_up (am_up b1 73 7 (n : Int)) 73 8 0) 73 6 0 := ⟨_, rfl⟩
  have f2 : p_fr [] [(73, 6), (73, 7), (73, 8)] b1 b2 := by rw [e2]; exact (((p_fr.refl b1).upf _ _ _ rfl).upf _ _ _ rfl).upf _ _ _ rfl
  have S2 : kc_S (h 255) n 0 [] cx_N0 b2 := by
    refine ⟨⟨by rw [e2]; simp [p_up], hn, fun k hk => ?_⟩, by rw [e2]; simp [p_up], ⟨by rw [e2, p_up_s]; rfl, fun i q hq => by cases hq⟩, Rb1.next (f2 74 3 rfl rfl) (f2 74 4 rfl rfl) (f2.cell 75 rfl rfl) (f2.cell 76 rfl rfl) (f2.cell 77 rfl rfl)⟩
    rw [f2.cell 3 rfl rfl, fb1.cell 3 rfl rfl, a13, if_pos ⟨Nat.zero_le _, hk⟩]
    exact T4 k hk
  obtain ⟨N1, N2, N3⟩ := cx_N0_ok
  have Q0 : cx_Q (h 255) n cx_N0 0 := ⟨Or.inl (by rw [N2]; decide), by rw [N3]; decide⟩
  obtain ⟨b3, k', rb3, fb3, S3⟩ := kc_read (d + 16) L (n + 1) b2 0 [] cx_N0 (some (am_i (n : Int))) none none none S2 (Nat.zero_le _) (by omega) (Nat.zero_le _) N1 Q0
  rw [List.nil_append, List.length_nil] at S3
  have room := (cx_room (t := h 255) (n := n) (n + 1) 0 0 cx_N0 (most := 2000) (Nat.zero_le _) N1 Q0 hn).2
  obtain ⟨b4, e4⟩ : ∃ b4, b4 = am_up (am_up (am_up (am_up b3 36 6 0) 36 5 0) 36 7 0) 36 8 (-1) := ⟨_, rfl⟩
  have f4 : p_fr [] [(36, 5), (36, 6), (36, 7), (36, 8)] b3 b4 := by rw [e4]; exact ((((p_fr.refl b3).upf _ _ _ rfl).upf _ _ _ rfl).upf _ _ _ rfl).upf _ _ _ rfl
  have FT : p_fr chC chF h b4 := by
    have g : ∀ {x y : am_H} {cs : List Nat} {fs : List (Nat × Nat)}, p_fr cs fs x y → (∀ c ∈ cs, chC.contains c = true) → (∀ q ∈ fs, chF.contains q = true ∨ chC.contains q.1 = true) → p_fr chC chF x y := fun {x y cs fs} f h1 h2 c k hc hf => by
      refine f c k ?_ ?_
      · cases e : cs.contains c with
        | false => rfl
        | true => have := h1 c (List.contains_iff_mem.1 e); rw [this] at hc; cases hc
      · cases e : fs.contains (c, k) with
        | false => rfl
        | true =>
          rcases h2 (c, k) (List.contains_iff_mem.1 e) with z | z
          · rw [z] at hf; cases hf
          · dsimp only at z; rw [z] at hc; cases hc
    exact ((((g fa1 (by decide) (by decide)).trans (g fb1 (by decide) (by decide))).trans (g f2 (by decide) (by decide))).trans (g fb3 (by decide) (by decide))).trans (g f4 (by decide) (by decide))
  have hi : ∀ c k, 254 ≤ c → b4 c k = h c k := fun c k hc => by
    have nc : ∀ cs : List Nat, (∀ x ∈ cs, x < 254) → cs.contains c = false := fun cs hx => by
      cases e : cs.contains c with
      | false => rfl
      | true => have := hx c (List.contains_iff_mem.1 e); omega
    have nf : ∀ fs : List (Nat × Nat), (∀ q ∈ fs, q.1 < 254) → fs.contains (c, k) = false := fun fs hx => by
      cases e : fs.contains (c, k) with
      | false => rfl
      | true => have := hx (c, k) (List.contains_iff_mem.1 e); dsimp only at this; omega
    rw [f4 c k (nc _ (by decide)) (nf _ (by decide)), fb3 c k (nc _ (by decide)) (nf _ (by decide)), f2 c k (nc _ (by decide)) (nf _ (by decide)), fb1 c k (nc _ (by decide)) (nf _ (by decide)), fa1 c k (nc _ (by decide)) (nf _ (by decide))]
  refine ⟨b4, ?_, ⟨(tk b3 k' S3).fr (f4.cell 78 rfl rfl) (f4.cell 79 rfl rfl) (f4.cell 80 rfl rfl), by rw [e4]; simp [p_up], Nat.zero_le _, k0⟩, ⟨by rw [e4]; simp [p_up], by decide, fun c ch hc => by cases hc⟩, by rw [e4, p_up_s], FT, ?_, hi, G.fc FT, _, S3.2.2.2.next (f4 74 3 rfl rfl) (f4 74 4 rfl rfl) (f4.cell 75 rfl rfl) (f4.cell 76 rfl rfl) (f4.cell 77 rfl rfl), by omega⟩
  · rw [D_0_17, if_neg (by omega), if_neg (by omega), D_0_10, ra1, p_xV, D_4_13, D_5_3, rb1, p_xV, ← e2, rb3, p_xV, ← e4]
  · rw [f4 1 2 rfl rfl, fb3 1 2 rfl rfl, f2 1 2 rfl rfl, fb1 1 2 rfl rfl]; exact a12
/-- chips() up to the board -/
theorem cj_c (T4 : ∀ k, k < n → (-128 ≤ h 2 k ∧ h 2 k ≤ 127) ∧ h 2 k % 256 = h 255 k) (hn : n ≤ 4000) (hn2 : (n : Int) ≤ h 1 2) (S : CHS h) (tk : ∀ (hc : am_H) (k' : Nat), kc_S (h 255) n k' (cx_toks (h 255) n 2000 (n + 1) 0 0 cx_N0).1 (cx_toks (h 255) n 2000 (n + 1) 0 0 cx_N0).2 hc → kR K V P Z hc) (k0 : K 0 ≠ 7) (hv : ∀ j, K j = 3 → 0 ≤ V j ∧ V j ≤ 99) (T : cT K Z) : match c_chs K V (Z + 1) (Z + 1) [] 0 with
    | .inl e => ∃ h1, am_D (d + 23) 0 17 [am_r (am_a 1), am_i (n : Int)] (zS L, h) = pI L e.1 h1 ∧ h1 1 3 = P e.2 ∧ h1 1 24 = 0 ∧ cjR h h1
    | .inr chs => match cksS K V chs chs 0 with
      | some e => ∃ h1, am_D (d + 23) 0 17 [am_r (am_a 1), am_i (n : Int)] (zS L, h) = pI L e.1 h1 ∧ h1 1 3 = P e.2 ∧ h1 1 24 = 0 ∧ cjR h h1
      | none => (∃ c ch h1, chs[c]? = some ch ∧ rch V chs c c ∧ (∀ c', c' < c → ¬ rch V chs c' c') ∧ am_D (d + 23) 0 17 [am_r (am_a 1), am_i (n : Int)] (zS L, h) = pI L 6 h1 ∧ h1 1 3 = P ch.1 ∧ h1 1 24 = 0 ∧ cjR h h1) ∨ ((∀ c, c < chs.length → ¬ rch V chs c c) ∧ ∃ hz, kZ K V P Z chs hz ∧ hz 1 3 = -1 ∧ cjR h hz ∧ am_D (d + 23) 0 17 [am_r (am_a 1), am_i (n : Int)] (zS L, h) = (am_xI (zS L) (am_D (d + 22) 2 3 [am_r (am_a 195)] (zS L, hz)) (am_up1 (zS L)) fun v2 h1 => am_bit v2 (if (v2 : Int) = 0 then pI L 6 (am_up (am_up h1 1 24 v2) 1 3 (n : Int)) else pI L 0 (am_up h1 1 24 v2)))) := by
  obtain ⟨b, rb, Nb, Cb, e8, Jb⟩ := cj_pre (d := d) (L := L) T4 hn hn2 S tk k0
  have fault : ∀ (v : Int) (h2 : am_H) (p : Int), v ≠ 0 → h2 36 8 = p → cjR h h2 → ∃ h1, (am_xI (zS L) (pI L v h2) (am_up1 (zS L)) fun v3 h2 => if (v3 : Int) = 0 then am_E (am_D (d + 22)) m_0_17 (.inl 4) [some (am_r (am_a 1)), some (am_i (n : Int)), some (am_i v3)] [am_i 1, am_r (am_a 1)] (zS L, am_up h2 1 3 (h2 36 8)) else am_E (am_D (d + 22)) m_0_17 (.inl 4) [some (am_r (am_a 1)), some (am_i (n : Int)), some (am_i v3)] [am_i 0, am_r (am_a 1)] (zS L, am_up h2 1 3 (h2 36 8))) = pI L v h1 ∧ h1 1 3 = p ∧ h1 1 24 = 0 ∧ cjR h h1 := fun v h2 p hv hp J => by
    obtain ⟨h1, e1⟩ : ∃ h1, h1 = am_up (am_up h2 1 3 (h2 36 8)) 1 24 0 := ⟨_, rfl⟩
    have f1 : p_fr [] [(1, 3), (1, 24)] h2 h1 := by rw [e1]; exact ((p_fr.refl h2).upf _ _ _ rfl).upf _ _ _ rfl
    refine ⟨h1, by rw [p_xI, if_neg hv, q_0_17_4, p_bit0, if_pos rfl, ← e1], by rw [e1, p_up_n _ _ _ _ _ _ (Or.inr (by decide)), p_up_s]; exact hp, by rw [e1, p_up_s], J.step (f1.mono rfl rfl) (fun k => ⟨f1 1 2 rfl rfl, fun c hc => by rw [e1, p_up_n _ _ _ _ _ _ (Or.inl (by omega)), p_up_n _ _ _ _ _ _ (Or.inl (by omega))], ?_, ?_, ?_, ?_⟩)⟩
    · rw [f1.cell 74 rfl rfl]
    · rw [f1.cell 75 rfl rfl]
    · rw [f1.cell 76 rfl rfl]
    · rw [f1.cell 77 rfl rfl]
  have jy : ∀ {x y : am_H}, cjR h x → kfy x y → cjR h y := fun {x y} J f => J.step (ch_kfy f) (fun k => ⟨f 1 2 (by decide) (by decide) (by decide) (by decide) (fun e => by cases e), fun c hc => f c k (by omega) (by omega) (by omega) (by omega) (fun e => by omega), f 74 k (by decide) (by decide) (by decide) (by decide) (fun e => by cases e), f 75 k (by decide) (by decide) (by decide) (by decide) (fun e => by cases e), f 76 k (by decide) (by decide) (by decide) (by decide) (fun e => by cases e), f 77 k (by decide) (by decide) (by decide) (by decide) (fun e => by cases e)⟩)
  have X := kx_chips (d := d + 14) (L := L) (V := V) (M := Z + 1) (u1 := some (am_i (n : Int))) (u2 := none) (by omega) (Z + 1) (i := 0) (acc := []) Nb Cb (by omega)
  cases hx : c_chs K V (Z + 1) (Z + 1) [] 0 with
  | inl e =>
    rw [hx] at X
    dsimp only at X ⊢
    obtain ⟨h2, r2, p2, -, f2⟩ := X
    have ep := c_chs_p T (show Z < Z + 1 by omega) (Z + 1) hx (Nat.zero_le _) (by omega)
    rw [rb, r2]
    exact fault e.1 h2 _ (by omega) p2 (Jb.step (ch_kfa f2) (fun k => ⟨f2.1 1 2 (by omega) (by decide), fun c hc => f2.1 c k (by omega) (by omega), f2.1 74 k (by omega) (by decide), f2.1 75 k (by omega) (by decide), f2.1 76 k (by omega) (by decide), f2.1 77 k (by omega) (by decide)⟩))
  | inr chs =>
    rw [hx] at X
    dsimp only at X ⊢
    obtain ⟨h2, r2, R2, C2, f2⟩ := X
    obtain ⟨e, t1, t2, ⟨l1, l2⟩, E, CT, -⟩ := ch_read T hv (show Z < Z + 1 by omega) hx
    have J2 : cjR h h2 := Jb.step (ch_kfs f2) (fun k => ⟨f2.1 1 2 (by omega) (by decide), fun c hc => f2.1 c k (by omega) (by omega), f2.1 74 k (by omega) (by decide), f2.1 75 k (by omega) (by decide), f2.1 76 k (by omega) (by decide), f2.1 77 k (by omega) (by decide)⟩)
    have e82 : h2 36 8 = -1 := by rw [f2.2 8 (by decide) (by decide)]; exact e8
    have Y := ky_all (d := d + 14) (L := L) (P := P) E CT l1 R2 C2 J2.2.2.2.1 (some (am_i (n : Int)))
    cases hk : cksS K V chs chs 0 with
    | some e =>
      rw [hk] at Y
      dsimp only at Y ⊢
      obtain ⟨h3, r3, p3, -, f3⟩ := Y
      have ep := cksS_p chs hk
      have r3' : am_E (am_D (d + 21)) m_4_13 (.inl 2) [some (am_r (am_a 36)), some (am_i (n : Int)), some (am_i 0)] [] (zS L, h2) = pI L e.1 h3 := r3
      have r2' : am_E (am_D (d + 21)) m_4_13 (.inl 1) [some (am_r (am_a 36)), some (am_i (n : Int)), none] [] (zS L, b) = am_E (am_D (d + 21)) m_4_13 (.inl 2) [some (am_r (am_a 36)), some (am_i (n : Int)), some (am_i 0)] [] (zS L, h2) := r2
      rw [rb, r2', r3']
      exact fault e.1 h3 _ (by omega) p3 (jy J2 f3)
    | none =>
      rw [hk] at Y
      dsimp only at Y ⊢
      obtain ⟨h3, r3, LA, f3, p3⟩ := Y
      have r3' : am_E (am_D (d + 21)) m_4_13 (.inl 2) [some (am_r (am_a 36)), some (am_i (n : Int)), some (am_i 0)] [] (zS L, h2) = am_E (am_D (d + 21)) m_4_13 (.inl 4) [some (am_r (am_a 36)), some (am_i (n : Int)), some (am_i 0)] [] (zS L, h3) := r3
      have r2' : am_E (am_D (d + 21)) m_4_13 (.inl 1) [some (am_r (am_a 36)), some (am_i (n : Int)), none] [] (zS L, b) = am_E (am_D (d + 21)) m_4_13 (.inl 2) [some (am_r (am_a 36)), some (am_i (n : Int)), some (am_i 0)] [] (zS L, h2) := r2
      have J3 := jy J2 f3
      have hq : ∀ ch ∈ chs, ∀ q ∈ ch.2.2.2.1, q.1 ≤ Z ∧ kOf V chs (V q.1) ≠ none := fun ch hch q hq => ⟨by have := ((CT ch hch).2.2.2 q hq).1.1; omega, ck_kd hk ch hch q hq⟩
      have W := ky_rings (d := d + 18) (L := L) (K := K) (P := P) hq (some (am_i (n : Int))) chs.length 0 (h := h3) (by omega) LA.1.1 LA.1.2.1 (fun c' hc' => absurd hc' (Nat.not_lt_zero _))
      rw [Nat.sub_self, show ((0 : Nat) : Int) = 0 from rfl] at W
      rcases W with ⟨c, ch, h4, w1, w2, w3, w4, w5, -, w7⟩ | ⟨w1, h4, w2, w3⟩
      · left
        have w4' : am_E (am_D (d + 21)) m_4_13 (.inl 4) [some (am_r (am_a 36)), some (am_i (n : Int)), some (am_i 0)] [] (zS L, h3) = pI L 6 h4 := w4
        obtain ⟨h1, q1, q2, q3, q4⟩ := fault 6 h4 _ (by decide) w5 (jy J3 w7)
        exact ⟨c, ch, h1, w1, w2, w3, by rw [rb, r2', r3', w4']; exact q1, q2, q3, q4⟩
      · right
        refine ⟨w1, ?_⟩
        have w2' : am_E (am_D (d + 21)) m_4_13 (.inl 4) [some (am_r (am_a 36)), some (am_i (n : Int)), some (am_i 0)] [] (zS L, h3) = pI L 0 h4 := w2
        obtain ⟨h1, e1⟩ : ∃ h1, h1 = am_up (am_up h4 1 3 (h4 36 8)) 1 24 1 := ⟨_, rfl⟩
        have f1 : p_fr [] [(1, 3), (1, 24)] h4 h1 := by rw [e1]; exact ((p_fr.refl h4).upf _ _ _ rfl).upf _ _ _ rfl
        have Z3 : kZ K V P Z chs h3 := ⟨LA.1, fun c ch hc j hj => LA.2.2.2 c ch hc (List.getElem?_eq_some_iff.1 hc).1 j hj⟩
        have e84 : h4 36 8 = -1 := by rw [w3 36 8 rfl rfl, p3]; exact e82
        have J4 : cjR h h4 := J3.step (by
          intro c k hc hf
          have := chC_n hc
          exact w3 c k (by simp; omega) rfl) (fun k => ⟨w3 1 2 rfl rfl, fun c hc => w3 c k (by simp; omega) rfl, w3 74 k rfl rfl, w3 75 k rfl rfl, w3 76 k rfl rfl, w3 77 k rfl rfl⟩)
        refine ⟨h1, (Z3.fr2 (h' := h4) (fun c k hc => w3 c k (by simp; omega) rfl)).fr2 (fun c k hc => f1 c k rfl (by simp; omega)), by rw [e1, p_up_n _ _ _ _ _ _ (Or.inr (by decide)), p_up_s]; exact e84, J4.step (f1.mono rfl rfl) (fun k => ⟨f1 1 2 rfl rfl, fun c hc => by rw [e1, p_up_n _ _ _ _ _ _ (Or.inl (by omega)), p_up_n _ _ _ _ _ _ (Or.inl (by omega))], by rw [f1.cell 74 rfl rfl], by rw [f1.cell 75 rfl rfl], by rw [f1.cell 76 rfl rfl], by rw [f1.cell 77 rfl rfl]⟩), ?_⟩
        rw [rb, r2', r3', w2', p_xI, if_pos rfl, q_0_17_4, p_bit1, if_neg (by decide), ← e1]
end
