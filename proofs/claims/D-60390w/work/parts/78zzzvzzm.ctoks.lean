/-! CHIPS, 65: tokens of both sides belong together -/
section
variable (t : Nat → Int) (n : Nat)
/-- a token of both sides; N: all names -/
def NTk (N : List (List Int)) (p : Nat) (q : Int × Int × Int) (r : Int × Int × Int × Int) : Prop :=
  (∃ e, p < e ∧ e ≤ n ∧ e - p ≤ 16 ∧ (∀ j, p ≤ j → j < e → lx_part (t j)) ∧ lx_span t p e ∈ N ∧ q.1 = (if N.idxOf (lx_span t p e) < 6 then 1 else 2) ∧ q.2.1 = ((N.idxOf (lx_span t p e) : Nat) : Int) ∧ r = ((if lx_span t p e ∈ cx_ws then 5 else 1), (p : Int), ((e - p : Nat) : Int), wo_idx cx_ws (lx_span t p e)))
  ∨ (q.1 = 3 ∧ r.1 = 2 ∧ r.2.2.2 = q.2.1 ∧ 0 ≤ q.2.1 ∧ q.2.1 ≤ 99)
  ∨ (q.1 = 4 ∧ r.1 = 4 ∧ r.2.2.2 = (if q.2.1 = 256 then 46 else q.2.1) ∧ q.2.1 ≠ 46)
/-- the last token -/
def LTk (c : Nat) (q : Int × Int × Int) (r : Int × Int × Int × Int) : Prop := q.1 = 0 ∧ r.1 = 0 ∨ q.1 = 5 ∧ r.1 = 6 ∨ c = 2000 ∧ (1 ≤ q.1 ∧ q.1 ≤ 4) ∧ r.1 = 7
end
section
variable {t : Nat → Int} {n : Nat}
theorem idx_app {N E : List (List Int)} {w : List Int} (h : w ∈ N) : (N ++ E).idxOf w = N.idxOf w := by rw [List.idxOf_append, if_pos h]
theorem pn_add_app (N : List (List Int)) (w : List Int) : ∃ E, pn_add N w = N ++ E := by
  by_cases c : w ∈ N
  · exact ⟨[], by rw [pn_add_old c, List.append_nil]⟩
  · exact ⟨[w], pn_add_new c⟩
theorem cx_res_app (N : List (List Int)) (k : Nat) : ∃ E, (cx_res t n N k).2.1 = N ++ E := by
  unfold cx_res
  by_cases c : (cx_tok t n k).1 = 2
  · rw [if_pos c]; exact pn_add_app N _
  · rw [if_neg c]; exact ⟨[], by rw [List.append_nil]⟩
/-- one token, when no name goes -/
theorem tk_one {N N' E : List (List Int)} {p : Nat} (hp : p < n) (e : N' = (cx_res t n N p).2.1 ++ E) (h0 : ∃ E0, N = cx_N0 ++ E0) (h5 : (cx_tok t n p).1 ≠ 5) : NTk t n N' p (cx_res t n N p).1 (cx_mtok t n p) ∧ (1 ≤ (cx_res t n N p).1.1 ∧ (cx_res t n N p).1.1 ≤ 4) ∧ (cx_mtok t n p).2.1 = (p : Int) := by
  obtain ⟨r1, r2, r3, r4, r5⟩ := cx_tok_rg (t := t) hp
  by_cases c2 : (cx_tok t n p).1 = 2
  · obtain ⟨a1, a2, a3, a4⟩ := r4 c2
    have wr := (lx_word_rg (t := t) (n := n) n p (by omega) (by omega)).2.2.1
    have er : cx_res t n N p = (((if N.idxOf (lx_span t p (cx_tok t n p).2.2) < 6 then 1 else 2 : Int), ((N.idxOf (lx_span t p (cx_tok t n p).2.2) : Nat) : Int), (p : Int)), pn_add N (lx_span t p (cx_tok t n p).2.2), (cx_tok t n p).2.2) := by unfold cx_res; rw [if_pos c2]
    have em : cx_mtok t n p = ((if lx_span t p (cx_tok t n p).2.2 ∈ cx_ws then 5 else 1), (p : Int), (((cx_tok t n p).2.2 - p : Nat) : Int), wo_idx cx_ws (lx_span t p (cx_tok t n p).2.2)) := by unfold cx_mtok; rw [if_pos c2]
    rw [er] at e
    dsimp only at e
    obtain ⟨m1, m2⟩ := pn_add_mem N (lx_span t p (cx_tok t n p).2.2)
    have ix : N'.idxOf (lx_span t p (cx_tok t n p).2.2) = N.idxOf (lx_span t p (cx_tok t n p).2.2) := by rw [e, idx_app m1, m2]
    rw [er, em]
    dsimp only
    refine ⟨Or.inl ⟨(cx_tok t n p).2.2, r1, r2, a2, fun j h1 h2 => wr j h1 (by omega), by rw [e]; exact List.mem_append.2 (Or.inl m1), by rw [ix], by rw [ix], rfl⟩, by split <;> omega, rfl⟩
  · have er : cx_res t n N p = (((cx_tok t n p).1, (cx_tok t n p).2.1, (p : Int)), N, (cx_tok t n p).2.2) := by unfold cx_res; rw [if_neg c2]
    by_cases c3 : (cx_tok t n p).1 = 3
    · have em : cx_mtok t n p = (2, (p : Int), (((cx_tok t n p).2.2 - p : Nat) : Int), (cx_tok t n p).2.1) := by unfold cx_mtok; rw [if_neg c2, if_pos c3]
      rw [er, em]
      exact ⟨Or.inr (Or.inl ⟨c3, rfl, rfl, r5 c3⟩), by dsimp only; omega, rfl⟩
    · have em : cx_mtok t n p = (4, (p : Int), (((cx_tok t n p).2.2 - p : Nat) : Int), t p) := by unfold cx_mtok; rw [if_neg c2, if_neg c3]
      have k4 : (cx_tok t n p).1 = 4 := by omega
      have v4 : t p = (if (cx_tok t n p).2.1 = 256 then 46 else (cx_tok t n p).2.1) ∧ (cx_tok t n p).2.1 ≠ 46 := by
        unfold cx_tok at k4 ⊢
        split at k4
        · split at k4
          · exact absurd (show (5 : Int) = 4 from k4) (by decide)
          · exact absurd (show (2 : Int) = 4 from k4) (by decide)
        · rename_i z1
          rw [if_neg z1]
          split at k4
          · split at k4
            · exact absurd (show (3 : Int) = 4 from k4) (by decide)
            · exact absurd (show (5 : Int) = 4 from k4) (by decide)
          · rename_i z2
            rw [if_neg z2]
            split at k4
            · rename_i z3
              rw [if_pos z3]
              exact ⟨by rw [if_pos rfl]; exact z3.1, show (256 : Int) ≠ 46 by decide⟩
            · rename_i z3
              rw [if_neg z3]
              split at k4
              · rename_i z4
                rw [if_pos z4]
                have : t p ≠ 256 ∧ t p ≠ 46 := by unfold cx_sg at z4; omega
                exact ⟨by rw [if_neg this.1], this.2⟩
              · exact absurd (show (5 : Int) = 4 from k4) (by decide)
      rw [er, em]
      exact ⟨Or.inr (Or.inr ⟨k4, rfl, v4.1, v4.2⟩), by dsimp only; omega, rfl⟩
theorem tk_rel : ∀ (m c k : Nat) (N : List (List Int)), k ≤ n → n < k + m → c ≤ 2000 → (∃ E0, N = cx_N0 ++ E0) → ((cx_toks t n 2000 m c k N).1.length = (cx_mods t n 2000 m c k).length ∧ 1 ≤ (cx_toks t n 2000 m c k N).1.length ∧ c + (cx_toks t n 2000 m c k N).1.length ≤ 2001) ∧ (∃ E, (cx_toks t n 2000 m c k N).2 = N ++ E) ∧ ∀ (i : Nat) (q : Int × Int × Int), (cx_toks t n 2000 m c k N).1[i]? = some q → ∃ (r : Int × Int × Int × Int) (p : Nat), (cx_mods t n 2000 m c k)[i]? = some r ∧ q.2.2 = (p : Int) ∧ r.2.1 = (p : Int) ∧ k ≤ p ∧ p ≤ n ∧ (i + 1 < (cx_toks t n 2000 m c k N).1.length → p < n ∧ NTk t n (cx_toks t n 2000 m c k N).2 p q r ∧ (1 ≤ q.1 ∧ q.1 ≤ 4) ∧ ∀ q', (cx_toks t n 2000 m c k N).1[i + 1]? = some q' → q.2.2 < q'.2.2) ∧ (i + 1 = (cx_toks t n 2000 m c k N).1.length → LTk (c + i) q r)
  | 0, c, k, N, hk, hm, hc, h0 => by omega
  | m + 1, c, k, N, hk, hm, hc, h0 => by
    obtain ⟨s1, s2, s3, s4⟩ := lx_skip_rg t n (n + 1) k hk (by omega)
    have one : ∀ (q : Int × Int × Int) (r : Int × Int × Int × Int) (N' : List (List Int)), (∃ E, N' = N ++ E) → q.2.2 = (((lx_skip t n (n + 1) k).2 : Nat) : Int) → r.2.1 = (((lx_skip t n (n + 1) k).2 : Nat) : Int) → LTk c q r → (([q] : List (Int × Int × Int)).length = ([r] : List (Int × Int × Int × Int)).length ∧ 1 ≤ ([q] : List (Int × Int × Int)).length ∧ c + ([q] : List (Int × Int × Int)).length ≤ 2001) ∧ (∃ E, N' = N ++ E) ∧ ∀ (i : Nat) (q1 : Int × Int × Int), ([q] : List (Int × Int × Int))[i]? = some q1 → ∃ (r1 : Int × Int × Int × Int) (p : Nat), ([r] : List (Int × Int × Int × Int))[i]? = some r1 ∧ q1.2.2 = (p : Int) ∧ r1.2.1 = (p : Int) ∧ k ≤ p ∧ p ≤ n ∧ (i + 1 < ([q] : List (Int × Int × Int)).length → p < n ∧ NTk t n N' p q1 r1 ∧ (1 ≤ q1.1 ∧ q1.1 ≤ 4) ∧ ∀ q', ([q] : List (Int × Int × Int))[i + 1]? = some q' → q1.2.2 < q'.2.2) ∧ (i + 1 = ([q] : List (Int × Int × Int)).length → LTk (c + i) q1 r1) := by
      intro q r N' hE e1 e2 lt
      refine ⟨⟨rfl, Nat.le_refl _, by show c + 1 ≤ 2001; omega⟩, hE, fun i q1 hi => ?_⟩
      have il := (List.getElem?_eq_some_iff.1 hi).1
      have i0 : i = 0 := by simp at il; omega
      subst i0
      injection hi with hi
      subst hi
      exact ⟨r, _, rfl, e1, e2, s1, s2, fun z => absurd z (by simp), fun _ => lt⟩
    have noE : ∃ E, N = N ++ E := ⟨[], by rw [List.append_nil]⟩
    unfold cx_toks cx_mods
    by_cases c1 : (lx_skip t n (n + 1) k).1 = false
    · rw [if_pos c1, if_pos c1]
      exact one _ _ _ noE rfl rfl (Or.inr (Or.inl ⟨rfl, rfl⟩))
    · rw [if_neg c1, if_neg c1]
      by_cases c2 : n ≤ (lx_skip t n (n + 1) k).2
      · rw [if_pos c2, if_pos c2]
        exact one _ _ _ noE rfl (by show (n : Int) = _; omega) (Or.inl ⟨rfl, rfl⟩)
      · rw [if_neg c2, if_neg c2]
        have hlt : (lx_skip t n (n + 1) k).2 < n := by omega
        obtain ⟨b1, b2, b3, b4, b5, b6⟩ := cx_res_rg (t := t) (N := N) hlt
        have rE := cx_res_app (t := t) (n := n) N (lx_skip t n (n + 1) k).2
        generalize hpp : (lx_skip t n (n + 1) k).2 = p at *
        by_cases c3 : (cx_tok t n p).1 = 5
        · rw [if_pos (Or.inl (b5.2 c3)), if_pos c3]
          exact one _ _ _ rE (by rw [b6]) rfl (Or.inr (Or.inl ⟨b5.2 c3, rfl⟩))
        · have n5 : (cx_res t n N p).1.1 ≠ 5 := fun z => c3 (b5.1 z)
          rw [if_neg c3]
          by_cases c4 : 2000 < c + 1
          · obtain ⟨-, o2, o3⟩ := tk_one (t := t) (N := N) (E := []) hlt (List.append_nil _).symm h0 c3
            rw [if_pos (Or.inr c4), if_pos c4]
            exact one _ _ _ rE (by rw [b6]) (by rw [← o3]) (Or.inr (Or.inr ⟨by omega, o2, rfl⟩))
          · rw [if_neg (fun z => z.elim n5 c4), if_neg c4]
            have h0' : ∃ E0, (cx_res t n N p).2.1 = cx_N0 ++ E0 := by
              obtain ⟨E, hE⟩ := rE
              obtain ⟨E0, hE0⟩ := h0
              exact ⟨E0 ++ E, by rw [hE, hE0, List.append_assoc]⟩
            obtain ⟨⟨l1, l2, l3⟩, ⟨E, hE⟩, IH⟩ := tk_rel m (c + 1) (cx_res t n N p).2.2 (cx_res t n N p).2.1 b2 (by omega) (by omega) h0'
            rw [b3] at l1 l2 l3 hE IH ⊢
            obtain ⟨o1, o2, o3⟩ := tk_one (t := t) (N := N) hlt hE h0 c3
            have p1 : p < (cx_tok t n p).2.2 := by rw [← b3]; exact b1
            refine ⟨⟨by rw [List.length_cons, List.length_cons, l1], by rw [List.length_cons]; omega, by rw [List.length_cons]; omega⟩, ?_, fun i q hi => ?_⟩
            · obtain ⟨E2, hE2⟩ := rE
              exact ⟨E2 ++ E, by rw [hE, hE2, List.append_assoc]⟩
            · cases i with
              | zero =>
                injection hi with hi
                subst hi
                refine ⟨cx_mtok t n p, p, rfl, b6, o3, s1, s2, fun _ => ⟨hlt, o1, o2, fun q' hq' => ?_⟩, fun z => ?_⟩
                · obtain ⟨r', p', -, e1, -, e3, -⟩ := IH 0 q' hq'
                  rw [b6, e1]; omega
                · rw [List.length_cons] at z; omega
              | succ i =>
                obtain ⟨r', p', e0, e1, e2, e3, e4, e5, e6⟩ := IH i q hi
                refine ⟨r', p', e0, e1, e2, by omega, e4, fun z => ?_, fun z => ?_⟩
                · rw [List.length_cons] at z
                  exact e5 (by omega)
                · rw [List.length_cons] at z
                  rw [show c + (i + 1) = c + 1 + i by omega]
                  exact e6 (by omega)
/-- kinds, values, places, words -/
def tkK (tl : List (Int × Int × Int)) (i : Nat) : Int := match tl[i]? with | some q => (if i = 2000 ∧ 1 ≤ q.1 ∧ q.1 ≤ 4 then 7 else q.1) | none => 0
def tkV (tl : List (Int × Int × Int)) (i : Nat) : Int := match tl[i]? with | some q => q.2.1 | none => 0
def tkPx (tl : List (Int × Int × Int)) (i : Nat) : Int := match tl[i]? with | some q => q.2.2 | none => 0
def tkW (t : Nat → Int) (ml : List (Int × Int × Int × Int)) (i : Nat) : List Int := match ml[i]? with | some r => lx_span t r.2.1.toNat (r.2.1.toNat + r.2.2.1.toNat) | none => []
theorem N0_ix {E : List (List Int)} {w : List Int} (hm : w ∈ cx_N0 ++ E) : (((cx_N0 ++ E).idxOf w < 6 ↔ w ∈ cx_ws) ∧ (w ∈ cx_ws → wo_idx cx_ws w = (((cx_N0 ++ E).idxOf w : Nat) : Int))) ∧ wo_idx gwd w = gix (((cx_N0 ++ E).idxOf w : Nat) : Int) ∧ wo_idx pwd w = pix (((cx_N0 ++ E).idxOf w : Nat) : Int) := by
  by_cases c : w ∈ cx_N0
  · rw [idx_app c]
    have : ∀ w ∈ cx_N0, ((cx_N0.idxOf w < 6 ↔ w ∈ cx_ws) ∧ (w ∈ cx_ws → wo_idx cx_ws w = ((cx_N0.idxOf w : Nat) : Int))) ∧ wo_idx gwd w = gix ((cx_N0.idxOf w : Nat) : Int) ∧ wo_idx pwd w = pix ((cx_N0.idxOf w : Nat) : Int) := by decide
    exact this w c
  · have ix : (cx_N0 ++ E).idxOf w = E.idxOf w + 12 := by
      rw [List.idxOf_append, if_neg c]; rfl
    have nw : w ∉ cx_ws := fun z => c (List.mem_append.2 (Or.inl z))
    have ng : w ∉ gwd := fun z => c (by revert z; unfold gwd; intro z; simp at z; rcases z with rfl | rfl <;> decide)
    have np : w ∉ pwd := fun z => c (by revert z; unfold pwd; intro z; simp at z; rcases z with rfl | rfl | rfl | rfl <;> decide)
    rw [ix]
    refine ⟨⟨⟨fun z => by omega, fun z => absurd z nw⟩, fun z => absurd z nw⟩, ?_, ?_⟩
    · unfold wo_idx gix; rw [if_neg ng, if_neg (by omega), if_neg (by omega)]
    · unfold wo_idx pix; rw [if_neg np, if_neg (by omega), if_neg (by omega), if_neg (by omega), if_neg (by omega)]
/-- what both sides have when they have cut the text -/
theorem tk_R (t : Nat → Int) (hn : n ≤ 4000) : ∃ (K V P : Nat → Int) (W : Nat → List Int) (Z : Nat), (∀ (hc : am_H) (k' : Nat), kc_S t n k' (cx_toks t n 2000 (n + 1) 0 0 cx_N0).1 (cx_toks t n 2000 (n + 1) 0 0 cx_N0).2 hc → kR K V P Z hc) ∧ (∀ hm : am_H, lm_S t n (cx_mods t n 2000 (n + 1) 0 0) hm → mR K V P W Z hm) ∧ mWd K V W Z ∧ (∀ x y, x < y → y ≤ Z → P x < P y) ∧ (∀ j, K j = 3 → 0 ≤ V j ∧ V j ≤ 99) ∧ K 0 ≠ 7 := by
  obtain ⟨⟨l1, l2, l3⟩, ⟨E, hE⟩, T⟩ := tk_rel (t := t) (n := n) (n + 1) 0 0 cx_N0 (Nat.zero_le _) (by omega) (by decide) ⟨[], by rw [List.append_nil]⟩
  obtain ⟨tl, etl⟩ : ∃ tl, tl = (cx_toks t n 2000 (n + 1) 0 0 cx_N0).1 := ⟨_, rfl⟩
  obtain ⟨N, eN⟩ : ∃ N, N = (cx_toks t n 2000 (n + 1) 0 0 cx_N0).2 := ⟨_, rfl⟩
  obtain ⟨ml, eml⟩ : ∃ ml, ml = cx_mods t n 2000 (n + 1) 0 0 := ⟨_, rfl⟩
  rw [← etl, ← eN, ← eml]
  rw [← etl, ← eml] at l1
  rw [← etl] at l2 l3
  rw [← eN] at hE
  rw [← etl, ← eml, ← eN] at T
  have at_ : ∀ i, i < tl.length → ∃ (q : Int × Int × Int) (r : Int × Int × Int × Int) (p : Nat), tl[i]? = some q ∧ ml[i]? = some r ∧ q.2.2 = (p : Int) ∧ r.2.1 = (p : Int) ∧ p ≤ n ∧ (i + 1 < tl.length → p < n ∧ NTk t n N p q r ∧ (1 ≤ q.1 ∧ q.1 ≤ 4) ∧ ∀ q', tl[i + 1]? = some q' → q.2.2 < q'.2.2) ∧ (i + 1 = tl.length → LTk i q r) := fun i hi => by
    obtain ⟨r, p, a1, a2, a3, -, a5, a6, a7⟩ := T i tl[i] (List.getElem?_eq_getElem hi)
    rw [Nat.zero_add] at a7
    exact ⟨tl[i], r, p, List.getElem?_eq_getElem hi, a1, a2, a3, a5, a6, a7⟩
  have kK : ∀ {i q}, tl[i]? = some q → tkK tl i = (if i = 2000 ∧ 1 ≤ q.1 ∧ q.1 ≤ 4 then 7 else q.1) := fun {i q} h => by unfold tkK; rw [h]
  have kV : ∀ {i q}, tl[i]? = some q → tkV tl i = q.2.1 := fun {i q} h => by unfold tkV; rw [h]
  have kP : ∀ {i q}, tl[i]? = some q → tkPx tl i = q.2.2 := fun {i q} h => by unfold tkPx; rw [h]
  have kW : ∀ {i r}, ml[i]? = some r → tkW t ml i = lx_span t r.2.1.toNat (r.2.1.toNat + r.2.2.1.toNat) := fun {i r} h => by unfold tkW; rw [h]
  have norm : ∀ i, i + 1 < tl.length → ∀ q, tl[i]? = some q → tkK tl i = q.1 := fun i hi q hq => by rw [kK hq, if_neg (by omega)]
  have cTt : cT (tkK tl) (tl.length - 1) := by
    obtain ⟨q, r, p, a1, -, -, -, -, -, a7⟩ := at_ (tl.length - 1) (by omega)
    have kz := kK a1
    refine ⟨by omega, ?_, fun i hi => ?_, ?_⟩
    · rcases a7 (by omega) with ⟨z, -⟩ | ⟨z, -⟩ | ⟨z1, z2, -⟩
      · rw [kz, if_neg (by omega)]; exact Or.inl z
      · rw [kz, if_neg (by omega)]; exact Or.inr (Or.inl z)
      · rw [kz, if_pos ⟨z1, z2⟩]; exact Or.inr (Or.inr rfl)
    · obtain ⟨q, r, p, a1, -, -, -, -, a6, -⟩ := at_ i (by omega)
      rw [norm i (by omega) q a1]; exact (a6 (by omega)).2.2.1
    · rcases a7 (by omega) with ⟨z, -⟩ | ⟨z, -⟩ | ⟨z1, z2, -⟩
      · right; rw [kz, if_neg (by omega), z]; decide
      · right; rw [kz, if_neg (by omega), z]; decide
      · exact Or.inl z1
  -- words
  have word : ∀ i, i ≤ tl.length - 1 → (tkK tl i = 1 ∨ tkK tl i = 2) → ∃ (p e : Nat) (r : Int × Int × Int × Int), tkPx tl i = (p : Int) ∧ ml[i]? = some r ∧ p < e ∧ e ≤ n ∧ e - p ≤ 16 ∧ (∀ j, p ≤ j → j < e → lx_part (t j)) ∧ lx_span t p e ∈ N ∧ tkK tl i = (if N.idxOf (lx_span t p e) < 6 then 1 else 2) ∧ tkV tl i = ((N.idxOf (lx_span t p e) : Nat) : Int) ∧ tkW t ml i = lx_span t p e ∧ r = ((if lx_span t p e ∈ cx_ws then 5 else 1), (p : Int), ((e - p : Nat) : Int), wo_idx cx_ws (lx_span t p e)) := fun i hi hk => by
    obtain ⟨q, r, p, a1, a2, a3, a4, a5, a6, a7⟩ := at_ i (by omega)
    have nl : i + 1 < tl.length := by
      rcases Nat.lt_or_ge (i + 1) tl.length with z | z
      · exact z
      · exfalso
        have kz := kK a1
        rcases a7 (by omega) with ⟨w, -⟩ | ⟨w, -⟩ | ⟨w1, w2, -⟩
        · rw [if_neg (by omega)] at kz; omega
        · rw [if_neg (by omega)] at kz; omega
        · rw [if_pos ⟨w1, w2⟩] at kz; omega
    have kn := norm i nl q a1
    rcases (a6 nl).2.1 with ⟨e, b1, b2, b3, b4, b5, b6, b7, b8⟩ | ⟨b1, -⟩ | ⟨b1, -⟩
    · refine ⟨p, e, r, by rw [kP a1, a3], a2, b1, b2, b3, b4, b5, by rw [kn]; exact b6, by rw [kV a1]; exact b7, ?_, b8⟩
      rw [kW a2, b8]
      dsimp only
      rw [Int.toNat_natCast, Int.toNat_natCast, show p + (e - p) = e by omega]
    · omega
    · omega
  refine ⟨tkK tl, tkV tl, tkPx tl, tkW t ml, tl.length - 1, fun hc k' C => ⟨cTt, fun i hi => ?_⟩, fun hm M => ⟨cTt, fun i hi => ?_, fun i hi hk => ?_, fun a b ha hb ka kb => ?_⟩, fun i hi hk => ?_, ?_, fun j hj => ?_, ?_⟩
  · have kc := C.2.2.1.2
    obtain ⟨q, r, p, a1, a2, a3, a4, a5, a6, a7⟩ := at_ i (by omega)
    obtain ⟨c1, c2, c3⟩ := kc i q a1
    rw [kK a1, kV a1, kP a1]
    refine ⟨fun z => ?_, fun z => ?_, c2, c3⟩
    · by_cases w : i = 2000 ∧ 1 ≤ q.1 ∧ q.1 ≤ 4
      · rw [if_pos w] at z; exact absurd rfl z
      · rw [if_neg w]; exact c1
    · by_cases w : i = 2000 ∧ 1 ≤ q.1 ∧ q.1 ≤ 4
      · rw [c1]; exact w.2
      · rw [if_neg w] at z
        exfalso
        rcases Nat.lt_or_ge (i + 1) tl.length with y | y
        · have := (a6 y).2.2.1; omega
        · rcases a7 (by omega) with ⟨v, -⟩ | ⟨v, -⟩ | ⟨v1, v2, -⟩ <;> omega
  · obtain ⟨q, r, p, a1, a2, a3, a4, a5, a6, a7⟩ := at_ i (by omega)
    obtain ⟨c1, c2, c3, c4⟩ := M.2.2 i r a2
    have kz := kK a1
    rcases Nat.lt_or_ge (i + 1) tl.length with nl | nl
    · rw [if_neg (by omega)] at kz
      obtain ⟨-, nt, k14, -⟩ := a6 nl
      rw [kz, kV a1, kP a1, c1, c2, c4]
      rcases nt with ⟨e, b1, b2, b3, b4, b5, b6, b7, b8⟩ | ⟨b1, b2, b3, b4⟩ | ⟨b1, b2, b3, b4⟩
      · obtain ⟨⟨n1, n2⟩, -⟩ := N0_ix (E := E) (w := lx_span t p e) (by rw [← hE]; exact b5)
        rw [← hE] at n1 n2
        rw [b8]
        dsimp only
        by_cases cw : N.idxOf (lx_span t p e) < 6
        · rw [if_pos cw] at b6
          rw [b6, if_pos (n1.1 cw), b7]
          exact ⟨rfl, a3.symm, fun _ => n2 (n1.1 cw), fun z => absurd z (by decide), by decide⟩
        · rw [if_neg cw] at b6
          rw [b6, if_neg (fun z => cw (n1.2 z))]
          exact ⟨rfl, a3.symm, fun z => by rcases z with z | z <;> exact absurd z (by decide), fun z => absurd z (by decide), by decide⟩
      · rw [b1, b2, a4]
        exact ⟨rfl, a3.symm, fun _ => b3, fun z => absurd z (by decide), by decide⟩
      · rw [b1, b2, a4]
        exact ⟨rfl, a3.symm, fun z => by rcases z with z | z <;> exact absurd z (by decide), fun _ => ⟨b3, b4⟩, by decide⟩
    · rw [kP a1, c1, c2]
      rcases a7 (by omega) with ⟨w, w'⟩ | ⟨w, w'⟩ | ⟨w1, w2, w'⟩
      · rw [if_neg (by omega), w] at kz
        rw [kz, w', a4]
        exact ⟨rfl, a3.symm, fun z => by rcases z with z | z <;> exact absurd z (by decide), fun z => absurd z (by decide), by decide⟩
      · rw [if_neg (by omega), w] at kz
        rw [kz, w', a4]
        exact ⟨rfl, a3.symm, fun z => by rcases z with z | z <;> exact absurd z (by decide), fun z => absurd z (by decide), by decide⟩
      · rw [if_pos ⟨w1, w2⟩] at kz
        rw [kz, w', a4]
        exact ⟨rfl, a3.symm, fun z => by rcases z with z | z <;> exact absurd z (by decide), fun z => absurd z (by decide), by decide⟩
  · obtain ⟨p, e, r, a1, a2, b1, b2, b3, b4, b5, b6, b7, b8, b9⟩ := word i hi (Or.inr hk)
    obtain ⟨c1, c2, c3, c4⟩ := M.2.2 i r a2
    rw [b8, a1, lx_span_len, c3, b9]
    refine ⟨rfl, ⟨by omega, by omega⟩, ⟨by omega, by rw [Int.toNat_natCast]; omega⟩, fun j x hx => ?_⟩
    obtain ⟨d1, d2⟩ := lx_span_at hx
    rw [Int.toNat_natCast, d2, (M.1.2.2 (p + j) (by omega)).1]
    have := b4 (p + j) (by omega) (by omega)
    unfold lx_part lx_digit lx_letter at this
    exact ⟨rfl, by omega⟩
  · obtain ⟨p, e, r, -, -, -, -, -, -, b5, -, b7, b8, -⟩ := word a ha (Or.inr ka)
    obtain ⟨p', e', r', -, -, -, -, -, -, b5', -, b7', b8', -⟩ := word b hb (Or.inr kb)
    rw [b7, b7', b8, b8']
    constructor
    · intro z
      have z' := Int.natCast_inj.1 z
      have g1 := List.getElem_idxOf (List.idxOf_lt_length_of_mem b5)
      have g2 := List.getElem_idxOf (List.idxOf_lt_length_of_mem b5')
      rw [← g1, ← g2]
      congr 1
    · intro z; rw [z]
  · obtain ⟨p, e, r, -, -, -, -, -, -, b5, -, b7, b8, -⟩ := word i hi (Or.inr hk)
    have nx := (N0_ix (E := E) (w := lx_span t p e) (by rw [← hE]; exact b5)).2
    rw [← hE] at nx
    rw [b7, b8]
    exact nx
  · have step : ∀ i, i + 1 ≤ tl.length - 1 → tkPx tl i < tkPx tl (i + 1) := fun i hi => by
      obtain ⟨q, r, p, a1, a2, a3, a4, a5, a6, a7⟩ := at_ i (by omega)
      obtain ⟨q', r', p', a1', -⟩ := at_ (i + 1) (by omega)
      rw [kP a1, kP a1']
      exact (a6 (by omega)).2.2.2 q' a1'
    intro x y
    induction y with
    | zero => intro h; omega
    | succ y ih =>
      intro h1 h2
      have s := step y h2
      by_cases e : x = y
      · rw [e]; exact s
      · exact Int.lt_trans (ih (by omega) (by omega)) s
  · rcases Nat.lt_or_ge j tl.length with jl | jl
    · obtain ⟨q, r, p, a1, a2, a3, a4, a5, a6, a7⟩ := at_ j jl
      have kz := kK a1
      rw [kV a1]
      rcases Nat.lt_or_ge (j + 1) tl.length with nl | nl
      · rw [if_neg (by omega)] at kz
        rcases (a6 nl).2.1 with ⟨e, b1, b2, b3, b4, b5, b6, b7, b8⟩ | ⟨b1, b2, b3, b4⟩ | ⟨b1, b2, b3, b4⟩
        · exfalso
          rw [kz, b6] at hj
          by_cases cw : N.idxOf (lx_span t p e) < 6
          · rw [if_pos cw] at hj; exact absurd hj (by decide)
          · rw [if_neg cw] at hj; exact absurd hj (by decide)
        · exact b4
        · rw [kz, b1] at hj; exact absurd hj (by decide)
      · exfalso
        rcases a7 (by omega) with ⟨w, w'⟩ | ⟨w, w'⟩ | ⟨w1, w2, w'⟩
        · rw [if_neg (by omega)] at kz; omega
        · rw [if_neg (by omega)] at kz; omega
        · rw [if_pos ⟨w1, w2⟩] at kz; omega
    · unfold tkK at hj
      rw [List.getElem?_eq_none jl] at hj
      exact absurd (show (0 : Int) = 3 from hj) (by decide)
  · obtain ⟨q, r, p, a1, a2, a3, a4, a5, a6, a7⟩ := at_ 0 (by omega)
    rw [kK a1, if_neg (by omega)]
    rcases Nat.lt_or_ge (0 + 1) tl.length with nl | nl
    · have := (a6 nl).2.2.1; omega
    · rcases a7 (by omega) with ⟨w, w'⟩ | ⟨w, w'⟩ | ⟨w1, w2, w'⟩ <;> omega
end
