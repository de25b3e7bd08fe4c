/-! PURE LAYER, 8: both sides' tokens are alike -/
/-- a token of the component and one of the model; F: the names -/
def lr_tok (t : Nat → Int) (F : List (List Int)) (q : Int × Int × Int) (m : Int × Int × Int × Int) : Prop :=
  q.2.2 = m.2.1 ∧ (q.1 = 0 ↔ m.1 = 0) ∧ (q.1 = 6 ↔ m.1 = 6) ∧ (m.1 = 7 ∨ ((q.1 = 1 ↔ m.1 = 5) ∧ (q.1 = 2 ↔ m.1 = 1) ∧ (q.1 = 3 ↔ m.1 = 2) ∧ (q.1 = 4 ↔ m.1 = 3) ∧ (q.1 = 5 ↔ m.1 = 4) ∧ (q.1 ≠ 2 → q.1 ≠ 6 → q.2.1 = m.2.2.2) ∧ (q.1 = 4 → m.2.2.1 = q.2.1 + 2) ∧
    (q.1 = 2 → 21 ≤ q.2.1 ∧ ∃ a z : Nat, m.2.1 = a ∧ m.2.2.1 = z ∧ 1 ≤ z ∧ z ≤ 16 ∧ lx_span t a (a + z) ∈ F ∧ q.2.1 = (F.idxOf (lx_span t a (a + z)) : Nat))))
theorem pn_add_mem (N : List (List Int)) (w : List Int) : w ∈ pn_add N w ∧ (pn_add N w).idxOf w = N.idxOf w := by
  by_cases h : w ∈ N
  · rw [pn_add_old h]; exact ⟨h, rfl⟩
  · rw [pn_add_new h, List.idxOf_append, if_neg h, List.idxOf_eq_length h]
    simp
/-- F holds N's names with their numbers -/
def lr_ext (N F : List (List Int)) : Prop := ∀ w ∈ N, w ∈ F ∧ F.idxOf w = N.idxOf w
theorem lr_ext.refl (N : List (List Int)) : lr_ext N N := fun _ h => ⟨h, rfl⟩
theorem lr_ext.trans {A B C : List (List Int)} (h1 : lr_ext A B) (h2 : lr_ext B C) : lr_ext A C := fun w h => ⟨(h2 w (h1 w h).1).1, by rw [(h2 w (h1 w h).1).2, (h1 w h).2]⟩
theorem lr_ext_add (N : List (List Int)) (w : List Int) : lr_ext N (pn_add N w) := by
  intro v hv
  by_cases h : w ∈ N
  · rw [pn_add_old h]; exact ⟨hv, rfl⟩
  · rw [pn_add_new h, List.idxOf_append, if_pos hv]
    exact ⟨List.mem_append_left _ hv, rfl⟩
theorem lr_ext_res {t : Nat → Int} {n : Nat} (N : List (List Int)) (k : Nat) : lr_ext N (lx_res t n N k).2.1 := by
  unfold lx_res
  split
  · exact lr_ext_add _ _
  · exact lr_ext.refl _
theorem lr_ext_toks {t : Nat → Int} {n most : Nat} : ∀ (m c k : Nat) (N : List (List Int)), lr_ext N (lx_toks t n most m c k N).2
  | 0, c, k, N => lr_ext.refl _
  | m + 1, c, k, N => by
    unfold lx_toks
    split
    · exact lr_ext.refl _
    · split
      · exact lr_ext.refl _
      · split
        · exact lr_ext_res _ _
        · exact (lr_ext_res N (lx_skip t n (n + 1) k).2).trans (lr_ext_toks m (c + 1) _ _)
/-- the words of the language are the first names -/
def lr_W (ws N : List (List Int)) : Prop := ∀ w, (w ∈ ws ↔ N.idxOf w < 21) ∧ (w ∈ ws → N.idxOf w = ws.idxOf w)
theorem lr_W.ext {ws N F : List (List Int)} (W : lr_W ws N) (hN : 21 ≤ N.length) (h : lr_ext N F) (h2 : ∀ w, w ∈ F → F.idxOf w < 21 → w ∈ N) (hF : 21 ≤ F.length) : lr_W ws F := by
  intro w
  have key : w ∈ N → (w ∈ ws ↔ F.idxOf w < 21) ∧ (w ∈ ws → F.idxOf w = ws.idxOf w) := fun hw => by rw [(h w hw).2]; exact W w
  by_cases hw : w ∈ N
  · exact key hw
  · have h3 : w ∉ ws := fun z => hw (by
      have := (W w).1.mp z
      have hl : N.idxOf w < N.length := by omega
      exact List.idxOf_lt_length_iff.mp hl)
    refine ⟨⟨fun z => absurd z h3, fun z => ?_⟩, fun z => absurd z h3⟩
    have hl : F.idxOf w < F.length := by omega
    exact absurd (h2 w (List.idxOf_lt_length_iff.mp hl) z) hw
theorem lr_W.add {ws N : List (List Int)} (W : lr_W ws N) (hN : 21 ≤ N.length) (w : List Int) : lr_W ws (pn_add N w) := by
  refine W.ext hN (lr_ext_add N w) (fun v hv hi => ?_) (by have := pn_add_le N w; omega)
  by_cases h : w ∈ N
  · rw [pn_add_old h] at hv; exact hv
  · rw [pn_add_new h] at hv hi
    by_cases hv2 : v ∈ N
    · exact hv2
    · rw [List.idxOf_append, if_neg hv2] at hi; omega
theorem lr_W.res {ws N : List (List Int)} (W : lr_W ws N) (hN : 21 ≤ N.length) {t : Nat → Int} {n : Nat} (k : Nat) : lr_W ws (lx_res t n N k).2.1 := by
  unfold lx_res
  split
  · exact W.add hN _
  · exact W
theorem lr_one {t : Nat → Int} {n : Nat} {ws N F : List (List Int)} (W : lr_W ws N) {k : Nat} (hk : k < n) (h6 : (lx_tok t n k).1 ≠ 6) (hF : lr_ext (lx_res t n N k).2.1 F) : lr_tok t F (lx_res t n N k).1 (lx_mtok t n ws k) := by
  obtain ⟨b1, b2, b3⟩ := lx_tok_rg hk h6
  by_cases c : (lx_tok t n k).1 = 2
  · have er : lx_res t n N k = (((if N.idxOf (lx_span t k (lx_tok t n k).2.2) < 21 then 1 else 2 : Int), ((N.idxOf (lx_span t k (lx_tok t n k).2.2) : Nat) : Int), (k : Int)), pn_add N (lx_span t k (lx_tok t n k).2.2), (lx_tok t n k).2.2) := by unfold lx_res; rw [if_pos c]
    have em : lx_mtok t n ws k = (if lx_span t k (lx_tok t n k).2.2 ∈ ws then 5 else 1, (k : Int), (((lx_tok t n k).2.2 - k : Nat) : Int), wo_idx ws (lx_span t k (lx_tok t n k).2.2)) := by unfold lx_mtok; rw [if_pos c]
    rw [er] at hF ⊢
    rw [em]
    have b3 := b3 c
    generalize (lx_tok t n k).2.2 = e at *
    obtain ⟨w1, w2⟩ := W (lx_span t k e)
    obtain ⟨f1, f2⟩ := hF _ (pn_add_mem N (lx_span t k e)).1
    rw [(pn_add_mem N (lx_span t k e)).2] at f2
    by_cases c2 : N.idxOf (lx_span t k e) < 21
    · have c3 := w1.mpr c2
      rw [if_pos c2, if_pos c3]
      refine ⟨rfl, by simp, by simp, Or.inr ⟨by simp, by simp, by simp, by simp, by simp, fun _ _ => ?_, fun z => (by cases z), fun z => (by cases z)⟩⟩
      show ((N.idxOf (lx_span t k e) : Nat) : Int) = wo_idx ws (lx_span t k e)
      unfold wo_idx
      rw [if_pos c3, w2 c3]
    · have c3 : lx_span t k e ∉ ws := fun z => c2 (w1.mp z)
      rw [if_neg c2, if_neg c3]
      refine ⟨rfl, by simp, by simp, Or.inr ⟨by simp, by simp, by simp, by simp, by simp, fun z => absurd rfl z, fun z => (by cases z), fun _ => ⟨?_, k, e - k, rfl, rfl, by omega, b3, ?_, ?_⟩⟩⟩
      · show (21 : Int) ≤ ((N.idxOf (lx_span t k e) : Nat) : Int); omega
      · rw [show k + (e - k) = e by omega]; exact f1
      · rw [show k + (e - k) = e by omega, f2]
  · have er : lx_res t n N k = (((lx_tok t n k).1, (lx_tok t n k).2.1, (k : Int)), N, (lx_tok t n k).2.2) := by unfold lx_res; rw [if_neg c]
    have em : lx_mtok t n ws k = ((lx_tok t n k).1 - 1, (k : Int), (((lx_tok t n k).2.2 - k : Nat) : Int), (lx_tok t n k).2.1) := by unfold lx_mtok; rw [if_neg c]
    rw [er, em]
    have hv : (lx_tok t n k).1 = 3 ∨ ((lx_tok t n k).1 = 4 ∧ (((lx_tok t n k).2.2 - k : Nat) : Int) = (lx_tok t n k).2.1 + 2) ∨ (lx_tok t n k).1 = 5 := by
      unfold lx_tok at h6 c ⊢
      by_cases c1 : lx_letter (t k)
      · simp only [if_pos c1] at h6 c ⊢
        exfalso
        by_cases c2 : 16 < lx_word t n n k - k
        · simp only [if_pos c2] at h6; exact h6 rfl
        · simp only [if_neg c2] at c; exact c trivial
      · simp only [if_neg c1] at h6 c ⊢
        by_cases c2 : lx_digit (t k)
        · simp only [if_pos c2] at h6 c ⊢
          by_cases c3 : lx_digs t n n k - k ≤ 5 ∧ lx_num t (lx_digs t n n k - k) k 0 ≤ 32767 ∧ ¬ lx_part (lx_at t n (lx_digs t n n k))
          · simp only [if_pos c3]; exact Or.inl trivial
          · simp only [if_neg c3] at h6; exact absurd rfl h6
        · simp only [if_neg c2] at h6 c ⊢
          by_cases c3 : t k = 34
          · simp only [if_pos c3] at h6 c ⊢
            obtain ⟨r1, r2, r3⟩ := lx_str_rg (t := t) (n := n) 60 (k + 1) (by omega)
            by_cases c4 : lx_at t n (lx_str t n 60 (k + 1)) = 34
            · simp only [if_pos c4]; exact Or.inr (Or.inl ⟨trivial, by omega⟩)
            · simp only [if_neg c4] at h6; exact absurd rfl h6
          · simp only [if_neg c3] at h6 c ⊢
            by_cases c4 : lx_sign (t k)
            · simp only [if_pos c4]; exact Or.inr (Or.inr trivial)
            · simp only [if_neg c4] at h6; exact absurd rfl h6
    refine ⟨rfl, ?_, ?_, Or.inr ⟨?_, ?_, ?_, ?_, ?_, fun _ _ => rfl, ?_, ?_⟩⟩ <;> dsimp only <;> rcases hv with z | ⟨z, z2⟩ | z <;> rw [z] <;> simp
    exact z2
/-- the lists are alike -/
theorem lr_all {t : Nat → Int} {n most : Nat} {ws F : List (List Int)} : ∀ (m c k : Nat) (N : List (List Int)), lr_W ws N → 21 ≤ N.length → k ≤ n → n < k + m → lr_ext (lx_toks t n most m c k N).2 F →
    (lx_toks t n most m c k N).1.length = (lx_mods t n ws most m c k).length ∧ ∀ (i : Nat) (q : Int × Int × Int) (z : Int × Int × Int × Int), (lx_toks t n most m c k N).1[i]? = some q → (lx_mods t n ws most m c k)[i]? = some z → lr_tok t F q z
  | 0, c, k, N, W, hN, hk, hm, hF => by omega
  | m + 1, c, k, N, W, hN, hk, hm, hF => by
    obtain ⟨s1, s2, s3, s4⟩ := lx_skip_rg t n (n + 1) k hk (by omega)
    unfold lx_toks lx_mods
    unfold lx_toks at hF
    by_cases c1 : (lx_skip t n (n + 1) k).1 = false
    · rw [if_pos c1, if_pos c1]
      refine ⟨rfl, fun i q z hq hz => ?_⟩
      cases i with
      | zero => cases hq; cases hz; exact ⟨rfl, by simp, by simp, Or.inr ⟨by simp, by simp, by simp, by simp, by simp, fun _ z => absurd rfl z, fun z => (by cases z), fun z => (by cases z)⟩⟩
      | succ i => cases hq
    · rw [if_neg c1, if_neg c1]
      rw [if_neg c1] at hF
      by_cases c2 : n ≤ (lx_skip t n (n + 1) k).2
      · rw [if_pos c2, if_pos c2]
        refine ⟨rfl, fun i q z hq hz => ?_⟩
        cases i with
        | zero =>
          cases hq; cases hz
          refine ⟨?_, by simp, by simp, Or.inr ⟨by simp, by simp, by simp, by simp, by simp, fun _ _ => rfl, fun z => (by cases z), fun z => (by cases z)⟩⟩
          show (((lx_skip t n (n + 1) k).2 : Nat) : Int) = (n : Int)
          omega
        | succ i => cases hq
      · rw [if_neg c2, if_neg c2]
        rw [if_neg c2] at hF
        have hlt : (lx_skip t n (n + 1) k).2 < n := by omega
        generalize (lx_skip t n (n + 1) k).2 = p at *
        by_cases c3 : (lx_tok t n p).1 = 6
        · have c3' : (lx_res t n N p).1.1 = 6 := lx_res_kind.mpr c3
          rw [if_pos (Or.inl c3'), if_pos c3]
          refine ⟨rfl, fun i q z hq hz => ?_⟩
          cases i with
          | zero =>
            cases hq; cases hz
            have ep : (lx_res t n N p).1.2.2 = (p : Int) := by unfold lx_res; split <;> rfl
            refine ⟨ep, by simp [c3'], by simp [c3'], Or.inr ⟨?_, ?_, ?_, ?_, ?_, fun _ z => absurd c3' z, ?_, ?_⟩⟩ <;> rw [c3'] <;> simp
          | succ i => cases hq
        · have c3' : (lx_res t n N p).1.1 ≠ 6 := fun z => c3 (lx_res_kind.mp z)
          rw [if_neg c3]
          by_cases c4 : most < c + 1
          · rw [if_pos (Or.inr c4), if_pos c4]
            rw [if_pos (Or.inr c4)] at hF
            have h1 := lr_one (ws := ws) W hlt c3 hF
            refine ⟨rfl, fun i q z hq hz => ?_⟩
            cases i with
            | zero =>
              cases hq; cases hz
              have hnum := lx_res_num (t := t) (n := n) (N := N) (k := p)
              exact ⟨h1.1, ⟨fun z => (by omega), fun z => (by cases z)⟩, ⟨fun z => absurd z c3', fun z => (by cases z)⟩, Or.inl rfl⟩
            | succ i => cases hq
          · rw [if_neg (by rintro (z | z); exact c3' z; exact c4 z), if_neg c4]
            rw [if_neg (by rintro (z | z); exact c3' z; exact c4 z)] at hF
            obtain ⟨r1, r2⟩ := lx_res_rg (N := N) hlt c3'
            have ee : (lx_res t n N p).2.2 = (lx_tok t n p).2.2 := by unfold lx_res; split <;> rfl
            have hl := lx_res_le (t := t) (n := n) N p
            obtain ⟨i1, i2⟩ := lr_all (F := F) m (c + 1) (lx_res t n N p).2.2 (lx_res t n N p).2.1 (W.res hN p) (by omega) r2 (by omega) hF
            have h1 := lr_one (ws := ws) W hlt c3 ((lr_ext_toks m (c + 1) (lx_res t n N p).2.2 (lx_res t n N p).2.1).trans hF)
            rw [← ee]
            refine ⟨by rw [List.length_cons, List.length_cons, i1], fun i q z hq hz => ?_⟩
            cases i with
            | zero => cases hq; cases hz; exact h1
            | succ i => exact i2 i q z hq hz
