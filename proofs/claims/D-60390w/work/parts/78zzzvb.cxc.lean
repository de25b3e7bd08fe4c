/-! CHIPS, 2: the component's tokens -/
def kc_T (t : Nat → Int) (n : Nat) (h : am_H) : Prop := h 73 7 = n ∧ n ≤ 4000 ∧ ∀ k, k < n → (-128 ≤ h 3 k ∧ h 3 k ≤ 127) ∧ h 3 k % 256 = t k
theorem kc_T.next {t : Nat → Int} {n : Nat} {h h' : am_H} (H : kc_T t n h) (h3 : h' 3 = h 3) (h6 : h' 73 7 = h 73 7) : kc_T t n h' := ⟨by rw [h6]; exact H.1, H.2.1, fun k hk => by rw [h3]; exact H.2.2 k hk⟩
theorem kc_T.at_ {t : Nat → Int} {n : Nat} {h : am_H} (H : kc_T t n h) (v : Int) : kc_T t n (am_up h 73 8 v) := H.next (p_up_c _ _ _ _ _ (by decide)) (p_up_n _ _ _ _ _ _ (Or.inr (by decide)))
theorem kc_T.rg {t : Nat → Int} {n : Nat} {h : am_H} (H : kc_T t n h) {k : Nat} (hk : k < n) : 0 ≤ t k ∧ t k ≤ 255 := by
  have := (H.2.2 k hk).2
  omega
section
variable (d L : Nat) {t : Nat → Int} {n : Nat} {h : am_H}
theorem kc_here (H : kc_T t n h) {k : Nat} (hk : h 73 8 = k) (hkn : k ≤ n) (x : Nat) (hx : x ≤ 2) : am_D (d + 1) 5 1 [am_r (am_a 73), am_i x] (zS L, h) = pI L (lx_at t n (k + x)) h := by
  have hn := H.2.1
  rw [D_5_1, hk, H.1, p_w (by omega) (by omega)]
  unfold lx_at
  by_cases c : k + x < n
  · rw [if_pos (by omega), if_pos c, p_idx (by omega) (by omega), p_and255, show ((k : Int) + (x : Int)).toNat = k + x by omega, (H.2.2 _ c).2]
  · rw [if_neg (by omega), if_neg c]
theorem kc_here0 (H : kc_T t n h) {k : Nat} (hk : h 73 8 = k) (hkn : k ≤ n) : am_D (d + 1) 5 1 [am_r (am_a 73), am_i 0] (zS L, h) = pI L (lx_at t n k) h := kc_here d L H hk hkn 0 (by omega)
theorem kc_here1 (H : kc_T t n h) {k : Nat} (hk : h 73 8 = k) (hkn : k ≤ n) : am_D (d + 1) 5 1 [am_r (am_a 73), am_i 1] (zS L, h) = pI L (lx_at t n (k + 1)) h := kc_here d L H hk hkn 1 (by omega)
theorem kc_line (u1 u2 : Option am_V) : ∀ (m : Nat) (h : am_H) (k : Nat), kc_T t n h → h 73 8 = k → k ≤ n → n ≤ k + m →
    am_E (am_D (d + 1)) m_5_5 (.inl 3) [some (am_r (am_a 73)), u1, u2] [] (zS L, h) = am_E (am_D (d + 1)) m_5_5 (.inl 0) [some (am_r (am_a 73)), u1, u2] [] (zS L, am_up h 73 8 (lx_line t n m k)) := by
  intro m
  induction m with
  | zero =>
    intro h k H hk hkn e
    rw [q_5_5_3, hk, H.1, if_neg (by omega)]
    unfold lx_line
    rw [p_up_id' hk]
  | succ m ih =>
    intro h k H hk hkn e
    have hn := H.2.1
    rw [q_5_5_3, hk, H.1]
    unfold lx_line
    by_cases c : k < n
    · rw [if_pos (by omega), kc_here0 d L H hk hkn, p_xI]
      unfold lx_at
      rw [if_pos c]
      by_cases c2 : t k = 10
      · rw [if_pos c2, if_neg (by omega), p_up_id' hk]
      · rw [if_neg c2, if_pos ⟨c, c2⟩, hk, p_w (by omega) (by omega)]
        have := ih (am_up h 73 8 ((k : Int) + 1)) (k + 1) (H.at_ _) (p_up_s _ _ _ _) (by omega) (by omega)
        rw [p_up_up] at this
        exact this
    · rw [if_neg (by omega), if_neg (by omega), p_up_id' hk]
theorem kc_star (u1 : Option am_V) (x2 : Int) : ∀ (m : Nat) (h : am_H) (k : Nat), kc_T t n h → h 73 8 = k → k ≤ n → n ≤ k + m →
    am_E (am_D (d + 1)) m_5_5 (.inl 5) [some (am_r (am_a 73)), u1, some (am_i x2)] [] (zS L, h) = am_E (am_D (d + 1)) m_5_5 (.inl 7) [some (am_r (am_a 73)), u1, some (am_i x2)] [] (zS L, am_up h 73 8 (lx_star t n m k)) := by
  intro m
  induction m with
  | zero =>
    intro h k H hk hkn e
    rw [q_5_5_5, hk, H.1, if_neg (by omega)]
    unfold lx_star
    rw [p_up_id' hk]
  | succ m ih =>
    intro h k H hk hkn e
    have hn := H.2.1
    rw [q_5_5_5, hk, H.1]
    unfold lx_star
    by_cases c : k < n
    · have step : am_E (am_D (d + 1)) m_5_5 (.inl 5) [some (am_r (am_a 73)), u1, some (am_i x2)] [] (zS L, am_up h 73 8 (am_w (h 73 8 + 1))) = am_E (am_D (d + 1)) m_5_5 (.inl 7) [some (am_r (am_a 73)), u1, some (am_i x2)] [] (zS L, am_up h 73 8 (lx_star t n m (k + 1))) := by
        rw [hk, p_w (by omega) (by omega)]
        have := ih (am_up h 73 8 ((k : Int) + 1)) (k + 1) (H.at_ _) (p_up_s _ _ _ _) (by omega) (by omega)
        rw [p_up_up] at this
        exact this
      rw [if_pos (by omega), kc_here0 d L H hk hkn, p_xI]
      have e0 : lx_at t n k = t k := if_pos c
      rw [e0]
      by_cases c2 : t k = 42
      · rw [if_pos c2, kc_here1 d L H hk hkn, p_xI]
        by_cases c3 : lx_at t n (k + 1) = 47
        · rw [if_pos c3, if_neg (by rintro ⟨-, z⟩; exact z ⟨c2, c3⟩), p_up_id' hk]
        · rw [if_neg c3, if_pos ⟨c, fun z => c3 z.2⟩]; exact step
      · rw [if_neg c2, if_pos ⟨c, fun z => c2 z.1⟩]; exact step
    · rw [if_neg (by omega), if_neg (by omega), p_up_id' hk]
theorem kc_skip : ∀ (m : Nat) (h : am_H) (k : Nat) (u1 u2 : Option am_V), kc_T t n h → h 73 8 = k → k ≤ n → n < k + m →
    am_E (am_D (d + 1)) m_5_5 (.inl 0) [some (am_r (am_a 73)), u1, u2] [] (zS L, h) = pI L (pB ((lx_skip t n m k).1 = true)) (am_up h 73 8 (lx_skip t n m k).2) := by
  intro m
  induction m with
  | zero => intro h k u1 u2 H hk hkn e; omega
  | succ m ih =>
    intro h k u1 u2 H hk hkn e
    have hn := H.2.1
    have nx : ∀ (v : Nat) (u1 u2 : Option am_V), v ≤ n → n < v + m → am_E (am_D (d + 1)) m_5_5 (.inl 0) [some (am_r (am_a 73)), u1, u2] [] (zS L, am_up h 73 8 v) = pI L (pB ((lx_skip t n m v).1 = true)) (am_up h 73 8 (lx_skip t n m v).2) := by
      intro v u1 u2 hv hv2
      have := ih (am_up h 73 8 v) v u1 u2 (H.at_ _) (p_up_s _ _ _ _) hv hv2
      rw [p_up_up] at this
      exact this
    rw [q_5_5_0, kc_here0 d L H hk hkn, p_xI]
    unfold lx_skip
    by_cases c0 : n ≤ k
    · have e0 : lx_at t n k = -1 := if_neg (by omega)
      rw [e0, if_neg (by decide), if_neg (by decide), if_neg (by decide), if_neg (by decide), if_neg (by decide), q_5_5_4, if_neg (by decide), p_bit1, if_pos c0, pB_t rfl]
      dsimp only
      rw [p_up_id' hk]
    · have e0 : lx_at t n k = t k := if_pos (by omega)
      rw [e0, if_neg c0]
      by_cases c1 : t k = 47
      · rw [if_neg (show ¬ t k = 32 by omega), if_neg (show ¬ t k = 9 by omega), if_neg (show ¬ t k = 10 by omega), if_neg (show ¬ t k = 13 by omega), if_pos c1, kc_here1 d L H hk hkn, p_xI]
        by_cases c2 : lx_at t n (k + 1) = 47
        · obtain ⟨a, b, e1⟩ := lx_line_rg t n n k (by omega)
          have hlt : k < lx_line t n n k := by
            apply Classical.byContradiction
            intro z
            have hk : lx_line t n n k = k := by omega
            rw [hk] at e1
            have := e1 (by omega)
            omega
          rw [if_pos c2, if_pos ⟨c1, c2⟩, kc_line d L _ _ n h k H hk hkn (by omega)]
          exact nx _ _ _ (b hkn) (by omega)
        · rw [if_neg c2, if_neg (fun z => c2 z.2), q_5_5_4, if_pos c1, kc_here1 d L H hk hkn, p_xI]
          by_cases c3 : lx_at t n (k + 1) = 42
          · have hk2 : k + 1 < n := by
              apply Classical.byContradiction
              intro z
              unfold lx_at at c3
              rw [if_neg z] at c3
              cases c3
            obtain ⟨a, e1⟩ := lx_star_rg t n n (k + 2) (by omega)
            rw [if_pos c3, if_pos ⟨c1, c3⟩, hk, p_w (by omega) (by omega)]
            have hs := kc_star d L (t := t) (n := n) (some (am_i (t k))) k n (am_up h 73 8 ((k : Int) + 2)) (k + 2) (H.at_ _) (p_up_s _ _ _ _) (by omega) (by omega)
            rw [p_up_up] at hs
            rw [hs, q_5_5_7, p_up_s, p_up_n _ _ _ _ _ _ (Or.inr (by decide)), H.1, p_up_up]
            by_cases c4 : n ≤ lx_star t n n (k + 2)
            · rw [if_neg (by omega), if_pos c4, p_bit0, pB_f (by simp), p_up_up]
            · have e2 := (e1 (by omega)).2
              have hlt : lx_star t n n (k + 2) + 1 < n := by
                apply Classical.byContradiction
                intro z
                unfold lx_at at e2
                rw [if_neg z] at e2
                cases e2
              rw [if_pos (by omega), if_neg c4, p_w (by omega) (by omega)]
              exact nx (lx_star t n n (k + 2) + 2) _ _ (by omega) (by omega)
          · rw [if_neg c3, if_neg (fun z => c3 z.2), p_bit1, if_neg (by unfold lx_blank; omega), pB_t rfl]
            dsimp only
            rw [p_up_id' hk]
      · rw [if_neg (c := t k = 47 ∧ lx_at t n (k + 1) = 47) (fun z => c1 z.1), if_neg (c := t k = 47 ∧ lx_at t n (k + 1) = 42) (fun z => c1 z.1), hk, p_w (by omega) (by omega)]
        by_cases c2 : lx_blank (t k)
        · rw [if_pos c2]
          have st := fun u1 u2 => nx (k + 1) u1 u2 (by omega) (by omega)
          unfold lx_blank at c2
          rcases c2 with z | z | z | z <;> rw [z] <;> simp only [if_true, if_false, show ¬ (9 : Int) = 32 by decide, show ¬ (10 : Int) = 32 by decide, show ¬ (10 : Int) = 9 by decide, show ¬ (13 : Int) = 32 by decide, show ¬ (13 : Int) = 9 by decide, show ¬ (13 : Int) = 10 by decide] <;> exact st _ _
        · rw [if_neg c2]
          unfold lx_blank at c2
          rw [if_neg (by omega), if_neg (by omega), if_neg (by omega), if_neg (by omega), if_neg c1, q_5_5_4, if_neg c1, p_bit1, pB_t rfl]
          dsimp only
          rw [p_up_id' hk]
end
/-- the tokens that are there -/
def kc_K (tk : List (Int × Int × Int)) (h : am_H) : Prop := h 73 6 = tk.length ∧ ∀ (i : Nat) (q : Int × Int × Int), tk[i]? = some q → h 78 i = q.1 ∧ h 79 i = q.2.1 ∧ h 80 i = q.2.2
theorem kc_K.at_ {tk : List (Int × Int × Int)} {h : am_H} (H : kc_K tk h) (v : Int) : kc_K tk (am_up h 73 8 v) := ⟨by rw [p_up_n _ _ _ _ _ _ (Or.inr (by decide))]; exact H.1, fun i q hi => by rw [p_up_c _ _ _ _ _ (by decide), p_up_c _ _ _ _ _ (by decide), p_up_c _ _ _ _ _ (by decide)]; exact H.2 i q hi⟩
def kc_addh (h : am_H) (s : Nat) (a b p : Int) : am_H := am_up (am_up (am_up (am_up h 78 s a) 79 s b) 80 s p) 73 6 (s + 1)
theorem kc_addh_K {tk : List (Int × Int × Int)} {h : am_H} (H : kc_K tk h) (a b p : Int) : kc_K (tk ++ [(a, b, p)]) (kc_addh h tk.length a b p) := by
  unfold kc_addh
  refine ⟨by rw [p_up_s, List.length_append]; simp, fun i q hi => ?_⟩
  by_cases c : i < tk.length
  · rw [List.getElem?_append_left c] at hi
    obtain ⟨a1, a2, a3⟩ := H.2 i q hi
    have c' : i ≠ tk.length := by omega
    simp [p_up, c', a1, a2, a3]
  · have hl := (List.getElem?_eq_some_iff.mp hi).1
    rw [List.length_append, List.length_singleton] at hl
    have e : i = tk.length := by omega
    subst e
    rw [List.getElem?_append_right (by omega), Nat.sub_self] at hi
    cases hi
    simp [p_up]
theorem kc_add (d L : Nat) {h : am_H} {s : Nat} (hs : h 73 6 = s) (h1 : s < 2002) {a b p : Int} (ha : -128 ≤ a ∧ a ≤ 127) (hb : -32768 ≤ b ∧ b ≤ 32767) : am_D (d + 1) 5 4 [am_r (am_a 73), am_i a, am_i b, am_i p] (zS L, h) = pV L (kc_addh h s a b p) := by
  rw [D_5_4, hs, p_idx (by omega) (by omega), p_idx (by omega) (by omega), p_idx (by omega) (by omega), p_s8_s8, p_s16_s16, p_s8 ha.1 ha.2, p_s16 hb.1 hb.2, p_w (by omega) (by omega), Int.toNat_natCast]
  rfl
theorem pnb_R.next {N : List (List Int)} {h h' : am_H} (R : pnb_R h N) (e3 : h' 74 3 = h 74 3) (e4 : h' 74 4 = h 74 4) (e5 : h' 75 = h 75) (e6 : h' 76 = h 76) (e7 : h' 77 = h 77) : pnb_R h' N := ⟨by rw [e3]; exact R.1, by rw [e4]; exact R.2.1, fun i w hw => by rw [e5, e6, e7]; exact R.2.2 i w hw⟩
def kc_S (t : Nat → Int) (n k : Nat) (tk : List (Int × Int × Int)) (N : List (List Int)) (h : am_H) : Prop := kc_T t n h ∧ h 73 8 = k ∧ kc_K tk h ∧ pnb_R h N
theorem kc_S.at_ {t : Nat → Int} {n k : Nat} {tk : List (Int × Int × Int)} {N : List (List Int)} {h : am_H} (S : kc_S t n k tk N h) (v : Nat) : kc_S t n v tk N (am_up h 73 8 v) :=
  ⟨S.1.at_ _, p_up_s _ _ _ _, S.2.2.1.at_ _, S.2.2.2.next (p_up_n _ _ _ _ _ _ (Or.inl (by decide))) (p_up_n _ _ _ _ _ _ (Or.inl (by decide))) (p_up_c _ _ _ _ _ (by decide)) (p_up_c _ _ _ _ _ (by decide)) (p_up_c _ _ _ _ _ (by decide))⟩
theorem kc_S.add {t : Nat → Int} {n k : Nat} {tk : List (Int × Int × Int)} {N : List (List Int)} {h : am_H} (S : kc_S t n k tk N h) (a b p : Int) : kc_S t n k (tk ++ [(a, b, p)]) N (kc_addh h tk.length a b p) := by
  obtain ⟨s1, s2, s3, s4⟩ := S
  refine ⟨s1.next ?_ ?_, ?_, kc_addh_K s3 a b p, s4.next ?_ ?_ ?_ ?_ ?_⟩ <;> unfold kc_addh
  · simp [p_up_c]
  · simp [p_up]
  · simpa [p_up] using s2
  · simp [p_up]
  · simp [p_up]
  · simp [p_up_c]
  · simp [p_up_c]
  · simp [p_up_c]
def kc_F : List Nat := [75, 76, 77, 78, 79, 80]
def kc_P : List (Nat × Nat) := [(73, 6), (73, 8), (74, 3), (74, 4)]
theorem kc_fr_at {h h' : am_H} (f : p_fr kc_F kc_P h h') (v : Int) : p_fr kc_F kc_P h (am_up h' 73 8 v) := f.upf _ _ _ rfl
theorem kc_fr_add {h h' : am_H} (f : p_fr kc_F kc_P h h') (s : Nat) (a b p : Int) : p_fr kc_F kc_P h (kc_addh h' s a b p) := (((f.upc _ _ _ rfl).upc _ _ _ rfl).upc _ _ _ rfl).upf _ _ _ rfl
section
variable (d L : Nat) {t : Nat → Int} {n : Nat}
theorem kc_wordend (x1 : Int) (u2 : Option am_V) : ∀ (m : Nat) (h : am_H) (k : Nat), kc_T t n h → h 73 8 = k → k ≤ n → n ≤ k + m → am_E (am_D (d + 2)) m_5_6 (.inl 0) [some (am_r (am_a 73)), some (am_i x1), u2] [] (zS L, h) = am_E (am_D (d + 2)) m_5_6 (.inl 0) [some (am_r (am_a 73)), some (am_i x1), u2] [] (zS L, am_up h 73 8 (lx_word t n m k)) := by
  intro m
  induction m with
  | zero =>
    intro h k H hk hkn e
    unfold lx_word
    rw [p_up_id' hk]
  | succ m ih =>
    intro h k H hk hkn e
    have hn := H.2.1
    unfold lx_word
    by_cases c : lx_part (lx_at t n k)
    · rw [if_pos c]
      have hkn2 : k < n := by
        apply Classical.byContradiction
        intro z
        unfold lx_at at c
        rw [if_neg z] at c
        unfold lx_part lx_digit lx_letter at c
        omega
      have hu := ih (am_up h 73 8 ((k : Int) + 1)) (k + 1) (H.at_ _) (p_up_s _ _ _ _) (by omega) (by omega)
      rw [p_up_up] at hu
      rw [← hu, q_5_6_0, kc_here0 (d + 1) L H hk hkn, p_xI, lc_part, p_xI, pB_t c, if_neg (by decide), hk, p_w (by omega) (by omega)]
    · rw [if_neg c, p_up_id' hk]
theorem kc_word {h : am_H} {k : Nat} {tk : List (Int × Int × Int)} {N : List (List Int)} (S : kc_S t n k tk N h) (hk : k < n) (hl : lx_alpha (t k)) (htk : tk.length < 2002) (hN : N.length < 1400) (hu : pn_used N + 16 ≤ 18000) :
    ∃ h', am_D (d + 3) 5 6 [am_r (am_a 73), am_i k] (zS L, h) = pV L h' ∧ p_fr kc_F kc_P h h' ∧ kc_S t n (cx_res t n N k).2.2 (tk ++ [(cx_res t n N k).1]) (cx_res t n N k).2.1 h' := by
  obtain ⟨r1, r2, r3, r4⟩ := lx_word_rg (t := t) (n := n) n k (by omega) (by omega)
  have S1 := S.at_ (lx_word t n n k)
  have hn := S.1.2.1
  rw [D_5_6, kc_wordend d L k none n h k S.1 S.2.1 (by omega) (by omega), q_5_6_0, kc_here0 (d + 1) L S1.1 S1.2.1 r2, p_xI, lc_part, p_xI, pB_f r4, if_pos rfl, p_up_s, p_w (by omega) (by omega)]
  by_cases c : 16 < lx_word t n n k - k
  · have er : cx_res t n N k = ((5, 0, (k : Int)), N, lx_word t n n k) := by unfold cx_res cx_tok; rw [if_pos hl, if_pos c]; rfl
    rw [if_pos (by omega), er, kc_add (d + 1) L S1.2.2.1.1 htk (by omega) (by omega), p_xV]
    exact ⟨_, rfl, kc_fr_add (kc_fr_at (p_fr.refl h) _) _ _ _ _, S1.add 5 0 k⟩
  · have er : cx_res t n N k = (((if N.idxOf (lx_span t k (lx_word t n n k)) < 6 then 1 else 2 : Int), ((N.idxOf (lx_span t k (lx_word t n n k)) : Nat) : Int), (k : Int)), pn_add N (lx_span t k (lx_word t n n k)), lx_word t n n k) := by
      unfold cx_res cx_tok; rw [if_pos hl, if_neg c]; rfl
    rw [if_neg (by omega), er]
    dsimp only
    have hlen := lx_span_len (t := t) k (lx_word t n n k)
    obtain ⟨h2, a1, a2, a3⟩ := pnb_find d L (am_up h 73 8 (lx_word t n n k)) (a := 3) (na := 16000) (ra := []) rfl (by decide) S1.2.2.2 k (lx_span t k (lx_word t n n k)) (by omega) (by omega)
      (fun q x hx => by
        obtain ⟨hq, rfl⟩ := lx_span_at hx
        have hp := r3 (k + q) (by omega) (by omega)
        have hv := S1.1.2.2 (k + q) (by omega)
        unfold lx_part lx_digit lx_letter at hp
        refine ⟨?_, by omega, by omega⟩
        omega) hN (by omega)
    rw [hlen] at a1
    have e1 : ((lx_word t n n k : Nat) : Int) - (k : Int) = ((lx_word t n n k - k : Nat) : Int) := by omega
    rw [e1, a1, p_xI]
    have hix : N.idxOf (lx_span t k (lx_word t n n k)) ≤ N.length := List.idxOf_le_length
    have f3 : h2 3 = (am_up h 73 8 (lx_word t n n k)) 3 := a3.cell 3 rfl rfl
    have f240 : h2 73 = (am_up h 73 8 (lx_word t n n k)) 73 := a3.cell 73 rfl rfl
    have S2 : kc_S t n (lx_word t n n k) tk (pn_add N (lx_span t k (lx_word t n n k))) h2 :=
      ⟨S1.1.next f3 (by rw [f240]), by rw [f240]; exact S1.2.1, ⟨by rw [f240]; exact S1.2.2.1.1, fun i q hi => by rw [a3.cell 78 rfl rfl, a3.cell 79 rfl rfl, a3.cell 80 rfl rfl]; exact S1.2.2.1.2 i q hi⟩, a2⟩
    have fr2 : p_fr kc_F kc_P h h2 := (kc_fr_at (p_fr.refl h) _).trans (a3.mono rfl rfl)
    by_cases c2 : N.idxOf (lx_span t k (lx_word t n n k)) < 6
    · rw [if_pos (by omega), if_pos c2, kc_add (d + 1) L S2.2.2.1.1 htk (by omega) (by omega), p_xV]
      exact ⟨_, rfl, kc_fr_add fr2 _ _ _ _, S2.add _ _ _⟩
    · rw [if_neg (by omega), if_neg c2, kc_add (d + 1) L S2.2.2.1.1 htk (by omega) (by omega), p_xV]
      exact ⟨_, rfl, kc_fr_add fr2 _ _ _ _, S2.add _ _ _⟩
end
/-- the component's way with digits: not beyond 1000 -/
def cx_numc (t : Nat → Int) : Nat → Nat → Int → Int
  | 0, _, v => v
  | m + 1, k, v => cx_numc t m (k + 1) (if 1000 ≤ 10 * v + t k - 48 then 1000 else 10 * v + t k - 48)
section
variable (d L : Nat) {t : Nat → Int} {n : Nat}
theorem kc_digs (x1 : Int) (u3 : Option am_V) : ∀ (m : Nat) (h : am_H) (k : Nat) (v : Int), kc_T t n h → h 73 8 = k → k ≤ n → n ≤ k + m → 0 ≤ v → v ≤ 1000 →
    0 ≤ cx_numc t (lx_digs t n m k - k) k v ∧ cx_numc t (lx_digs t n m k - k) k v ≤ 1000 ∧ am_E (am_D (d + 2)) m_5_7 (.inl 1) [some (am_r (am_a 73)), some (am_i x1), some (am_i v), u3] [] (zS L, h) = am_E (am_D (d + 2)) m_5_7 (.inl 1) [some (am_r (am_a 73)), some (am_i x1), some (am_i (cx_numc t (lx_digs t n m k - k) k v)), u3] [] (zS L, am_up h 73 8 (lx_digs t n m k)) := by
  intro m
  induction m with
  | zero =>
    intro h k v H hk hkn e v0 v1
    unfold lx_digs
    rw [p_up_id' hk, Nat.sub_self]
    exact ⟨v0, v1, rfl⟩
  | succ m ih =>
    intro h k v H hk hkn e v0 v1
    have hn := H.2.1
    unfold lx_digs
    by_cases c : lx_digit (lx_at t n k)
    · have hkn2 : k < n := by
        apply Classical.byContradiction
        intro z
        unfold lx_at at c
        rw [if_neg z] at c
        unfold lx_digit at c
        omega
      have ea : lx_at t n k = t k := if_pos hkn2
      have c' : lx_digit (t k) := by rw [← ea]; exact c
      have cb := c'
      unfold lx_digit at cb
      rw [if_pos c]
      obtain ⟨r1, r2, r3, r4⟩ := lx_digs_rg (t := t) (n := n) m (k + 1) (by omega) (by omega)
      obtain ⟨i1, i2, hu⟩ := ih (am_up h 73 8 ((k : Int) + 1)) (k + 1) (if 1000 ≤ 10 * v + t k - 48 then 1000 else 10 * v + t k - 48) (H.at_ _) (p_up_s _ _ _ _) (by omega) (by omega) (by split <;> omega) (by split <;> omega)
      rw [p_up_up] at hu
      have es : lx_digs t n m (k + 1) - k = (lx_digs t n m (k + 1) - (k + 1)) + 1 := by omega
      rw [es]
      unfold cx_numc
      refine ⟨i1, i2, ?_⟩
      rw [← hu, q_5_7_1, kc_here0 (d + 1) L H hk hkn, p_xI, lc_digit, p_xI, pB_t c, if_neg (by decide), kc_here0 (d + 1) L H hk hkn, p_xI, ea, hk, p_w (x := (k : Int) + 1) (by omega) (by omega), p_w (x := 10 * v) (by omega) (by omega), p_w (x := 10 * v + t k) (by omega) (by omega), p_w (x := 10 * v + t k - 48) (by omega) (by omega)]
    · rw [if_neg c, p_up_id' hk, Nat.sub_self]
      exact ⟨v0, v1, rfl⟩
theorem kc_number {h : am_H} {k : Nat} {tk : List (Int × Int × Int)} {N : List (List Int)} (S : kc_S t n k tk N h) (hk : k < n) (hl : ¬ lx_alpha (t k)) (hd : lx_digit (t k)) (htk : tk.length < 2002) :
    ∃ h', am_D (d + 3) 5 7 [am_r (am_a 73), am_i k] (zS L, h) = pV L h' ∧ p_fr kc_F kc_P h h' ∧ kc_S t n (cx_res t n N k).2.2 (tk ++ [(cx_res t n N k).1]) (cx_res t n N k).2.1 h' := by
  obtain ⟨r1, r2, r3, r4⟩ := lx_digs_rg (t := t) (n := n) n k (by omega) (by omega)
  have lt := lx_digs_lt hk hd
  have S1 := S.at_ (lx_digs t n n k)
  have hn := S.1.2.1
  obtain ⟨i1, i2, i3⟩ := kc_digs d L k none n h k 0 S.1 S.2.1 (by omega) (by omega) (by omega) (by omega)
  rw [D_5_7, i3, q_5_7_1, kc_here0 (d + 1) L S1.1 S1.2.1 r2, p_xI, lc_digit, p_xI, pB_f r4, if_pos rfl, p_up_s, p_w (by omega) (by omega), kc_here0 (d + 1) L S1.1 S1.2.1 r2]
  have e4 : ∀ (x2 s0 : Int), am_E (am_D (d + 2)) m_5_7 (.inl 4) [some (am_r (am_a 73)), some (am_i (k : Int)), some (am_i x2), none] [am_i s0] (zS L, am_up h 73 8 (lx_digs t n n k)) = if s0 = 0 then am_xV (zS L) (am_D (d + 2) 5 4 [am_r (am_a 73), am_i 5, am_i 0, am_i (k : Int)] (zS L, am_up h 73 8 (lx_digs t n n k))) (am_up1 (zS L)) (fun h1 => some (.inl none, (zS L, h1))) else am_xV (zS L) (am_D (d + 2) 5 4 [am_r (am_a 73), am_i 3, am_i x2, am_i (k : Int)] (zS L, am_up h 73 8 (lx_digs t n n k))) (am_up1 (zS L)) (fun h1 => some (.inl none, (zS L, h1))) := by
    intro x2 s0
    rw [q_5_7_4]
    by_cases z : s0 = 0
    · simp only [z, if_true]
    · simp only [z, if_false]
  simp only [p_xI, lc_part, e4, pB_0]
  have fin : cx_res t n N k = ((5, 0, (k : Int)), N, lx_digs t n n k) → ∃ h', am_xV (zS L) (am_D (d + 2) 5 4 [am_r (am_a 73), am_i 5, am_i 0, am_i (k : Int)] (zS L, am_up h 73 8 (lx_digs t n n k))) (am_up1 (zS L)) (fun h1 => some (.inl none, (zS L, h1))) = pV L h' ∧ p_fr kc_F kc_P h h' ∧ kc_S t n (cx_res t n N k).2.2 (tk ++ [(cx_res t n N k).1]) (cx_res t n N k).2.1 h' := by
    intro er
    rw [er, kc_add (d + 1) L S1.2.2.1.1 htk (by omega) (by omega), p_xV]
    exact ⟨_, rfl, kc_fr_add (kc_fr_at (p_fr.refl h) _) _ _ _ _, S1.add _ _ _⟩
  by_cases c : lx_digs t n n k - k ≤ 2 ∧ ¬ lx_part (lx_at t n (lx_digs t n n k))
  · have er : cx_res t n N k = ((3, lx_num t (lx_digs t n n k - k) k 0, (k : Int)), N, lx_digs t n n k) := by unfold cx_res cx_tok; rw [if_neg hl, if_pos hd, if_pos c]; rfl
    have hdk : lx_digit (t k) := hd
    unfold lx_digit at hdk
    have ev : cx_numc t (lx_digs t n n k - k) k 0 = lx_num t (lx_digs t n n k - k) k 0 ∧ 0 ≤ lx_num t (lx_digs t n n k - k) k 0 ∧ lx_num t (lx_digs t n n k - k) k 0 ≤ 99 := by
      have : lx_digs t n n k - k = 1 ∨ lx_digs t n n k - k = 2 := by omega
      rcases this with e | e
      · rw [e]
        show (if 1000 ≤ 10 * 0 + t k - 48 then 1000 else 10 * 0 + t k - 48) = 10 * 0 + t k - 48 ∧ 0 ≤ 10 * 0 + t k - 48 ∧ 10 * 0 + t k - 48 ≤ 99
        rw [if_neg (by omega)]; omega
      · have d1 := r3 (k + 1) (by omega) (by omega)
        unfold lx_digit at d1
        rw [e]
        show (if 1000 ≤ 10 * (if 1000 ≤ 10 * 0 + t k - 48 then 1000 else 10 * 0 + t k - 48) + t (k + 1) - 48 then 1000 else 10 * (if 1000 ≤ 10 * 0 + t k - 48 then 1000 else 10 * 0 + t k - 48) + t (k + 1) - 48) = 10 * (10 * 0 + t k - 48) + t (k + 1) - 48 ∧ 0 ≤ 10 * (10 * 0 + t k - 48) + t (k + 1) - 48 ∧ 10 * (10 * 0 + t k - 48) + t (k + 1) - 48 ≤ 99
        rw [if_neg (show ¬ 1000 ≤ 10 * 0 + t k - 48 by omega), if_neg (by omega)]; omega
    rw [if_neg (by omega), if_pos c.2, if_neg (by simp), er, ev.1, kc_add (d + 1) L S1.2.2.1.1 htk (by omega) (by omega), p_xV]
    exact ⟨_, rfl, kc_fr_add (kc_fr_at (p_fr.refl h) _) _ _ _ _, S1.add _ _ _⟩
  · have er : cx_res t n N k = ((5, 0, (k : Int)), N, lx_digs t n n k) := by unfold cx_res cx_tok; rw [if_neg hl, if_pos hd, if_neg c]; rfl
    by_cases c1 : 2 < ((lx_digs t n n k : Nat) : Int) - (k : Int)
    · rw [if_pos c1, if_true]; exact fin er
    · have c3 : lx_part (lx_at t n (lx_digs t n n k)) := by
        apply Classical.byContradiction
        intro z
        exact c ⟨by omega, z⟩
      rw [if_neg c1, if_neg (fun z => z c3), if_true]; exact fin er
theorem kc_sign {h : am_H} {k : Nat} {tk : List (Int × Int × Int)} {N : List (List Int)} (S : kc_S t n k tk N h) (hk : k < n) (hl : ¬ lx_alpha (t k)) (hd : ¬ lx_digit (t k)) (htk : tk.length < 2002) :
    ∃ h', am_D (d + 2) 5 8 [am_r (am_a 73), am_i (t k), am_i k] (zS L, h) = pV L h' ∧ p_fr kc_F kc_P h h' ∧ kc_S t n (cx_res t n N k).2.2 (tk ++ [(cx_res t n N k).1]) (cx_res t n N k).2.1 h' := by
  have hn := S.1.2.1
  have hr := S.1.rg hk
  -- the end
  have E7 : ∀ {x3 x4 : Int} {s0 : Nat}, s0 ≤ 2 → cx_res t n N k = ((if x4 = 0 then 5 else 4, if x3 = 0 then t k else 256, (k : Int)), N, k + s0) → ∃ h', am_E (am_D (d + 1)) m_5_8 (.inl 7) [some (am_r (am_a 73)), some (am_i (t k)), some (am_i (k : Int)), some (am_i x3), some (am_i x4)] [am_i (s0 : Int), am_i (k : Int), am_r (am_a 73)] (zS L, h) = pV L h' ∧ p_fr kc_F kc_P h h' ∧ kc_S t n (cx_res t n N k).2.2 (tk ++ [(cx_res t n N k).1]) (cx_res t n N k).2.1 h' := fun {x3 x4 s0} h0 er => by
    have S1 := S.at_ (k + s0)
    rw [q_5_8_7, er, p_w (x := (k : Int) + (s0 : Int)) (by omega) (by omega)]
    have e0 : am_up h 73 8 ((k : Int) + (s0 : Int)) = am_up h 73 8 ((k + s0 : Nat) : Int) := by rw [show (k : Int) + (s0 : Int) = ((k + s0 : Nat) : Int) by omega]
    rw [e0]
    dsimp only
    by_cases z4 : x4 = 0
    · rw [if_pos z4, if_pos z4]
      by_cases z3 : x3 = 0
      · rw [if_pos z3, if_pos z3, kc_add d L S1.2.2.1.1 htk (by omega) (by omega), p_xV]
        exact ⟨_, rfl, kc_fr_add (kc_fr_at (p_fr.refl h) _) _ _ _ _, S1.add _ _ _⟩
      · rw [if_neg z3, if_neg z3, kc_add d L S1.2.2.1.1 htk (by omega) (by omega), p_xV]
        exact ⟨_, rfl, kc_fr_add (kc_fr_at (p_fr.refl h) _) _ _ _ _, S1.add _ _ _⟩
    · rw [if_neg z4, if_neg z4]
      by_cases z3 : x3 = 0
      · rw [if_pos z3, if_pos z3, kc_add d L S1.2.2.1.1 htk (by omega) (by omega), p_xV]
        exact ⟨_, rfl, kc_fr_add (kc_fr_at (p_fr.refl h) _) _ _ _ _, S1.add _ _ _⟩
      · rw [if_neg z3, if_neg z3, kc_add d L S1.2.2.1.1 htk (by omega) (by omega), p_xV]
        exact ⟨_, rfl, kc_fr_add (kc_fr_at (p_fr.refl h) _) _ _ _ _, S1.add _ _ _⟩
  have E2 : ∀ {u3 u4 : Option am_V} {s0 : Int}, s0 = 0 → ¬ (t k = 46 ∧ lx_at t n (k + 1) = 46) → ∃ h', am_E (am_D (d + 1)) m_5_8 (.inl 2) [some (am_r (am_a 73)), some (am_i (t k)), some (am_i (k : Int)), u3, u4] [am_i s0] (zS L, h) = pV L h' ∧ p_fr kc_F kc_P h h' ∧ kc_S t n (cx_res t n N k).2.2 (tk ++ [(cx_res t n N k).1]) (cx_res t n N k).2.1 h' := fun {u3 u4 s0} z0 nd => by
    subst z0
    have res : cx_res t n N k = ((if cx_sg (t k) then 4 else 5, t k, (k : Int)), N, k + 1) := by
      unfold cx_res cx_tok
      rw [if_neg hl, if_neg hd, if_neg nd]
      by_cases z : cx_sg (t k)
      · rw [if_pos z, if_pos z]; rfl
      · rw [if_neg z, if_neg z]; rfl
    have K1 := E7 (x3 := 0) (x4 := 1) (s0 := 1) (by omega)
    have K0 := E7 (x3 := 0) (x4 := 0) (s0 := 1) (by omega)
    rw [if_neg (show ¬ (1 : Int) = 0 by decide), if_pos (show (0 : Int) = 0 from rfl)] at K1
    rw [if_pos (show (0 : Int) = 0 from rfl), if_pos (show (0 : Int) = 0 from rfl)] at K0
    rw [q_5_8_2, S.2.1]
    simp only [if_true]
    by_cases z : cx_sg (t k)
    · rw [if_pos z] at res
      have K1 := K1 res
      have key : ∀ (v : Int) (P Q : Option am_O), cx_sg v → (if v = 123 then P else if v = 125 then P else if v = 40 then P else if v = 41 then P else if v = 91 then P else if v = 93 then P else if v = 44 then P else if v = 59 then P else if v = 58 then P else if v = 61 then P else Q) = P := by
        intro v P Q hv
        rcases hv with rfl | rfl | rfl | rfl | rfl | rfl | rfl | rfl | rfl | rfl <;> simp
      rw [key (t k) _ _ z]
      exact K1
    · rw [if_neg z] at res
      have K0 := K0 res
      unfold cx_sg at z
      rw [if_neg (show ¬ t k = 123 by omega), if_neg (show ¬ t k = 125 by omega), if_neg (show ¬ t k = 40 by omega), if_neg (show ¬ t k = 41 by omega), if_neg (show ¬ t k = 91 by omega), if_neg (show ¬ t k = 93 by omega), if_neg (show ¬ t k = 44 by omega), if_neg (show ¬ t k = 59 by omega), if_neg (show ¬ t k = 58 by omega), if_neg (show ¬ t k = 61 by omega)]
      exact K0
  rw [D_5_8]
  by_cases c1 : t k = 46
  · rw [if_pos c1, kc_here1 d L S.1 S.2.1 (by omega), p_xI]
    by_cases c2 : lx_at t n (k + 1) = 46
    · have res : cx_res t n N k = ((4, 256, (k : Int)), N, k + 2) := by
        unfold cx_res cx_tok
        rw [if_neg hl, if_neg hd, if_pos (show t k = 46 ∧ lx_at t n (k + 1) = 46 from ⟨c1, c2⟩)]; rfl
      rw [if_pos c2, q_5_8_2, if_neg (by decide), S.2.1]
      have K := E7 (x3 := 1) (x4 := 1) (s0 := 2) (by omega)
      rw [if_neg (show ¬ (1 : Int) = 0 by decide), if_neg (show ¬ (1 : Int) = 0 by decide)] at K
      first
        | exact K res
        | (rw [if_neg (by decide)]; exact K res)
    · rw [if_neg c2]; exact E2 rfl (fun z => c2 z.2)
  · rw [if_neg c1]; exact E2 rfl (fun z => c1 z.1)
end
