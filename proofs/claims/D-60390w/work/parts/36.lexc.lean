/-! PURE LAYER, 6: the component's tokens -/
/-- the text at hand: n bytes -/
def lc_T (t : Nat → Int) (n : Nat) (h : am_H) : Prop := h 240 6 = n ∧ n ≤ 16000 ∧ ∀ k, k < n → (-128 ≤ h 3 k ∧ h 3 k ≤ 127) ∧ h 3 k % 256 = t k
theorem lc_T.next {t : Nat → Int} {n : Nat} {h h' : am_H} (H : lc_T t n h) (h3 : h' 3 = h 3) (h6 : h' 240 6 = h 240 6) : lc_T t n h' := ⟨by rw [h6]; exact H.1, H.2.1, fun k hk => by rw [h3]; exact H.2.2 k hk⟩
theorem lc_T.at_ {t : Nat → Int} {n : Nat} {h : am_H} (H : lc_T t n h) (v : Int) : lc_T t n (am_up h 240 7 v) := H.next (p_up_c _ _ _ _ _ (by decide)) (p_up_n _ _ _ _ _ _ (Or.inr (by decide)))
theorem lc_T.rg {t : Nat → Int} {n : Nat} {h : am_H} (H : lc_T t n h) {k : Nat} (hk : k < n) : 0 ≤ t k ∧ t k ≤ 255 := by
  have := (H.2.2 k hk).2
  omega
section
variable (d L : Nat) {t : Nat → Int} {n : Nat} {h : am_H}
theorem lc_here (H : lc_T t n h) {k : Nat} (hk : h 240 7 = k) (hkn : k ≤ n) (x : Nat) (hx : x ≤ 2) : am_D (d + 1) 13 1 [am_r (am_a 240), am_i x] (zS L, h) = pI L (lx_at t n (k + x)) h := by
  have hn := H.2.1
  rw [D_13_1, hk, H.1, p_w (by omega) (by omega)]
  unfold lx_at
  by_cases c : k + x < n
  · rw [if_pos (by omega), if_pos c, p_idx (by omega) (by omega), p_and255, show ((k : Int) + (x : Int)).toNat = k + x by omega, (H.2.2 _ c).2]
  · rw [if_neg (by omega), if_neg c]
theorem lc_here0 (H : lc_T t n h) {k : Nat} (hk : h 240 7 = k) (hkn : k ≤ n) : am_D (d + 1) 13 1 [am_r (am_a 240), am_i 0] (zS L, h) = pI L (lx_at t n k) h := lc_here d L H hk hkn 0 (by omega)
theorem lc_here1 (H : lc_T t n h) {k : Nat} (hk : h 240 7 = k) (hkn : k ≤ n) : am_D (d + 1) 13 1 [am_r (am_a 240), am_i 1] (zS L, h) = pI L (lx_at t n (k + 1)) h := lc_here d L H hk hkn 1 (by omega)
theorem lc_digit (c : Int) : am_D (d + 1) 13 2 [am_i c] (zS L, h) = pI L (pB (lx_digit c)) h := by
  rw [D_13_2]
  simp only [p_bit0, p_bit1]
  by_cases hj : lx_digit c
  · rw [pB_t hj]; unfold lx_digit at hj; (repeat' split) <;> first | rfl | (exfalso; omega)
  · rw [pB_f hj]; unfold lx_digit at hj; (repeat' split) <;> first | rfl | (exfalso; omega)
theorem lc_letter (c : Int) : am_D (d + 1) 13 3 [am_i c] (zS L, h) = pI L (pB (lx_letter c)) h := by
  rw [D_13_3]
  simp only [q_13_3_1, p_bit0, p_bit1]
  by_cases hj : lx_letter c
  · rw [pB_t hj]; unfold lx_letter at hj; (repeat' split) <;> first | rfl | (exfalso; omega)
  · rw [pB_f hj]; unfold lx_letter at hj; (repeat' split) <;> first | rfl | (exfalso; omega)
theorem lc_part (c : Int) : am_D (d + 2) 13 4 [am_i c] (zS L, h) = pI L (pB (lx_part c)) h := by
  rw [D_13_4, lc_digit, p_xI, lc_letter]
  simp only [p_bit0, p_bit1, pB_0, p_xI]
  by_cases h1 : lx_digit c
  · rw [if_neg (by simp [h1]), pB_t (show lx_part c from Or.inl h1)]
  · rw [if_pos h1]
    by_cases h2 : lx_letter c
    · rw [if_neg (by simp [h2]), pB_t (show lx_part c from Or.inr h2)]
    · rw [if_pos h2, pB_f (show ¬ lx_part c by rintro (z | z) <;> contradiction)]
theorem lc_sign (c : Int) : am_D (d + 1) 13 5 [am_i c] (zS L, h) = pI L (pB (lx_sign c)) h := by
  rw [D_13_5]
  simp only [p_bit0, p_bit1]
  by_cases hj : lx_sign c
  · rw [pB_t hj]; unfold lx_sign at hj
    by_cases h1 : c = 38 ∨ c = 40 ∨ c = 41 ∨ c = 42 ∨ c = 43 ∨ c = 44 ∨ c = 45 ∨ c = 46 ∨ c = 47 ∨ c = 59 ∨ c = 60 ∨ c = 61 ∨ c = 62 ∨ c = 91 ∨ c = 93 ∨ c = 123 ∨ c = 124 ∨ c = 125 ∨ c = 126
    · rcases h1 with rfl | rfl | rfl | rfl | rfl | rfl | rfl | rfl | rfl | rfl | rfl | rfl | rfl | rfl | rfl | rfl | rfl | rfl | rfl <;> simp
    · exfalso; omega
  · rw [pB_f hj]; unfold lx_sign at hj
    simp only [if_neg (show ¬ c = 38 by omega), if_neg (show ¬ c = 40 by omega), if_neg (show ¬ c = 41 by omega), if_neg (show ¬ c = 42 by omega), if_neg (show ¬ c = 43 by omega), if_neg (show ¬ c = 44 by omega), if_neg (show ¬ c = 45 by omega), if_neg (show ¬ c = 46 by omega), if_neg (show ¬ c = 47 by omega), if_neg (show ¬ c = 59 by omega), if_neg (show ¬ c = 60 by omega), if_neg (show ¬ c = 61 by omega), if_neg (show ¬ c = 62 by omega), if_neg (show ¬ c = 91 by omega), if_neg (show ¬ c = 93 by omega), if_neg (show ¬ c = 123 by omega), if_neg (show ¬ c = 124 by omega), if_neg (show ¬ c = 125 by omega), if_neg (show ¬ c = 126 by omega)]
/-- a line comment is passed -/
theorem lc_line (u1 u2 u3 u4 : Option am_V) : ∀ (m : Nat) (h : am_H) (k : Nat), lc_T t n h → h 240 7 = k → k ≤ n → n ≤ k + m →
    am_E (am_D (d + 1)) m_13_8 (.inl 5) [some (am_r (am_a 240)), u1, u2, u3, u4] [] (zS L, h) = am_E (am_D (d + 1)) m_13_8 (.inl 0) [some (am_r (am_a 240)), u1, u2, u3, u4] [] (zS L, am_up h 240 7 (lx_line t n m k)) := by
  intro m
  induction m with
  | zero =>
    intro h k H hk hkn e
    rw [q_13_8_5, hk, H.1, if_neg (by omega)]
    unfold lx_line
    rw [p_up_id' hk]
  | succ m ih =>
    intro h k H hk hkn e
    have hn := H.2.1
    rw [q_13_8_5, hk, H.1]
    unfold lx_line
    by_cases c : k < n
    · rw [if_pos (by omega), lc_here0 d L H hk hkn, p_xI]
      unfold lx_at
      rw [if_pos c]
      by_cases c2 : t k = 10
      · rw [if_pos c2, if_neg (by omega), p_up_id' hk]
      · rw [if_neg c2, if_pos ⟨c, c2⟩, hk, p_w (by omega) (by omega)]
        have := ih (am_up h 240 7 ((k : Int) + 1)) (k + 1) (H.at_ _) (p_up_s _ _ _ _) (by omega) (by omega)
        rw [p_up_up] at this
        exact this
    · rw [if_neg (by omega), if_neg (by omega), p_up_id' hk]
/-- a long comment is passed -/
theorem lc_star (u1 u2 u3 : Option am_V) (x4 : Int) : ∀ (m : Nat) (h : am_H) (k : Nat), lc_T t n h → h 240 7 = k → k ≤ n → n ≤ k + m →
    am_E (am_D (d + 1)) m_13_8 (.inl 7) [some (am_r (am_a 240)), u1, u2, u3, some (am_i x4)] [] (zS L, h) = am_E (am_D (d + 1)) m_13_8 (.inl 9) [some (am_r (am_a 240)), u1, u2, u3, some (am_i x4)] [] (zS L, am_up h 240 7 (lx_star t n m k)) := by
  intro m
  induction m with
  | zero =>
    intro h k H hk hkn e
    rw [q_13_8_7, hk, H.1, if_neg (by omega)]
    unfold lx_star
    rw [p_up_id' hk]
  | succ m ih =>
    intro h k H hk hkn e
    have hn := H.2.1
    rw [q_13_8_7, hk, H.1]
    unfold lx_star
    by_cases c : k < n
    · have step : am_E (am_D (d + 1)) m_13_8 (.inl 7) [some (am_r (am_a 240)), u1, u2, u3, some (am_i x4)] [] (zS L, am_up h 240 7 (am_w (h 240 7 + 1))) = am_E (am_D (d + 1)) m_13_8 (.inl 9) [some (am_r (am_a 240)), u1, u2, u3, some (am_i x4)] [] (zS L, am_up h 240 7 (lx_star t n m (k + 1))) := by
        rw [hk, p_w (by omega) (by omega)]
        have := ih (am_up h 240 7 ((k : Int) + 1)) (k + 1) (H.at_ _) (p_up_s _ _ _ _) (by omega) (by omega)
        rw [p_up_up] at this
        exact this
      rw [if_pos (by omega), lc_here0 d L H hk hkn, p_xI]
      have e0 : lx_at t n k = t k := if_pos c
      rw [e0]
      by_cases c2 : t k = 42
      · rw [if_pos c2, lc_here1 d L H hk hkn, p_xI]
        by_cases c3 : lx_at t n (k + 1) = 47
        · rw [if_pos c3, if_neg (by rintro ⟨-, z⟩; exact z ⟨c2, c3⟩), p_up_id' hk]
        · rw [if_neg c3, if_pos ⟨c, fun z => c3 z.2⟩]; exact step
      · rw [if_neg c2, if_pos ⟨c, fun z => c2 z.1⟩]; exact step
    · rw [if_neg (by omega), if_neg (by omega), p_up_id' hk]
/-- blanks and comments are passed -/
theorem lc_skip : ∀ (m : Nat) (h : am_H) (k : Nat) (u1 u2 u3 u4 : Option am_V), lc_T t n h → h 240 7 = k → k ≤ n → n < k + m →
    am_E (am_D (d + 1)) m_13_8 (.inl 0) [some (am_r (am_a 240)), u1, u2, u3, u4] [] (zS L, h) = pI L (pB ((lx_skip t n m k).1 = true)) (am_up h 240 7 (lx_skip t n m k).2) := by
  intro m
  induction m with
  | zero => intro h k u1 u2 u3 u4 H hk hkn e; omega
  | succ m ih =>
    intro h k u1 u2 u3 u4 H hk hkn e
    have hn := H.2.1
    have nx : ∀ (v : Nat) (u1 u2 u3 u4 : Option am_V), v ≤ n → n < v + m → am_E (am_D (d + 1)) m_13_8 (.inl 0) [some (am_r (am_a 240)), u1, u2, u3, u4] [] (zS L, am_up h 240 7 v) = pI L (pB ((lx_skip t n m v).1 = true)) (am_up h 240 7 (lx_skip t n m v).2) := by
      intro v u1 u2 u3 u4 hv hv2
      have := ih (am_up h 240 7 v) v u1 u2 u3 u4 (H.at_ _) (p_up_s _ _ _ _) hv hv2
      rw [p_up_up] at this
      exact this
    rw [q_13_8_0, lc_here0 d L H hk hkn, p_xI]
    unfold lx_skip
    by_cases c0 : n ≤ k
    · have e0 : lx_at t n k = -1 := if_neg (by omega)
      rw [e0, if_neg (by decide), q_13_8_2, if_neg (by decide), q_13_8_4, if_pos rfl, if_pos rfl, if_neg (by decide), if_neg (by decide), if_neg (by decide), if_neg (by decide), p_bit1, if_pos c0]
      rw [pB_t rfl]
      dsimp only
      rw [p_up_id' hk]
    · have e0 : lx_at t n k = t k := if_pos (by omega)
      rw [e0, if_neg c0]
      by_cases c1 : t k = 47
      · rw [if_pos c1, lc_here1 d L H hk hkn, p_xI]
        by_cases c2 : lx_at t n (k + 1) = 47
        · obtain ⟨a, b, e1⟩ := lx_line_rg t n n k (by omega)
          have hlt : k < lx_line t n n k := by
            apply Classical.byContradiction
            intro z
            have hk : lx_line t n n k = k := by omega
            rw [hk] at e1
            have := e1 (by omega)
            omega
          rw [if_pos c2, if_pos ⟨c1, c2⟩, q_13_8_2, if_pos c1, lc_here1 d L H hk hkn, p_xI, if_neg (by omega), q_13_8_4, if_neg (by decide), lc_line d L _ _ _ _ n h k H hk hkn (by omega)]
          exact nx _ _ _ _ _ (b hkn) (by omega)
        · rw [if_neg c2, if_neg (fun z => c2 z.2), q_13_8_2, if_pos c1, lc_here1 d L H hk hkn, p_xI]
          by_cases c3 : lx_at t n (k + 1) = 42
          · have hk2 : k + 1 < n := by
              apply Classical.byContradiction
              intro z
              unfold lx_at at c3
              rw [if_neg z] at c3
              cases c3
            obtain ⟨a, e1⟩ := lx_star_rg t n n (k + 2) (by omega)
            rw [if_pos c3, if_pos ⟨c1, c3⟩, q_13_8_4, if_pos rfl, if_neg (by decide), hk, p_w (by omega) (by omega)]
            have hs := lc_star d L (t := t) (n := n) (some (am_i (t k))) (some (am_i 0)) (some (am_i 1)) k n (am_up h 240 7 ((k : Int) + 2)) (k + 2) (H.at_ _) (p_up_s _ _ _ _) (by omega) (by omega)
            rw [p_up_up] at hs
            rw [hs, q_13_8_9, p_up_s, p_up_n _ _ _ _ _ _ (Or.inr (by decide)), H.1, p_up_up]
            by_cases c4 : n ≤ lx_star t n n (k + 2)
            · rw [if_neg (by omega), if_pos c4, p_bit0, pB_f (by simp), p_up_up]
            · have e2 := (e1 (by omega)).2
              have hlt : lx_star t n n (k + 2) + 1 < n := by
                apply Classical.byContradiction
                intro z
                unfold lx_at at e2
                rw [if_neg z] at e2
                cases e2
              rw [if_pos (by omega), if_neg c4, p_w (by omega) (by omega)]
              exact nx (lx_star t n n (k + 2) + 2) _ _ _ _ (by omega) (by omega)
          · rw [if_neg c3, if_neg (fun z => c3 z.2), q_13_8_4, if_pos rfl, if_pos rfl, if_neg (by omega), if_neg (by omega), if_neg (by omega), if_neg (by omega), p_bit1, if_neg (by unfold lx_blank; omega)]
            rw [pB_t rfl]
            dsimp only
            rw [p_up_id' hk]
      · rw [if_neg c1, if_neg (fun z => c1 z.1), if_neg (fun z => c1 z.1), q_13_8_2, if_neg c1, q_13_8_4, if_pos rfl, if_pos rfl, hk, p_w (by omega) (by omega)]
        by_cases c2 : lx_blank (t k)
        · rw [if_pos c2]
          have st := fun u1 u2 u3 u4 => nx (k + 1) u1 u2 u3 u4 (by omega) (by omega)
          unfold lx_blank at c2
          rcases c2 with z | z | z | z <;> rw [z] <;> simp only [if_true, if_false, show ¬ (9 : Int) = 32 by decide, show ¬ (10 : Int) = 32 by decide, show ¬ (10 : Int) = 9 by decide, show ¬ (13 : Int) = 32 by decide, show ¬ (13 : Int) = 9 by decide, show ¬ (13 : Int) = 10 by decide] <;> exact st _ _ _ _
        · rw [if_neg c2]
          unfold lx_blank at c2
          rw [if_neg (by omega), if_neg (by omega), if_neg (by omega), if_neg (by omega), p_bit1]
          rw [pB_t rfl]
          dsimp only
          rw [p_up_id' hk]
end
/-- the tokens that are there -/
def lc_K (tk : List (Int × Int × Int)) (h : am_H) : Prop := h 240 5 = tk.length ∧ ∀ (i : Nat) (q : Int × Int × Int), tk[i]? = some q → h 241 i = q.1 ∧ h 242 i = q.2.1 ∧ h 243 i = q.2.2
theorem lc_K.at_ {tk : List (Int × Int × Int)} {h : am_H} (H : lc_K tk h) (v : Int) : lc_K tk (am_up h 240 7 v) := ⟨by rw [p_up_n _ _ _ _ _ _ (Or.inr (by decide))]; exact H.1, fun i q hi => by rw [p_up_c _ _ _ _ _ (by decide), p_up_c _ _ _ _ _ (by decide), p_up_c _ _ _ _ _ (by decide)]; exact H.2 i q hi⟩
def lc_addh (h : am_H) (s : Nat) (a b p : Int) : am_H := am_up (am_up (am_up (am_up h 241 s a) 242 s b) 243 s p) 240 5 (s + 1)
theorem lc_addh_K {tk : List (Int × Int × Int)} {h : am_H} (H : lc_K tk h) (a b p : Int) : lc_K (tk ++ [(a, b, p)]) (lc_addh h tk.length a b p) := by
  unfold lc_addh
  refine ⟨by rw [p_up_s, List.length_append]; simp, fun i q hi => ?_⟩
  by_cases c : i < tk.length
  · rw [List.getElem?_append_left c] at hi
    obtain ⟨a1, a2, a3⟩ := H.2 i q hi
    have c' : i ≠ tk.length := by omega
    simp [p_up, c', a1, a2, a3]
  · have hl := (List.getElem?_eq_some_iff.mp hi).1
    rw [List.length_append, List.length_singleton] at hl
    have e : i = tk.length := by omega
    subst e
    rw [List.getElem?_append_right (by omega), Nat.sub_self] at hi
    cases hi
    simp [p_up]
theorem lc_add (d L : Nat) {h : am_H} {s : Nat} (hs : h 240 5 = s) (h1 : s < 4500) {a b p : Int} (ha : -128 ≤ a ∧ a ≤ 127) (hb : -32768 ≤ b ∧ b ≤ 32767) : am_D (d + 1) 13 6 [am_r (am_a 240), am_i a, am_i b, am_i p] (zS L, h) = pV L (lc_addh h s a b p) := by
  rw [D_13_6, hs, p_idx (by omega) (by omega), p_idx (by omega) (by omega), p_idx (by omega) (by omega), p_s8_s8, p_s16_s16, p_s8 ha.1 ha.2, p_s16 hb.1 hb.2, p_w (by omega) (by omega), Int.toNat_natCast]
  rfl
theorem pna_R.next {N : List (List Int)} {h h' : am_H} (R : pna_R h N) (e3 : h' 4 3 = h 4 3) (e4 : h' 4 4 = h 4 4) (e5 : h' 5 = h 5) (e6 : h' 6 = h 6) (e7 : h' 7 = h 7) : pna_R h' N := ⟨by rw [e3]; exact R.1, by rw [e4]; exact R.2.1, fun i w hw => by rw [e5, e6, e7]; exact R.2.2 i w hw⟩
/-- where the component stands: text, place, tokens, names -/
def lc_S (t : Nat → Int) (n k : Nat) (tk : List (Int × Int × Int)) (N : List (List Int)) (h : am_H) : Prop := lc_T t n h ∧ h 240 7 = k ∧ lc_K tk h ∧ pna_R h N
theorem lc_S.at_ {t : Nat → Int} {n k : Nat} {tk : List (Int × Int × Int)} {N : List (List Int)} {h : am_H} (S : lc_S t n k tk N h) (v : Nat) : lc_S t n v tk N (am_up h 240 7 v) :=
  ⟨S.1.at_ _, p_up_s _ _ _ _, S.2.2.1.at_ _, S.2.2.2.next (p_up_n _ _ _ _ _ _ (Or.inl (by decide))) (p_up_n _ _ _ _ _ _ (Or.inl (by decide))) (p_up_c _ _ _ _ _ (by decide)) (p_up_c _ _ _ _ _ (by decide)) (p_up_c _ _ _ _ _ (by decide))⟩
theorem lc_S.add {t : Nat → Int} {n k : Nat} {tk : List (Int × Int × Int)} {N : List (List Int)} {h : am_H} (S : lc_S t n k tk N h) (a b p : Int) : lc_S t n k (tk ++ [(a, b, p)]) N (lc_addh h tk.length a b p) := by
  obtain ⟨s1, s2, s3, s4⟩ := S
  refine ⟨s1.next ?_ ?_, ?_, lc_addh_K s3 a b p, s4.next ?_ ?_ ?_ ?_ ?_⟩ <;> unfold lc_addh
  · simp [p_up_c]
  · simp [p_up]
  · simpa [p_up] using s2
  · simp [p_up]
  · simp [p_up]
  · simp [p_up_c]
  · simp [p_up_c]
  · simp [p_up_c]
def lc_F : List Nat := [5, 6, 7, 241, 242, 243]
def lc_P : List (Nat × Nat) := [(240, 5), (240, 7), (4, 3), (4, 4)]
/-- what a reading of tokens changes: nothing behind the tokens -/
def lcx (h h' : am_H) : Prop := p_fr lc_F lc_P h h' ∧ h 240 5 ≤ h' 240 5 ∧ ∀ (c i : Nat), c = 241 ∨ c = 242 ∨ c = 243 → h' 240 5 ≤ (i : Int) → h' c i = h c i
theorem lcx.refl (h : am_H) : lcx h h := ⟨p_fr.refl h, Int.le_refl _, fun _ _ _ _ => rfl⟩
theorem lcx.trans {a b c : am_H} (A : lcx a b) (B : lcx b c) : lcx a c := ⟨A.1.trans B.1, Int.le_trans A.2.1 B.2.1, fun x i hx hi => (B.2.2 x i hx hi).trans (A.2.2 x i hx (Int.le_trans B.2.1 hi))⟩
theorem lc_fr_at {h h' : am_H} (f : lcx h h') (v : Int) : lcx h (am_up h' 240 7 v) := ⟨f.1.upf _ _ _ rfl, by rw [p_up_n _ _ _ _ _ _ (Or.inr (by decide))]; exact f.2.1, fun c i hc hi => by
  rw [p_up_n _ _ _ _ _ _ (Or.inr (by decide))] at hi
  rw [p_up_c _ _ _ _ _ (by omega)]; exact f.2.2 c i hc hi⟩
theorem lc_fr_add {h h' : am_H} (f : lcx h h') {s : Nat} (e : h' 240 5 = (s : Int)) (a b p : Int) : lcx h (lc_addh h' s a b p) := by
  refine ⟨(((f.1.upc _ _ _ rfl).upc _ _ _ rfl).upc _ _ _ rfl).upf _ _ _ rfl, ?_, fun c i hc hi => ?_⟩
  · unfold lc_addh; rw [p_up_s]; have := f.2.1; omega
  · unfold lc_addh at hi ⊢
    rw [p_up_s] at hi
    rw [p_up_c _ _ _ _ _ (by omega), p_up_n _ _ _ _ _ _ (Or.inr (by omega)), p_up_n _ _ _ _ _ _ (Or.inr (by omega)), p_up_n _ _ _ _ _ _ (Or.inr (by omega))]
    exact f.2.2 c i hc (by omega)
section
variable (d L : Nat) {t : Nat → Int} {n : Nat}
theorem lc_wordend (x1 : Int) (u2 : Option am_V) : ∀ (m : Nat) (h : am_H) (k : Nat), lc_T t n h → h 240 7 = k → k ≤ n → n ≤ k + m → am_E (am_D (d + 2)) m_13_9 (.inl 0) [some (am_r (am_a 240)), some (am_i x1), u2] [] (zS L, h) = am_E (am_D (d + 2)) m_13_9 (.inl 0) [some (am_r (am_a 240)), some (am_i x1), u2] [] (zS L, am_up h 240 7 (lx_word t n m k)) := by
  intro m
  induction m with
  | zero =>
    intro h k H hk hkn e
    unfold lx_word
    rw [p_up_id' hk]
  | succ m ih =>
    intro h k H hk hkn e
    have hn := H.2.1
    unfold lx_word
    by_cases c : lx_part (lx_at t n k)
    · rw [if_pos c]
      have hkn2 : k < n := by
        apply Classical.byContradiction
        intro z
        unfold lx_at at c
        rw [if_neg z] at c
        unfold lx_part lx_digit lx_letter at c
        omega
      have hu := ih (am_up h 240 7 ((k : Int) + 1)) (k + 1) (H.at_ _) (p_up_s _ _ _ _) (by omega) (by omega)
      rw [p_up_up] at hu
      rw [← hu, q_13_9_0, lc_here0 (d + 1) L H hk hkn, p_xI, lc_part, p_xI, pB_t c, if_neg (by decide), hk, p_w (by omega) (by omega)]
    · rw [if_neg c, p_up_id' hk]
theorem lc_word {h : am_H} {k : Nat} {tk : List (Int × Int × Int)} {N : List (List Int)} (S : lc_S t n k tk N h) (hk : k < n) (hl : lx_letter (t k)) (htk : tk.length < 4500) (hN : N.length < 1400) (hu : pn_used N + 16 ≤ 18000) :
    ∃ h', am_D (d + 3) 13 9 [am_r (am_a 240), am_i k] (zS L, h) = pV L h' ∧ lcx h h' ∧ lc_S t n (lx_res t n N k).2.2 (tk ++ [(lx_res t n N k).1]) (lx_res t n N k).2.1 h' := by
  obtain ⟨r1, r2, r3, r4⟩ := lx_word_rg (t := t) (n := n) n k (by omega) (by omega)
  have S1 := S.at_ (lx_word t n n k)
  have hn := S.1.2.1
  rw [D_13_9, lc_wordend d L k none n h k S.1 S.2.1 (by omega) (by omega), q_13_9_0, lc_here0 (d + 1) L S1.1 S1.2.1 r2, p_xI, lc_part, p_xI, pB_f r4, if_pos rfl, p_up_s, p_w (by omega) (by omega)]
  by_cases c : 16 < lx_word t n n k - k
  · have er : lx_res t n N k = ((6, 0, (k : Int)), N, lx_word t n n k) := by unfold lx_res lx_tok; rw [if_pos hl, if_pos c]; rfl
    rw [if_pos (by omega), er, lc_add (d + 1) L S1.2.2.1.1 htk (by omega) (by omega), p_xV]
    exact ⟨_, rfl, lc_fr_add (lc_fr_at (lcx.refl h) _) S1.2.2.1.1 _ _ _, S1.add 6 0 k⟩
  · have er : lx_res t n N k = (((if N.idxOf (lx_span t k (lx_word t n n k)) < 21 then 1 else 2 : Int), ((N.idxOf (lx_span t k (lx_word t n n k)) : Nat) : Int), (k : Int)), pn_add N (lx_span t k (lx_word t n n k)), lx_word t n n k) := by
      unfold lx_res lx_tok; rw [if_pos hl, if_neg c]; rfl
    rw [if_neg (by omega), er]
    dsimp only
    have hlen := lx_span_len (t := t) k (lx_word t n n k)
    obtain ⟨h2, a1, a2, a3⟩ := pna_find d L (am_up h 240 7 (lx_word t n n k)) (a := 3) (na := 16000) (ra := []) rfl (by decide) S1.2.2.2 k (lx_span t k (lx_word t n n k)) (by omega) (by omega)
      (fun q x hx => by
        obtain ⟨hq, rfl⟩ := lx_span_at hx
        have hp := r3 (k + q) (by omega) (by omega)
        have hv := S1.1.2.2 (k + q) (by omega)
        unfold lx_part lx_digit lx_letter at hp
        refine ⟨?_, by omega, by omega⟩
        omega) hN (by omega)
    rw [hlen] at a1
    have e1 : ((lx_word t n n k : Nat) : Int) - (k : Int) = ((lx_word t n n k - k : Nat) : Int) := by omega
    rw [e1, a1, p_xI]
    have hix : N.idxOf (lx_span t k (lx_word t n n k)) ≤ N.length := List.idxOf_le_length
    have f3 : h2 3 = (am_up h 240 7 (lx_word t n n k)) 3 := a3.cell 3 rfl rfl
    have f240 : h2 240 = (am_up h 240 7 (lx_word t n n k)) 240 := a3.cell 240 rfl rfl
    have S2 : lc_S t n (lx_word t n n k) tk (pn_add N (lx_span t k (lx_word t n n k))) h2 :=
      ⟨S1.1.next f3 (by rw [f240]), by rw [f240]; exact S1.2.1, ⟨by rw [f240]; exact S1.2.2.1.1, fun i q hi => by rw [a3.cell 241 rfl rfl, a3.cell 242 rfl rfl, a3.cell 243 rfl rfl]; exact S1.2.2.1.2 i q hi⟩, a2⟩
    have fr2 : lcx h h2 := (lc_fr_at (lcx.refl h) _).trans ⟨a3.mono rfl rfl, by rw [f240]; exact Int.le_refl _, fun c i hc _ => by rcases hc with rfl | rfl | rfl <;> first | rw [a3.cell 241 rfl rfl] | rw [a3.cell 242 rfl rfl] | rw [a3.cell 243 rfl rfl]⟩
    by_cases c2 : N.idxOf (lx_span t k (lx_word t n n k)) < 21
    · rw [if_pos (by omega), if_pos c2, lc_add (d + 1) L S2.2.2.1.1 htk (by omega) (by omega), p_xV]
      exact ⟨_, rfl, lc_fr_add fr2 S2.2.2.1.1 _ _ _, S2.add _ _ _⟩
    · rw [if_neg (by omega), if_neg c2, lc_add (d + 1) L S2.2.2.1.1 htk (by omega) (by omega), p_xV]
      exact ⟨_, rfl, lc_fr_add fr2 S2.2.2.1.1 _ _ _, S2.add _ _ _⟩
end
/-- the component's way with digits: not beyond 100000 -/
def lx_numc (t : Nat → Int) : Nat → Nat → Int → Int
  | 0, _, v => v
  | m + 1, k, v => lx_numc t m (k + 1) (if 100000 ≤ 10 * v + t k - 48 then 100000 else 10 * v + t k - 48)
theorem lx_numc_eq {t : Nat → Int} : ∀ (m k : Nat) (v : Int), (v + 1) * 10 ^ m ≤ 100000 → 0 ≤ v → (∀ j, k ≤ j → j < k + m → lx_digit (t j)) → lx_numc t m k v = lx_num t m k v
  | 0, _, _, _, _, _ => rfl
  | m + 1, k, v, h, hv, hd => by
    have h1 := hd k (by omega) (by omega)
    unfold lx_digit at h1
    unfold lx_numc lx_num
    have hp : (10 : Int) ^ (m + 1) = 10 * 10 ^ m := by rw [Int.pow_succ, Int.mul_comm]
    rw [hp] at h
    have hpos : (1 : Int) ≤ 10 ^ m := by
      have : (0 : Int) < 10 ^ m := Int.pow_pos (by omega)
      omega
    have h2 : (v + 1) * (10 * 10 ^ m) = (10 * v + 10) * 10 ^ m := by rw [← Int.mul_assoc, Int.add_mul, Int.mul_comm v 10]; rfl
    rw [h2] at h
    have h3 : (10 * v + 10) * 1 ≤ (10 * v + 10) * 10 ^ m := Int.mul_le_mul_of_nonneg_left hpos (by omega)
    have h4 : (10 * v + t k - 48 + 1) * 10 ^ m ≤ (10 * v + 10) * 10 ^ m := Int.mul_le_mul_of_nonneg_right (by omega) (by omega)
    rw [if_neg (by omega)]
    exact lx_numc_eq m (k + 1) _ (by omega) (by omega) (fun j a b => hd j (by omega) (by omega))
theorem lx_pow5 : ∀ m : Nat, m ≤ 5 → (10 : Int) ^ m ≤ 100000
  | 0, _ => by decide
  | 1, _ => by decide
  | 2, _ => by decide
  | 3, _ => by decide
  | 4, _ => by decide
  | 5, _ => by decide
  | m + 6, h => by omega
section
variable (d L : Nat) {t : Nat → Int} {n : Nat}
theorem lc_digs (x1 : Int) (u3 : Option am_V) : ∀ (m : Nat) (h : am_H) (k : Nat) (v : Int), lc_T t n h → h 240 7 = k → k ≤ n → n ≤ k + m → 0 ≤ v → v ≤ 100000 →
    0 ≤ lx_numc t (lx_digs t n m k - k) k v ∧ lx_numc t (lx_digs t n m k - k) k v ≤ 100000 ∧ am_E (am_D (d + 2)) m_13_10 (.inl 1) [some (am_r (am_a 240)), some (am_i x1), some (am_i v), u3] [] (zS L, h) = am_E (am_D (d + 2)) m_13_10 (.inl 1) [some (am_r (am_a 240)), some (am_i x1), some (am_i (lx_numc t (lx_digs t n m k - k) k v)), u3] [] (zS L, am_up h 240 7 (lx_digs t n m k)) := by
  intro m
  induction m with
  | zero =>
    intro h k v H hk hkn e v0 v1
    unfold lx_digs
    rw [p_up_id' hk, Nat.sub_self]
    exact ⟨v0, v1, rfl⟩
  | succ m ih =>
    intro h k v H hk hkn e v0 v1
    have hn := H.2.1
    unfold lx_digs
    by_cases c : lx_digit (lx_at t n k)
    · have hkn2 : k < n := by
        apply Classical.byContradiction
        intro z
        unfold lx_at at c
        rw [if_neg z] at c
        unfold lx_digit at c
        omega
      have ea : lx_at t n k = t k := if_pos hkn2
      have c' : lx_digit (t k) := by rw [← ea]; exact c
      have cb := c'
      unfold lx_digit at cb
      rw [if_pos c]
      obtain ⟨r1, r2, r3, r4⟩ := lx_digs_rg (t := t) (n := n) m (k + 1) (by omega) (by omega)
      obtain ⟨i1, i2, hu⟩ := ih (am_up h 240 7 ((k : Int) + 1)) (k + 1) (if 100000 ≤ 10 * v + t k - 48 then 100000 else 10 * v + t k - 48) (H.at_ _) (p_up_s _ _ _ _) (by omega) (by omega) (by split <;> omega) (by split <;> omega)
      rw [p_up_up] at hu
      have es : lx_digs t n m (k + 1) - k = (lx_digs t n m (k + 1) - (k + 1)) + 1 := by omega
      rw [es]
      unfold lx_numc
      refine ⟨i1, i2, ?_⟩
      rw [← hu, q_13_10_1, lc_here0 (d + 1) L H hk hkn, p_xI, lc_digit, p_xI, pB_t c, if_neg (by decide), lc_here0 (d + 1) L H hk hkn, p_xI, ea, hk, p_w (x := (k : Int) + 1) (by omega) (by omega), p_w (x := 10 * v) (by omega) (by omega), p_w (x := 10 * v + t k) (by omega) (by omega), p_w (x := 10 * v + t k - 48) (by omega) (by omega)]
    · rw [if_neg c, p_up_id' hk, Nat.sub_self]
      exact ⟨v0, v1, rfl⟩
theorem lc_number {h : am_H} {k : Nat} {tk : List (Int × Int × Int)} {N : List (List Int)} (S : lc_S t n k tk N h) (hk : k < n) (hl : ¬ lx_letter (t k)) (hd : lx_digit (t k)) (htk : tk.length < 4500) :
    ∃ h', am_D (d + 3) 13 10 [am_r (am_a 240), am_i k] (zS L, h) = pV L h' ∧ lcx h h' ∧ lc_S t n (lx_res t n N k).2.2 (tk ++ [(lx_res t n N k).1]) (lx_res t n N k).2.1 h' := by
  obtain ⟨r1, r2, r3, r4⟩ := lx_digs_rg (t := t) (n := n) n k (by omega) (by omega)
  have S1 := S.at_ (lx_digs t n n k)
  have hn := S.1.2.1
  obtain ⟨i1, i2, i3⟩ := lc_digs d L k none n h k 0 S.1 S.2.1 (by omega) (by omega) (by omega) (by omega)
  rw [D_13_10, i3, q_13_10_1, lc_here0 (d + 1) L S1.1 S1.2.1 r2, p_xI, lc_digit, p_xI, pB_f r4, if_pos rfl, p_up_s, p_w (by omega) (by omega), lc_here0 (d + 1) L S1.1 S1.2.1 r2]
  have e4 : ∀ (x2 s0 : Int), am_E (am_D (d + 2)) m_13_10 (.inl 4) [some (am_r (am_a 240)), some (am_i (k : Int)), some (am_i x2), none] [am_i s0] (zS L, am_up h 240 7 (lx_digs t n n k)) = if s0 = 0 then am_xV (zS L) (am_D (d + 2) 13 6 [am_r (am_a 240), am_i 6, am_i 0, am_i (k : Int)] (zS L, am_up h 240 7 (lx_digs t n n k))) (am_up1 (zS L)) (fun h1 => some (.inl none, (zS L, h1))) else am_xV (zS L) (am_D (d + 2) 13 6 [am_r (am_a 240), am_i 3, am_i x2, am_i (k : Int)] (zS L, am_up h 240 7 (lx_digs t n n k))) (am_up1 (zS L)) (fun h1 => some (.inl none, (zS L, h1))) := by
    intro x2 s0
    rw [q_13_10_4]
    by_cases z : s0 = 0
    · simp only [z, if_true]
    · simp only [z, if_false]
  simp only [p_xI, lc_part, e4, pB_0]
  by_cases c : lx_digs t n n k - k ≤ 5 ∧ lx_num t (lx_digs t n n k - k) k 0 ≤ 32767 ∧ ¬ lx_part (lx_at t n (lx_digs t n n k))
  · have er : lx_res t n N k = ((3, lx_num t (lx_digs t n n k - k) k 0, (k : Int)), N, lx_digs t n n k) := by unfold lx_res lx_tok; rw [if_neg hl, if_pos hd, if_pos c]; rfl
    have ev : lx_numc t (lx_digs t n n k - k) k 0 = lx_num t (lx_digs t n n k - k) k 0 := lx_numc_eq _ _ _ (by rw [Int.zero_add, Int.one_mul]; exact lx_pow5 _ c.1) (by omega) (fun j a b => r3 j a (by omega))
    have v0 := lx_num_rg (t := t) (lx_digs t n n k - k) k 0 (by omega) (fun j a b => r3 j a (by omega))
    rw [if_neg (by omega), ev, if_neg (by omega), if_pos c.2.2, if_neg (by simp), er, lc_add (d + 1) L S1.2.2.1.1 htk (by omega) (by omega), p_xV]
    exact ⟨_, rfl, lc_fr_add (lc_fr_at (lcx.refl h) _) S1.2.2.1.1 _ _ _, S1.add _ _ _⟩
  · have er : lx_res t n N k = ((6, 0, (k : Int)), N, lx_digs t n n k) := by unfold lx_res lx_tok; rw [if_neg hl, if_pos hd, if_neg c]; rfl
    have fin : ∃ h', am_xV (zS L) (am_D (d + 2) 13 6 [am_r (am_a 240), am_i 6, am_i 0, am_i (k : Int)] (zS L, am_up h 240 7 (lx_digs t n n k))) (am_up1 (zS L)) (fun h1 => some (.inl none, (zS L, h1))) = pV L h' ∧ lcx h h' ∧ lc_S t n (lx_res t n N k).2.2 (tk ++ [(lx_res t n N k).1]) (lx_res t n N k).2.1 h' := by
      rw [er, lc_add (d + 1) L S1.2.2.1.1 htk (by omega) (by omega), p_xV]
      exact ⟨_, rfl, lc_fr_add (lc_fr_at (lcx.refl h) _) S1.2.2.1.1 _ _ _, S1.add _ _ _⟩
    by_cases c1 : 5 < ((lx_digs t n n k : Nat) : Int) - (k : Int)
    · rw [if_pos c1, if_true]; exact fin
    · rw [if_neg c1]
      have ev : lx_numc t (lx_digs t n n k - k) k 0 = lx_num t (lx_digs t n n k - k) k 0 := lx_numc_eq _ _ _ (by rw [Int.zero_add, Int.one_mul]; exact lx_pow5 _ (by omega)) (by omega) (fun j a b => r3 j a (by omega))
      rw [ev]
      by_cases c2 : 32767 < lx_num t (lx_digs t n n k - k) k 0
      · rw [if_pos c2, if_true]; exact fin
      · rw [if_neg c2]
        have c3 : lx_part (lx_at t n (lx_digs t n n k)) := by
          apply Classical.byContradiction
          intro z
          exact c ⟨by omega, by omega, z⟩
        rw [if_neg (fun z => z c3), if_true]; exact fin
/-- a string's inside -/
theorem lc_str (x1 : Nat) (u2 u3 : Option am_V) : ∀ (m : Nat) (h : am_H) (k : Nat), lc_T t n h → h 240 7 = k → k ≤ n → k + m = x1 + 61 → x1 < k →
    am_E (am_D (d + 1)) m_13_11 (.inl 1) [some (am_r (am_a 240)), some (am_i x1), u2, u3] [] (zS L, h) = am_E (am_D (d + 1)) m_13_11 (.inl 2) [some (am_r (am_a 240)), some (am_i x1), u2, u3] [] (zS L, am_up h 240 7 (lx_str t n m k)) := by
  intro m
  induction m with
  | zero =>
    intro h k H hk hkn e e2
    have hn := H.2.1
    unfold lx_str
    rw [q_13_11_1, lc_here0 d L H hk hkn, p_xI, p_up_id' hk]
    by_cases c1 : lx_at t n k < 32
    · rw [if_pos c1]
    · rw [if_neg c1, lc_here0 d L H hk hkn, p_xI]
      by_cases c2 : lx_at t n k < 127
      · rw [if_pos c2, lc_here0 d L H hk hkn, p_xI]
        by_cases c3 : lx_at t n k = 34
        · rw [if_pos c3]
        · rw [if_neg c3, hk, p_w (by omega) (by omega), if_pos (by omega)]
      · rw [if_neg c2]
  | succ m ih =>
    intro h k H hk hkn e e2
    have hn := H.2.1
    unfold lx_str
    rw [q_13_11_1, lc_here0 d L H hk hkn, p_xI]
    by_cases c1 : lx_at t n k < 32
    · rw [if_pos c1, if_neg (by omega), p_up_id' hk]
    · rw [if_neg c1, lc_here0 d L H hk hkn, p_xI]
      by_cases c2 : lx_at t n k < 127
      · rw [if_pos c2, lc_here0 d L H hk hkn, p_xI]
        by_cases c3 : lx_at t n k = 34
        · rw [if_pos c3, if_neg (by omega), p_up_id' hk]
        · have hkn2 : k < n := by
            apply Classical.byContradiction
            intro z
            unfold lx_at at c1
            rw [if_neg z] at c1
            omega
          rw [if_neg c3, hk, p_w (by omega) (by omega), if_neg (by omega), if_pos ⟨by omega, c2, c3⟩, p_w (by omega) (by omega)]
          have := ih (am_up h 240 7 ((k : Int) + 1)) (k + 1) (H.at_ _) (p_up_s _ _ _ _) (by omega) (by omega) (by omega)
          rw [p_up_up] at this
          exact this
      · rw [if_neg c2, if_neg (by omega), p_up_id' hk]
theorem lc_string {h : am_H} {k : Nat} {tk : List (Int × Int × Int)} {N : List (List Int)} (S : lc_S t n k tk N h) (hk : k < n) (hl : ¬ lx_letter (t k)) (hd : ¬ lx_digit (t k)) (hq : t k = 34) (htk : tk.length < 4500) :
    ∃ h', am_D (d + 2) 13 11 [am_r (am_a 240), am_i k] (zS L, h) = pV L h' ∧ lcx h h' ∧ lc_S t n (lx_res t n N k).2.2 (tk ++ [(lx_res t n N k).1]) (lx_res t n N k).2.1 h' := by
  obtain ⟨r1, r2, r3⟩ := lx_str_rg (t := t) (n := n) 60 (k + 1) (by omega)
  have hn := S.1.2.1
  have S0 := S.at_ (k + 1)
  have S1 := S.at_ (lx_str t n 60 (k + 1))
  have S2 := S.at_ (lx_str t n 60 (k + 1) + 1)
  rw [D_13_11, S.2.1, p_w (by omega) (by omega)]
  have e1 := lc_str d L (t := t) (n := n) k none none 60 (am_up h 240 7 ((k : Int) + 1)) (k + 1) S0.1 S0.2.1 (by omega) (by omega) (by omega)
  rw [p_up_up] at e1
  rw [e1, q_13_11_2, lc_here0 d L S1.1 S1.2.1 r2, p_xI, p_up_s, p_w (x := ((lx_str t n 60 (k + 1) : Nat) : Int) - (k : Int)) (by omega) (by omega), p_w (x := ((lx_str t n 60 (k + 1) : Nat) : Int) - (k : Int) - 1) (by omega) (by omega)]
  have hw : am_w (((lx_str t n 60 (k + 1) : Nat) : Int) + 1) = ((lx_str t n 60 (k + 1) + 1 : Nat) : Int) := by rw [p_w (by omega) (by omega)]; omega
  by_cases c : lx_at t n (lx_str t n 60 (k + 1)) = 34
  · have er : lx_res t n N k = ((4, ((lx_str t n 60 (k + 1) - k - 1 : Nat) : Int), (k : Int)), N, lx_str t n 60 (k + 1) + 1) := by unfold lx_res lx_tok; rw [if_neg hl, if_neg hd, if_pos hq, if_pos c]; rfl
    rw [if_pos c, q_13_11_4, if_neg (by decide), if_neg (by decide), p_up_s, hw, p_up_up, er, show ((lx_str t n 60 (k + 1) : Nat) : Int) - (k : Int) - 1 = ((lx_str t n 60 (k + 1) - k - 1 : Nat) : Int) by omega, lc_add d L S2.2.2.1.1 htk (by omega) (by omega), p_xV]
    exact ⟨_, rfl, lc_fr_add (lc_fr_at (lcx.refl h) _) S2.2.2.1.1 _ _ _, S2.add _ _ _⟩
  · have er : lx_res t n N k = ((6, 0, (k : Int)), N, lx_str t n 60 (k + 1) + 1) := by unfold lx_res lx_tok; rw [if_neg hl, if_neg hd, if_pos hq, if_neg c]; rfl
    rw [if_neg c, q_13_11_4, if_pos rfl, if_pos rfl, p_up_s, hw, p_up_up, er, lc_add d L S2.2.2.1.1 htk (by omega) (by omega), p_xV]
    exact ⟨_, rfl, lc_fr_add (lc_fr_at (lcx.refl h) _) S2.2.2.1.1 _ _ _, S2.add _ _ _⟩
theorem lc_signt {h : am_H} {k : Nat} {tk : List (Int × Int × Int)} {N : List (List Int)} (S : lc_S t n k tk N h) (hk : k < n) (hl : ¬ lx_letter (t k)) (hd : ¬ lx_digit (t k)) (hq : ¬ t k = 34) (htk : tk.length < 4500) :
    ∃ h', am_D (d + 2) 13 12 [am_r (am_a 240), am_i (t k)] (zS L, h) = pV L h' ∧ lcx h h' ∧ lc_S t n (lx_res t n N k).2.2 (tk ++ [(lx_res t n N k).1]) (lx_res t n N k).2.1 h' := by
  have hn := S.1.2.1
  have hr := S.1.rg hk
  have fin : ∀ a : Int, (a = 5 ∨ a = 6) → lc_S t n (k + 1) (tk ++ [(a, t k, (k : Int))]) N (am_up (lc_addh h tk.length a (t k) k) 240 7 (am_w (lc_addh h tk.length a (t k) k 240 7 + 1))) := by
    intro a ha
    have S3 := S.add a (t k) k
    rw [S3.2.1, p_w (by omega) (by omega)]
    exact S3.at_ (k + 1)
  rw [D_13_12, lc_sign, p_xI, S.2.1]
  by_cases c : lx_sign (t k)
  · have er : lx_res t n N k = ((5, t k, (k : Int)), N, k + 1) := by unfold lx_res lx_tok; rw [if_neg hl, if_neg hd, if_neg hq, if_pos c]; rfl
    rw [pB_t c, if_neg (by decide), lc_add d L S.2.2.1.1 htk (by omega) (by omega), p_xV, er]
    exact ⟨_, rfl, lc_fr_at (lc_fr_add (lcx.refl h) S.2.2.1.1 _ _ _) _, fin 5 (Or.inl rfl)⟩
  · have er : lx_res t n N k = ((6, t k, (k : Int)), N, k + 1) := by unfold lx_res lx_tok; rw [if_neg hl, if_neg hd, if_neg hq, if_neg c]; rfl
    rw [pB_f c, if_pos rfl, lc_add d L S.2.2.1.1 htk (by omega) (by omega), p_xV, er]
    exact ⟨_, rfl, lc_fr_at (lc_fr_add (lcx.refl h) S.2.2.1.1 _ _ _) _, fin 6 (Or.inr rfl)⟩
end
section
variable (d L : Nat) {t : Nat → Int} {n : Nat}
/-- is there more to read? -/
theorem lc_more {h : am_H} {k : Nat} {tk : List (Int × Int × Int)} {N : List (List Int)} {q : Int × Int × Int} (S : lc_S t n k (tk ++ [q]) N h) (htk : tk.length < 4500) {most : Nat} (hm : h 240 8 = most) (u1 u2 u3 u4 u5 u6 u7 : Option am_V) :
    ∃ u7', am_E (am_D d) m_13_7 (.inl 7) [some (am_r (am_a 240)), u1, u2, u3, u4, u5, u6, u7] [] (zS L, h) = am_E (am_D d) m_13_7 (.inl 1) [some (am_r (am_a 240)), u1, u2, some (am_i (if q.1 = 0 ∨ q.1 = 6 ∨ most < tk.length + 1 then 0 else 1)), u4, u5, u6, u7'] [] (zS L, h) := by
  have h5 : h 240 5 = tk.length + 1 := by rw [S.2.2.1.1, List.length_append]; simp
  have hq : h 241 tk.length = q.1 := (S.2.2.1.2 tk.length q (by rw [List.getElem?_append_right (Nat.le_refl _), Nat.sub_self]; rfl)).1
  rw [q_13_7_7, h5, p_w (by omega) (by omega), p_idx (by omega) (by omega), show ((tk.length : Int) + 1 - 1).toNat = tk.length by omega, hq, hm]
  refine ⟨some (am_i q.1), ?_⟩
  by_cases c1 : q.1 = 0
  · rw [if_pos c1, if_pos (Or.inl c1)]
  · rw [if_neg c1]
    by_cases c2 : q.1 = 6
    · rw [if_pos c2, if_pos (Or.inr (Or.inl c2))]
    · rw [if_neg c2]
      by_cases c3 : most < tk.length + 1
      · rw [if_pos (by omega), if_pos (Or.inr (Or.inr c3))]
      · rw [if_neg (by omega), if_neg (by rintro (z | z | z); exact c1 z; exact c2 z; exact c3 z)]
/-- all tokens -/
theorem lc_read (most : Nat) (hmost : most ≤ 4498) : ∀ (m : Nat) (h : am_H) (k : Nat) (tk : List (Int × Int × Int)) (N : List (List Int)) (u1 u2 u4 u5 u6 u7 : Option am_V), lc_S t n k tk N h → k ≤ n → n < k + m → h 240 8 = most → tk.length ≤ most → (lx_toks t n most m tk.length k N).2.length < 1400 → pn_used (lx_toks t n most m tk.length k N).2 + 16 ≤ 18000 →
    ∃ h' k', am_E (am_D (d + 4)) m_13_7 (.inl 1) [some (am_r (am_a 240)), u1, u2, some (am_i 1), u4, u5, u6, u7] [] (zS L, h) = pV L h' ∧ lcx h h' ∧ lc_S t n k' (tk ++ (lx_toks t n most m tk.length k N).1) (lx_toks t n most m tk.length k N).2 h' := by
  intro m
  induction m with
  | zero => intro h k tk N u1 u2 u4 u5 u6 u7 S hk hm; omega
  | succ m ih =>
    intro h k tk N u1 u2 u4 u5 u6 u7 S hk hm h8 htk hN hu
    have hn := S.1.2.1
    obtain ⟨s1, s2, s3, s4⟩ := lx_skip_rg t n (n + 1) k hk (by omega)
    have S1 := S.at_ (lx_skip t n (n + 1) k).2
    have h81 : am_up h 240 7 ((lx_skip t n (n + 1) k).2 : Nat) 240 8 = most := by rw [p_up_n _ _ _ _ _ _ (Or.inr (by decide))]; exact h8
    rw [q_13_7_1, if_neg (by decide), D_13_8, lc_skip (d + 2) L (n + 1) h k none none none none S.1 S.2.1 hk (by omega), p_xI, lc_here0 (d + 3) L S1.1 S1.2.1 s2, p_xI, p_up_s]
    have hle := lx_toks_le (t := t) (n := n) (most := most) (m + 1) tk.length k N
    unfold lx_toks at hN hu hle ⊢
    /- the end: no more is read -/
    have stop : ∀ (g : am_H) (kk : Nat) (q : Int × Int × Int) (N' : List (List Int)) (v1 v2 v4 v5 v6 v7 : Option am_V), lcx h g → lc_S t n kk (tk ++ [q]) N' g → (q.1 = 0 ∨ q.1 = 6 ∨ most < tk.length + 1) →
        ∃ h' k', am_E (am_D (d + 4)) m_13_7 (.inl 7) [some (am_r (am_a 240)), v1, v2, some (am_i 1), v4, v5, v6, v7] [] (zS L, g) = pV L h' ∧ lcx h h' ∧ lc_S t n k' (tk ++ [q]) N' h' := by
      intro g kk q N' v1 v2 v4 v5 v6 v7 fr Sg hq
      have hg8 : g 240 8 = most := (fr.1 240 8 rfl rfl).trans h8
      obtain ⟨u', hu'⟩ := lc_more (d + 4) L Sg (by omega) hg8 v1 v2 (some (am_i 1)) v4 v5 v6 v7
      rw [hu', if_pos hq, q_13_7_1, if_pos rfl]
      exact ⟨g, kk, rfl, fr, Sg⟩
    by_cases c1 : (lx_skip t n (n + 1) k).1 = false
    · rw [pB_f (by rw [c1]; decide), if_pos rfl, lc_add (d + 3) L S1.2.2.1.1 (by omega) (by omega) (by omega), p_xV, if_pos c1]
      exact stop _ _ _ _ _ _ _ _ _ _ (lc_fr_add (lc_fr_at (lcx.refl h) _) S1.2.2.1.1 _ _ _) (S1.add 6 0 _) (Or.inr (Or.inl rfl))
    · have c1' : (lx_skip t n (n + 1) k).1 = true := by simpa using c1
      rw [pB_t c1', if_neg (by decide), if_neg c1]
      rw [if_neg c1] at hN hu hle
      by_cases c2 : n ≤ (lx_skip t n (n + 1) k).2
      · have e0 : lx_at t n (lx_skip t n (n + 1) k).2 = -1 := if_neg (by omega)
        rw [e0, if_pos (by decide), lc_add (d + 3) L S1.2.2.1.1 (by omega) (by omega) (by omega), p_xV, if_pos c2]
        exact stop _ _ _ _ _ _ _ _ _ _ (lc_fr_add (lc_fr_at (lcx.refl h) _) S1.2.2.1.1 _ _ _) (S1.add 0 0 _) (Or.inl rfl)
      · have hlt : (lx_skip t n (n + 1) k).2 < n := by omega
        have e0 : lx_at t n (lx_skip t n (n + 1) k).2 = t (lx_skip t n (n + 1) k).2 := if_pos hlt
        have hr := S.1.rg hlt
        rw [if_neg c2]
        rw [if_neg c2] at hN hu hle
        generalize (lx_skip t n (n + 1) k).2 = p at *
        have hNle := lx_res_le (t := t) (n := n) N p
        have hlen : N.length ≤ 1399 ∧ pn_used N + 16 ≤ 18000 := by
          by_cases z : (lx_res t n N p).1.1 = 6 ∨ most < tk.length + 1
          · rw [if_pos z] at hN hu; dsimp only at hN hu; omega
          · rw [if_neg z] at hN hu hle; dsimp only at hN hu hle; omega
        rw [e0, if_neg (by omega)]
        /- behind the token -/
        have go : ∀ (g : am_H) (v1 v2 v4 v5 v6 v7 : Option am_V), lcx h g → lc_S t n (lx_res t n N p).2.2 (tk ++ [(lx_res t n N p).1]) (lx_res t n N p).2.1 g →
            ∃ h' k', am_E (am_D (d + 4)) m_13_7 (.inl 7) [some (am_r (am_a 240)), v1, v2, some (am_i 1), v4, v5, v6, v7] [] (zS L, g) = pV L h' ∧ lcx h h' ∧ lc_S t n k' (tk ++ (if (lx_res t n N p).1.1 = 6 ∨ most < tk.length + 1 then ([(lx_res t n N p).1], (lx_res t n N p).2.1) else ((lx_res t n N p).1 :: (lx_toks t n most m (tk.length + 1) (lx_res t n N p).2.2 (lx_res t n N p).2.1).1, (lx_toks t n most m (tk.length + 1) (lx_res t n N p).2.2 (lx_res t n N p).2.1).2)).1) (if (lx_res t n N p).1.1 = 6 ∨ most < tk.length + 1 then ([(lx_res t n N p).1], (lx_res t n N p).2.1) else ((lx_res t n N p).1 :: (lx_toks t n most m (tk.length + 1) (lx_res t n N p).2.2 (lx_res t n N p).2.1).1, (lx_toks t n most m (tk.length + 1) (lx_res t n N p).2.2 (lx_res t n N p).2.1).2)).2 h' := by
          intro g v1 v2 v4 v5 v6 v7 fr Sg
          by_cases z : (lx_res t n N p).1.1 = 6 ∨ most < tk.length + 1
          · rw [if_pos z]
            exact stop g _ _ _ v1 v2 v4 v5 v6 v7 fr Sg (Or.inr z)
          · rw [if_neg z] at hN hu ⊢
            have hg8 : g 240 8 = most := (fr.1 240 8 rfl rfl).trans h8
            obtain ⟨u', hu'⟩ := lc_more (d + 4) L Sg (by omega) hg8 v1 v2 (some (am_i 1)) v4 v5 v6 v7
            have hnum := lx_res_num (t := t) (n := n) (N := N) (k := p)
            rw [hu', if_neg (by rintro (y | y); omega; exact z y)]
            obtain ⟨b1, b2⟩ := lx_res_rg (N := N) hlt (fun y => z (Or.inl y))
            have hl2 : (tk ++ [(lx_res t n N p).1]).length = tk.length + 1 := by rw [List.length_append]; rfl
            obtain ⟨h', k', a1, a2, a3⟩ := ih g (lx_res t n N p).2.2 (tk ++ [(lx_res t n N p).1]) (lx_res t n N p).2.1 v1 v2 v4 v5 v6 u' Sg b2 (by omega) hg8 (by rw [hl2]; omega) (by rw [hl2]; exact hN) (by rw [hl2]; exact hu)
            rw [hl2, List.append_assoc] at a3
            exact ⟨h', k', a1, fr.trans a2, a3⟩
        rw [lc_letter, p_xI]
        by_cases l1 : lx_letter (t p)
        · rw [pB_t l1, if_neg (by decide)]
          obtain ⟨g, a1, a2, a3⟩ := lc_word (d + 1) L S1 hlt l1 (by omega) (by omega) hlen.2
          rw [a1, p_xV]
          exact go g _ _ _ _ _ _ ((lc_fr_at (lcx.refl h) _).trans a2) a3
        · rw [pB_f l1, if_pos rfl, lc_digit, p_xI]
          by_cases l2 : lx_digit (t p)
          · rw [pB_t l2, if_neg (by decide)]
            obtain ⟨g, a1, a2, a3⟩ := lc_number (d + 1) L S1 hlt l1 l2 (by omega)
            rw [a1, p_xV]
            exact go g _ _ _ _ _ _ ((lc_fr_at (lcx.refl h) _).trans a2) a3
          · rw [pB_f l2, if_pos rfl]
            by_cases l3 : t p = 34
            · rw [if_pos l3]
              obtain ⟨g, a1, a2, a3⟩ := lc_string (d + 2) L S1 hlt l1 l2 l3 (by omega)
              rw [a1, p_xV]
              exact go g _ _ _ _ _ _ ((lc_fr_at (lcx.refl h) _).trans a2) a3
            · rw [if_neg l3]
              obtain ⟨g, a1, a2, a3⟩ := lc_signt (d + 2) L S1 hlt l1 l2 l3 (by omega)
              rw [a1, p_xV]
              exact go g _ _ _ _ _ _ ((lc_fr_at (lcx.refl h) _).trans a2) a3
end
