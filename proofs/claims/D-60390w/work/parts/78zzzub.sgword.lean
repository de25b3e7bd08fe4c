/-! SIGNS, 2: known symbols, what is worked out: the component -/
def wix : List (List Int) → List Int → Nat → Int
  | [], _, _ => -1
  | w :: l, s, i => if s = w then (i : Int) else wix l s (i + 1)
theorem wix_c (w : List Int) (l : List (List Int)) (s : List Int) (i : Nat) : wix (w :: l) s i = if s = w then (i : Int) else wix l s (i + 1) := rfl
theorem wix_rg : ∀ (l : List (List Int)) (s : List Int) (i : Nat), wix l s i = -1 ∨ (i : Int) ≤ wix l s i ∧ wix l s i < (i : Int) + l.length
  | [], _, _ => Or.inl rfl
  | w :: l, s, i => by
    unfold wix
    by_cases c : s = w
    · rw [if_pos c, List.length_cons]; right; omega
    · rw [if_neg c, List.length_cons]
      rcases wix_rg l s (i + 1) with z | z
      · exact Or.inl z
      · right; omega
theorem wix_wo : ∀ (l : List (List Int)) (s : List Int) (i : Nat), wix l s i = if s ∈ l then ((i + l.idxOf s : Nat) : Int) else -1
  | [], s, i => by rw [if_neg (by simp)]; rfl
  | w :: l, s, i => by
    unfold wix
    by_cases c : s = w
    · rw [if_pos c, if_pos (by rw [c]; simp), c, List.idxOf_cons_self]; rfl
    · rw [if_neg c, wix_wo l s (i + 1)]
      by_cases z : s ∈ l
      · rw [if_pos z, if_pos (List.mem_cons_of_mem _ z), List.idxOf_cons, beq_false_of_ne (fun z => c z.symm), cond_false]
        congr 1; omega
      · rw [if_neg z, if_neg (by simp [c, z])]
theorem wo_wix (l : List (List Int)) (s : List Int) : wo_idx l s = wix l s 0 := by
  rw [wix_wo]; unfold wo_idx; rw [Nat.zero_add]
def kws : List (List Int) := [[83, 80], [76, 67, 76], [65, 82, 71], [84, 72, 73, 83], [84, 72, 65, 84], [83, 67, 82, 69, 69, 78], [75, 66, 68]]
def dws : List (List Int) := [[77], [68], [77, 68], [65], [65, 77], [65, 68], [65, 77, 68]]
def jws : List (List Int) := [[74, 71, 84], [74, 69, 81], [74, 71, 69], [74, 76, 84], [74, 78, 69], [74, 76, 69], [74, 77, 80]]
def knv (i : Int) : Int := if i < 5 then i else if i = 5 then 16384 else 24576
/-- what a known symbol means -/
def knS (t : Nat → Int) (a e : Nat) : Int :=
  if 0 ≤ wix kws (lx_span t a e) 0 then knv (wix kws (lx_span t a e) 0)
  else if t a = 82 ∧ (2 ≤ e - a ∧ e - a ≤ 3) ∧ lx_digit (t (a + 1)) then (if e - a = 2 then t (a + 1) - 48 else if t (a + 1) = 49 ∧ 48 ≤ t (a + 2) ∧ t (a + 2) ≤ 53 then 10 + t (a + 2) - 48 else -1)
  else -1
/-- what is worked out -/
def cmB : List Int → Int
  | [a] => if a = 48 then 42 else if a = 49 then 63 else if a = 68 then 12 else if a = 65 then 48 else if a = 77 then 112 else -1
  | [a, b] => if a = 45 then (if b = 49 then 58 else if b = 68 then 15 else if b = 65 then 51 else if b = 77 then 115 else -1) else if a = 33 then (if b = 68 then 13 else if b = 65 then 49 else if b = 77 then 113 else -1) else -1
  | [a, b, c] => if a = 68 then (if c = 49 then (if b = 43 then 31 else if b = 45 then 14 else -1) else if c = 65 then (if b = 43 then 2 else if b = 45 then 19 else if b = 38 then 0 else if b = 124 then 21 else -1) else if c = 77 then (if b = 43 then 66 else if b = 45 then 83 else if b = 38 then 64 else if b = 124 then 85 else -1) else -1) else if a = 65 then (if c = 49 then (if b = 43 then 55 else if b = 45 then 50 else -1) else if c = 68 then (if b = 45 then 7 else -1) else -1) else if a = 77 then (if c = 49 then (if b = 43 then 119 else if b = 45 then 114 else -1) else if c = 68 then (if b = 45 then 71 else -1) else -1) else -1
  | _ => -1
def mA (p x : Int) : Bool := (decide (p = 65) && decide (x = 77)) || decide (x = p)
def mL : List Int → List Int → Bool
  | [], [] => true
  | p :: ps, x :: xs => mA p x && mL ps xs
  | _, _ => false
def cps : List (List Int × Int) := [([48], 42), ([49], 63), ([45, 49], 58), ([68], 12), ([65], 48), ([33, 68], 13), ([33, 65], 49), ([45, 68], 15), ([45, 65], 51), ([68, 43, 49], 31), ([65, 43, 49], 55), ([68, 45, 49], 14), ([65, 45, 49], 50), ([68, 43, 65], 2), ([68, 45, 65], 19), ([65, 45, 68], 7), ([68, 38, 65], 0), ([68, 124, 65], 21)]
def cmL : List (List Int × Int) → List Int → Int
  | [], _ => -1
  | q :: l, s => if mL q.1 s = true then q.2 + (if 77 ∈ s then 64 else 0) else cmL l s
theorem cmL_1 (a : Int) : cmL cps [a] = cmB [a] := by
  by_cases h1 : a = 48
  · subst h1; rfl
  by_cases h2 : a = 49
  · subst h2; rfl
  by_cases h3 : a = 68
  · subst h3; rfl
  by_cases h4 : a = 65
  · subst h4; rfl
  by_cases h5 : a = 77
  · subst h5; rfl
  simp [cmL, cps, mL, mA, cmB, h1, h2, h3, h4, h5]
theorem cmL_2 (a b : Int) : cmL cps [a, b] = cmB [a, b] := by
  have key : ∀ a b : Int, (a = 45 ∨ a = 33) → (b = 49 ∨ b = 68 ∨ b = 65 ∨ b = 77) → cmL cps [a, b] = cmB [a, b] := by
    rintro a b (rfl | rfl) (rfl | rfl | rfl | rfl) <;> rfl
  by_cases h1 : a = 45 ∨ a = 33
  · by_cases h2 : b = 49 ∨ b = 68 ∨ b = 65 ∨ b = 77
    · exact key a b h1 h2
    · have h2' : b ≠ 49 ∧ b ≠ 68 ∧ b ≠ 65 ∧ b ≠ 77 := by omega
      obtain ⟨x1, x2, x3, x4⟩ := h2'
      simp [cmL, cps, mL, mA, cmB, x1, x2, x3, x4]
  · have h1' : a ≠ 45 ∧ a ≠ 33 := by omega
    simp [cmL, cps, mL, mA, cmB, h1'.1, h1'.2]
theorem cmL_3 (a b c : Int) : cmL cps [a, b, c] = cmB [a, b, c] := by
  have key : ∀ a b c : Int, (a = 68 ∨ a = 65 ∨ a = 77) → (b = 43 ∨ b = 45 ∨ b = 38 ∨ b = 124) → (c = 49 ∨ c = 65 ∨ c = 77 ∨ c = 68) → cmL cps [a, b, c] = cmB [a, b, c] := by
    rintro a b c (rfl | rfl | rfl) (rfl | rfl | rfl | rfl) (rfl | rfl | rfl | rfl) <;> rfl
  by_cases h1 : a = 68 ∨ a = 65 ∨ a = 77
  · by_cases h2 : b = 43 ∨ b = 45 ∨ b = 38 ∨ b = 124
    · by_cases h3 : c = 49 ∨ c = 65 ∨ c = 77 ∨ c = 68
      · exact key a b c h1 h2 h3
      · have h3' : c ≠ 49 ∧ c ≠ 65 ∧ c ≠ 77 ∧ c ≠ 68 := by omega
        obtain ⟨x1, x2, x3, x4⟩ := h3'
        simp [cmL, cps, mL, mA, cmB, x1, x2, x3, x4]
    · have h2' : b ≠ 43 ∧ b ≠ 45 ∧ b ≠ 38 ∧ b ≠ 124 := by omega
      obtain ⟨x1, x2, x3, x4⟩ := h2'
      simp [cmL, cps, mL, mA, cmB, x1, x2, x3, x4]
  · have h1' : a ≠ 68 ∧ a ≠ 65 ∧ a ≠ 77 := by omega
    simp [cmL, cps, mL, mA, cmB, h1'.1, h1'.2.1, h1'.2.2]
theorem cmL_B (s : List Int) : cmL cps s = cmB s := by
  match s with
  | [] => rfl
  | [a] => exact cmL_1 a
  | [a, b] => exact cmL_2 a b
  | [a, b, c] => exact cmL_3 a b c
  | a :: b :: c :: d :: l =>
    simp [cmL, cps, mL, cmB]
theorem cmB_rg (s : List Int) : -1 ≤ cmB s ∧ cmB s ≤ 127 := by
  unfold cmB
  split
  · repeat' split
    all_goals omega
  · repeat' split
    all_goals omega
  · repeat' split
    all_goals omega
  · omega
def fpos (t : Nat → Int) (c : Int) : Nat → Nat → Nat
  | 0, k => k
  | m + 1, k => if t k = c then k else fpos t c m (k + 1)
theorem fpos_rg (t : Nat → Int) (c : Int) : ∀ m k, k ≤ fpos t c m k ∧ fpos t c m k ≤ k + m
  | 0, k => ⟨Nat.le_refl _, Nat.le_refl _⟩
  | m + 1, k => by
    unfold fpos
    split
    · omega
    · have := fpos_rg t c m (k + 1); omega
/-- the word of an instruction -/
def wdS (t : Nat → Int) (a e : Nat) : Int :=
  if (fpos t 61 (e - a) a < e ∧ wix dws (lx_span t a (fpos t 61 (e - a) a)) 0 = -1) ∨ (fpos t 59 (e - a) a < e ∧ wix jws (lx_span t (fpos t 59 (e - a) a + 1) e) 0 = -1) ∨ fpos t 59 (e - a) a < (if fpos t 61 (e - a) a < e then fpos t 61 (e - a) a + 1 else a) then -1
  else if cmB (lx_span t (if fpos t 61 (e - a) a < e then fpos t 61 (e - a) a + 1 else a) (fpos t 59 (e - a) a)) = -1 then -1
  else 57344 + 64 * cmB (lx_span t (if fpos t 61 (e - a) a < e then fpos t 61 (e - a) a + 1 else a) (fpos t 59 (e - a) a)) + 8 * (if fpos t 61 (e - a) a < e then wix dws (lx_span t a (fpos t 61 (e - a) a)) 0 + 1 else 0) + (if fpos t 59 (e - a) a < e then wix jws (lx_span t (fpos t 59 (e - a) a + 1) e) 0 + 1 else 0)
/-- constants that the component keeps in its heap -/
def SGC (h : am_H) : Prop := (∀ i : Nat, i < 7 → h 29 i = knv i) ∧ ∀ (i : Nat) (q : List Int × Int), cps[i]? = some q → h 31 i = q.2
section
variable {d L : Nat} {t : Nat → Int} {n : Nat} {h : am_H}
theorem sc_find (H : sg_T t n h) {a e : Nat} (he : e ≤ n) (ha : a ≤ e) {X : Nat} {R : List am_R} {ws : List (List Int)} (hX : ∀ k : Nat → Nat → List am_R → Option am_O, am_arr (zS L, h) (am_a X) 10 k = k X 7 R) (hR : ∀ i, i < 7 → ∃ j, j < 168 ∧ R.getD i am_n = am_k j ∧ ws[i]? = some (am_str.getD j [])) (hw : ws.length = 7) : ∀ (m k : Nat), k + m = 7 → am_E (am_D (d + 2)) m_11_18 (.inl 1) [some (am_r (am_a 23)), some (am_i (a : Int)), some (am_i (e : Int)), some (am_r (am_a X)), some (am_i (k : Int))] [] (zS L, h) = pI L (wix (ws.drop k) (lx_span t a e) k) h
  | 0, k, hk => by
    have : k = 7 := by omega
    subst this
    rw [q_11_18_1, hX, if_neg (by decide), List.drop_eq_nil_of_le (by omega)]
    rfl
  | m + 1, k, hk => by
    obtain ⟨j, j1, j2, j3⟩ := hR k (by omega)
    have hd : ws.drop k = am_str.getD j [] :: ws.drop (k + 1) := by
      obtain ⟨hl, e⟩ := List.getElem?_eq_some_iff.mp j3
      rw [List.drop_eq_getElem_cons hl, e]
    rw [q_11_18_1, hX, if_pos (by omega), hX, p_idx (by omega) (by omega), Int.toNat_natCast, j2, sc_is H he ha j1, p_xI, hd, p_w (x := (k : Int) + 1) (by omega) (by omega)]
    rw [wix_c]
    by_cases c : lx_span t a e = am_str.getD j []
    · rw [pB_t c, if_neg (by decide), if_pos c]
    · rw [pB_f c, if_pos rfl, if_neg c]
      exact sc_find H he ha hX hR hw m (k + 1) (by omega)
theorem sc_dest (H : sg_T t n h) {a e : Nat} (he : e ≤ n) (ha : a ≤ e) : am_D (d + 3) 11 18 [am_r (am_a 23), am_i (a : Int), am_i (e : Int), am_r (am_a 32)] (zS L, h) = pI L (wix dws (lx_span t a e) 0) h := by
  rw [D_11_18]
  refine sc_find (d := d) (R := [am_k 25, am_k 10, am_k 26, am_k 11, am_k 27, am_k 28, am_k 29]) (ws := dws) H he ha (fun _ => rfl) (fun i hi => ?_) rfl 7 0 rfl
  have : i = 0 ∨ i = 1 ∨ i = 2 ∨ i = 3 ∨ i = 4 ∨ i = 5 ∨ i = 6 := by omega
  rcases this with rfl | rfl | rfl | rfl | rfl | rfl | rfl
  · exact ⟨25, by decide, rfl, rfl⟩
  · exact ⟨10, by decide, rfl, rfl⟩
  · exact ⟨26, by decide, rfl, rfl⟩
  · exact ⟨11, by decide, rfl, rfl⟩
  · exact ⟨27, by decide, rfl, rfl⟩
  · exact ⟨28, by decide, rfl, rfl⟩
  · exact ⟨29, by decide, rfl, rfl⟩
theorem sc_jump (H : sg_T t n h) {a e : Nat} (he : e ≤ n) (ha : a ≤ e) : am_D (d + 3) 11 18 [am_r (am_a 23), am_i (a : Int), am_i (e : Int), am_r (am_a 33)] (zS L, h) = pI L (wix jws (lx_span t a e) 0) h := by
  rw [D_11_18]
  refine sc_find (d := d) (R := [am_k 30, am_k 31, am_k 32, am_k 33, am_k 34, am_k 35, am_k 36]) (ws := jws) H he ha (fun _ => rfl) (fun i hi => ⟨30 + i, by omega, ?_⟩) rfl 7 0 rfl
  have : i = 0 ∨ i = 1 ∨ i = 2 ∨ i = 3 ∨ i = 4 ∨ i = 5 ∨ i = 6 := by omega
  rcases this with rfl | rfl | rfl | rfl | rfl | rfl | rfl <;> exact ⟨rfl, rfl⟩
theorem sc_kl (H : sg_T t n h) (G : SGC h) {a e : Nat} (he : e ≤ n) (ha : a ≤ e) : ∀ (m k : Nat), k + m = 7 → am_E (am_D (d + 2)) m_11_16 (.inl 1) [some (am_r (am_a 23)), some (am_i (a : Int)), some (am_i (e : Int)), some (am_i (k : Int))] [] (zS L, h) = if 0 ≤ wix (kws.drop k) (lx_span t a e) k then pI L (knv (wix (kws.drop k) (lx_span t a e) k)) h else am_E (am_D (d + 2)) m_11_16 (.inl 1) [some (am_r (am_a 23)), some (am_i (a : Int)), some (am_i (e : Int)), some (am_i 7)] [] (zS L, h)
  | 0, k, hk => by
    have : k = 7 := by omega
    subst this
    rw [show wix (kws.drop 7) (lx_span t a e) 7 = -1 from rfl, if_neg (by decide)]
    rfl
  | m + 1, k, hk => by
    have hr : List.getD [am_k 0, am_k 1, am_k 2, am_k 3, am_k 4, am_k 5, am_k 6] k am_n = am_k k ∧ kws[k]? = some (am_str.getD k []) := by
      have : k = 0 ∨ k = 1 ∨ k = 2 ∨ k = 3 ∨ k = 4 ∨ k = 5 ∨ k = 6 := by omega
      rcases this with rfl | rfl | rfl | rfl | rfl | rfl | rfl <;> exact ⟨rfl, rfl⟩
    have hd : kws.drop k = am_str.getD k [] :: kws.drop (k + 1) := by
      obtain ⟨hl, e⟩ := List.getElem?_eq_some_iff.mp hr.2
      rw [List.drop_eq_getElem_cons hl, e]
    rw [q_11_16_1, if_pos (show (k : Int) < ((7 : Nat) : Int) by omega), p_idx (by omega) (by omega), Int.toNat_natCast, hr.1, sc_is H he ha (by omega), p_xI, hd, p_w (x := (k : Int) + 1) (by omega) (by omega)]
    rw [wix_c]
    by_cases c : lx_span t a e = am_str.getD k []
    · rw [pB_t c, if_neg (show ¬ (1 : Int) = 0 by decide), if_pos c, if_pos (by omega), p_idx (by omega) (by omega), Int.toNat_natCast, G.1 k (by omega)]
    · rw [pB_f c, if_pos rfl, if_neg c]
      exact sc_kl H G he ha m (k + 1) (by omega)
theorem sc_known (H : sg_T t n h) (G : SGC h) {a e : Nat} (he : e ≤ n) (ha : a < e) : am_D (d + 3) 11 16 [am_r (am_a 23), am_i (a : Int), am_i (e : Int)] (zS L, h) = pI L (knS t a e) h := by
  have hn := H.2.1
  rw [D_11_16]
  have r := sc_kl (d := d) (L := L) H G he (Nat.le_of_lt ha) 7 0 rfl
  have r : am_E (am_D (d + 2)) m_11_16 (.inl 1) [some (am_r (am_a 23)), some (am_i (a : Int)), some (am_i (e : Int)), some (am_i 0)] [] (zS L, h) = _ := r
  rw [r]
  unfold knS
  show (if 0 ≤ wix kws (lx_span t a e) 0 then pI L (knv (wix kws (lx_span t a e) 0)) h else _) = _
  by_cases c : 0 ≤ wix kws (lx_span t a e) 0
  · rw [if_pos c, if_pos c]
  rw [if_neg c, if_neg c, q_11_16_1, if_neg (by decide), sc_here H, p_xI, sh_t (by omega), p_w (x := (e : Int) - (a : Int)) (by omega) (by omega), p_w (x := (a : Int) + 1) (by omega) (by omega), p_w (x := (a : Int) + 2) (by omega) (by omega)]
  have e1 : am_D (d + 2) 11 1 [am_r (am_a 23), am_i ((a : Int) + 1)] (zS L, h) = pI L (sh t n (a + 1)) h := sc_here H (a + 1)
  have e2 : am_D (d + 2) 11 1 [am_r (am_a 23), am_i ((a : Int) + 2)] (zS L, h) = pI L (sh t n (a + 2)) h := sc_here H (a + 2)
  by_cases c1 : t a = 82
  · rw [if_pos c1]
    by_cases c2 : (e : Int) - (a : Int) < 2
    · rw [if_pos c2, if_neg (fun z => by have := z.2.1.1; omega)]
    rw [if_neg c2]
    by_cases c3 : 3 < (e : Int) - (a : Int)
    · rw [if_pos c3, if_neg (fun z => by have := z.2.1.2; omega)]
    rw [if_neg c3, e1, p_xI, sh_t (by omega), sc_digit, p_xI]
    have r1 := H.rg (show a + 1 < n by omega)
    by_cases c4 : lx_digit (t (a + 1))
    · rw [pB_t c4, if_neg (show ¬ (1 : Int) = 0 by decide), if_pos (show t a = 82 ∧ (2 ≤ e - a ∧ e - a ≤ 3) ∧ lx_digit (t (a + 1)) from ⟨c1, ⟨by omega, by omega⟩, c4⟩)]
      by_cases c5 : (e : Int) - (a : Int) = 2
      · rw [if_pos c5, if_pos (show e - a = 2 by omega), e1, p_xI, sh_t (by omega), p_w (by omega) (by omega)]
      · have r2 := H.rg (show a + 2 < n by omega)
        rw [if_neg c5, if_neg (show ¬ e - a = 2 by omega), e1, p_xI, sh_t (by omega)]
        by_cases c6 : t (a + 1) = 49
        · rw [if_pos c6, e2, p_xI, sh_t (by omega)]
          by_cases c7 : t (a + 2) < 48
          · rw [if_pos c7, if_neg (by omega)]
          rw [if_neg c7, e2, p_xI, sh_t (by omega)]
          by_cases c8 : 53 < t (a + 2)
          · rw [if_pos c8, if_neg (by omega)]
          rw [if_neg c8, e2, p_xI, sh_t (by omega), if_pos ⟨c6, by omega, by omega⟩, p_w (x := 10 + t (a + 2)) (by omega) (by omega), p_w (by omega) (by omega)]
        · rw [if_neg c6, if_neg (fun z => c6 z.1)]
    · rw [pB_f c4, if_pos rfl, if_neg (fun z => c4 z.2.2)]
  · rw [if_neg c1, if_neg (fun z => c1 z.1)]
end
