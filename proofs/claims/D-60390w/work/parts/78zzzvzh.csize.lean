/-! CHIPS, 34: sizes: the numbers; equations of countAll with free locals -/
set_option maxRecDepth 20000 in
theorem r_169_1 (d L : Nat) (h : am_H) (x1 : Int) (u2 u3 u4 u5 u6 u7 u8 : Option am_V) :
    am_E (am_D d) m_17_169 (.inl 1) [some (am_r (am_a 254)), some (am_i x1), u2, u3, u4, u5, u6, u7, u8] [] (zS L, h) =
    if (x1 : Int) < h 254 122 then am_E (am_D d) m_17_169 (.inl 2) [some (am_r (am_a 254)), some (am_i x1), some (am_i 0), u3, u4, u5, u6, u7, u8] [] (zS L, h) else some (.inl none, (zS L, h)) := (am_cut _ _ 13 1 _ _ _).trans rfl
set_option maxRecDepth 20000 in
theorem r_169_2 (d L : Nat) (h : am_H) (x1 : Int) (x2 : Int) (u3 u4 u5 u6 u7 u8 : Option am_V) :
    am_E (am_D d) m_17_169 (.inl 2) [some (am_r (am_a 254)), some (am_i x1), some (am_i x2), u3, u4, u5, u6, u7, u8] [] (zS L, h) =
    if (x2 : Int) < h 254 122 then am_idx x2 18 fun k1 => am_E (am_D d) m_17_169 (.inl 3) [some (am_r (am_a 254)), some (am_i x1), some (am_i x2), some (am_l (0)), none, some (am_l (0)), none, some (am_i (h 329 k1)), u8] [] (zS L, h) else am_E (am_D d) m_17_169 (.inl 1) [some (am_r (am_a 254)), some (am_i (am_w (x1 + 1))), some (am_i x2), u3, u4, u5, u6, u7, u8] [] (zS L, h) := (am_cut _ _ 21 2 _ _ _).trans rfl
set_option maxRecDepth 20000 in
theorem r_169_3 (d L : Nat) (h : am_H) (x1 : Int) (x2 : Int) (x3 : Int) (x5 : Int) (x7 : Int) (u8 : Option am_V) :
    am_E (am_D d) m_17_169 (.inl 3) [some (am_r (am_a 254)), some (am_i x1), some (am_i x2), some (am_l (x3)), none, some (am_l (x5)), none, some (am_i x7), u8] [] (zS L, h) =
    am_idx (am_w (x2 + 1)) 18 fun k1 => if (x7 : Int) < h 329 k1 then am_idx x7 200 fun k3 => am_E (am_D d) m_17_169 (.inl 3) [some (am_r (am_a 254)), some (am_i x1), some (am_i x2), some (am_l (x3)), none, some (am_l (am_W (x5 + h 332 k3))), none, some (am_i (am_w (x7 + 1))), u8] [] (zS L, h) else am_idx x2 18 fun k2 => am_E (am_D d) m_17_169 (.inl 5) [some (am_r (am_a 254)), some (am_i x1), some (am_i x2), some (am_l (x3)), none, some (am_l (x5)), none, some (am_i (h 345 k2)), u8] [] (zS L, h) := (am_cut _ _ 29 3 _ _ _).trans rfl
set_option maxRecDepth 20000 in
theorem r_169_5 (d L : Nat) (h : am_H) (x1 : Int) (x2 : Int) (x3 : Int) (x5 : Int) (x7 : Int) (u8 : Option am_V) :
    am_E (am_D d) m_17_169 (.inl 5) [some (am_r (am_a 254)), some (am_i x1), some (am_i x2), some (am_l (x3)), none, some (am_l (x5)), none, some (am_i x7), u8] [] (zS L, h) =
    am_idx (am_w (x2 + 1)) 18 fun k1 => if (x7 : Int) < h 345 k1 then am_idx x7 700 fun k3 => if (0 : Int) < h 347 k3 then am_idx x7 700 fun k4 => am_E (am_D d) m_17_169 (.inl 5) [some (am_r (am_a 254)), some (am_i x1), some (am_i x2), some (am_l (x3)), none, some (am_l (am_W (x5 + h 347 k4))), none, some (am_i (am_w (x7 + 1))), u8] [] (zS L, h) else am_E (am_D d) m_17_169 (.inl 5) [some (am_r (am_a 254)), some (am_i x1), some (am_i x2), some (am_l (x3)), none, some (am_l (am_W (x5 + 0))), none, some (am_i (am_w (x7 + 1))), u8] [] (zS L, h) else am_idx x2 18 fun k2 => am_E (am_D d) m_17_169 (.inl 9) [some (am_r (am_a 254)), some (am_i x1), some (am_i x2), some (am_l (x3)), none, some (am_l (x5)), none, some (am_i (h 334 k2)), u8] [] (zS L, h) := (am_cut _ _ 42 5 _ _ _).trans rfl
set_option maxRecDepth 20000 in
theorem r_169_9 (d L : Nat) (h : am_H) (x1 : Int) (x2 : Int) (x3 : Int) (x5 : Int) (x7 : Int) (u4 u6 u8 : Option am_V) :
    am_E (am_D d) m_17_169 (.inl 9) [some (am_r (am_a 254)), some (am_i x1), some (am_i x2), some (am_l (x3)), u4, some (am_l (x5)), u6, some (am_i x7), u8] [] (zS L, h) =
    am_idx (am_w (x2 + 1)) 18 fun k1 => if (x7 : Int) < h 334 k1 then am_idx x7 400 fun k2 => if (1 : Int) < h 349 k2 then am_idx (am_w (h 349 k2 - 2)) 16 fun k3 => am_E (am_D d) m_17_169 (.inl 11) [some (am_r (am_a 254)), some (am_i x1), some (am_i x2), some (am_l (x3)), u4, some (am_l (x5)), u6, some (am_i x7), some (am_i (h 349 k2))] [am_l (h 353 k3), am_l (x3)] (zS L, h) else am_E (am_D d) m_17_169 (.inl 11) [some (am_r (am_a 254)), some (am_i x1), some (am_i x2), some (am_l (x3)), u4, some (am_l (x5)), u6, some (am_i x7), some (am_i (h 349 k2))] [am_l (1), am_l (x3)] (zS L, h) else if (0 : Int) < am_lcmp x3 1000000 then am_E (am_D d) m_17_169 (.inl 17) [some (am_r (am_a 254)), some (am_i x1), some (am_i x2), some (am_l (x3)), u4, some (am_l (x5)), u6, some (am_i x7), u8] [am_l (1000000), am_i x2, am_r (am_a 353)] (zS L, h) else am_E (am_D d) m_17_169 (.inl 17) [some (am_r (am_a 254)), some (am_i x1), some (am_i x2), some (am_l (x3)), u4, some (am_l (x5)), u6, some (am_i x7), u8] [am_l (x3), am_i x2, am_r (am_a 353)] (zS L, h) := (am_cut _ _ 42 9 _ _ _).trans rfl
set_option maxRecDepth 20000 in
theorem r_169_11 (d L : Nat) (h : am_H) (x1 : Int) (x2 : Int) (x5 : Int) (x7 : Int) (x8 : Int) (s0 : Int) (s1 : Int) (u3 u4 u6 : Option am_V) :
    am_E (am_D d) m_17_169 (.inl 11) [some (am_r (am_a 254)), some (am_i x1), some (am_i x2), u3, u4, some (am_l (x5)), u6, some (am_i x7), some (am_i x8)] [am_l (s0), am_l (s1)] (zS L, h) =
    if (1 : Int) < x8 then am_idx (am_w (x8 - 2)) 16 fun k1 => am_E (am_D d) m_17_169 (.inl 9) [some (am_r (am_a 254)), some (am_i x1), some (am_i x2), some (am_l (am_W (s1 + s0))), none, some (am_l (am_W (x5 + h 354 k1))), none, some (am_i (am_w (x7 + 1))), some (am_i x8)] [] (zS L, h) else if (x8 : Int) = 0 then am_E (am_D d) m_17_169 (.inl 9) [some (am_r (am_a 254)), some (am_i x1), some (am_i x2), some (am_l (am_W (s1 + s0))), none, some (am_l (am_W (x5 + 3))), none, some (am_i (am_w (x7 + 1))), some (am_i x8)] [] (zS L, h) else am_E (am_D d) m_17_169 (.inl 9) [some (am_r (am_a 254)), some (am_i x1), some (am_i x2), some (am_l (am_W (s1 + s0))), none, some (am_l (am_W (x5 + 2))), none, some (am_i (am_w (x7 + 1))), some (am_i x8)] [] (zS L, h) := (am_cut _ _ 36 11 _ _ _).trans rfl
set_option maxRecDepth 20000 in
theorem r_169_17 (d L : Nat) (h : am_H) (x1 : Int) (x2 : Int) (x5 : Int) (s0 : Int) (s1 : Int) (u3 u4 u6 u7 u8 : Option am_V) :
    am_E (am_D d) m_17_169 (.inl 17) [some (am_r (am_a 254)), some (am_i x1), some (am_i x2), u3, u4, some (am_l (x5)), u6, u7, u8] [am_l (s0), am_i s1, am_r (am_a 353)] (zS L, h) =
    am_arr (zS L, h) (am_a 353) 6 fun a2 n3 _ => am_idx s1 n3 fun k1 => cond (Nat.beq a2 0) none (if (0 : Int) < am_lcmp x5 1000000 then am_idx x2 16 fun k5 => am_E (am_D d) m_17_169 (.inl 2) [some (am_r (am_a 254)), some (am_i x1), some (am_i (am_w (x2 + 1))), u3, u4, some (am_l (x5)), u6, u7, u8] [] (zS L, (am_up (am_up h a2 k1 (s0)) 354 k5 (1000000))) else am_idx x2 16 fun k4 => am_E (am_D d) m_17_169 (.inl 2) [some (am_r (am_a 254)), some (am_i x1), some (am_i (am_w (x2 + 1))), u3, u4, some (am_l (x5)), u6, u7, u8] [] (zS L, (am_up (am_up h a2 k1 (s0)) 354 k4 (x5)))) := (am_cut _ _ 23 17 _ _ _).trans rfl
/-! numbers -/
section
variable (K V : Nat → Int) (chs : List cCh)
def gsm (G : Nat → Nat) : List (Nat × List cLk) → Nat
  | [] => 0
  | q :: qs => (match kOf V chs (V q.1) with | some k => if k < 2 then 1 else G (k - 2) | none => 1) + gsm G qs
def bsm (B : Nat → Nat) : List (Nat × List cLk) → Nat
  | [] => 0
  | q :: qs => (match kOf V chs (V q.1) with | some k => if k = 0 then 3 else if k = 1 then 2 else B (k - 2) | none => 2) + bsm B qs
def wsm : List (Nat × Int) → Nat
  | [] => 0
  | p :: ps => (c_w V p.2).toNat + wsm ps
def ism (X : Nat → Int) : Nat → Nat
  | 0 => 0
  | n + 1 => ism X n + (X n).toNat
/-- bits of a chip's ownx -/
def ownx (ch : cCh) : Nat := wsm V ch.2.1 + ism (cIW K V chs ch) ch.2.2.2.2.length
def gF : Nat → Nat → Nat
  | 0, _ => 0
  | m + 1, c => match chs[c]? with | some ch => gsm V chs (gF m) ch.2.2.2.1 | none => 0
def bF : Nat → Nat → Nat
  | 0, _ => 0
  | m + 1, c => match chs[c]? with | some ch => ownx K V chs ch + bsm V chs (bF m) ch.2.2.2.1 | none => 0
end
section
variable {K V : Nat → Int} {chs : List cCh}
theorem gsm_cg {G G' : Nat → Nat} : ∀ (ps : List (Nat × List cLk)), (∀ q ∈ ps, ∀ b, kOf V chs (V q.1) = some (2 + b) → G b = G' b) → gsm V chs G ps = gsm V chs G' ps
  | [], _ => rfl
  | q :: qs, h => by
    unfold gsm
    rw [gsm_cg qs (fun q' hq' => h q' (List.mem_cons_of_mem _ hq'))]
    congr 1
    cases hk : kOf V chs (V q.1) with
    | none => rfl
    | some k =>
      dsimp only
      by_cases y : k < 2
      · rw [if_pos y, if_pos y]
      · rw [if_neg y, if_neg y]
        exact h q (List.mem_cons_self ..) (k - 2) (by rw [hk, show 2 + (k - 2) = k by omega])
theorem bsm_cg {G G' : Nat → Nat} : ∀ (ps : List (Nat × List cLk)), (∀ q ∈ ps, ∀ b, kOf V chs (V q.1) = some (2 + b) → G b = G' b) → bsm V chs G ps = bsm V chs G' ps
  | [], _ => rfl
  | q :: qs, h => by
    unfold bsm
    rw [bsm_cg qs (fun q' hq' => h q' (List.mem_cons_of_mem _ hq'))]
    congr 1
    cases hk : kOf V chs (V q.1) with
    | none => rfl
    | some k =>
      dsimp only
      by_cases y : k = 0
      · rw [if_pos y, if_pos y]
      · rw [if_neg y, if_neg y]
        by_cases z : k = 1
        · rw [if_pos z, if_pos z]
        · rw [if_neg z, if_neg z]
          exact h q (List.mem_cons_self ..) (k - 2) (by rw [hk, show 2 + (k - 2) = k by omega])
/-- how many chips lie in a chip -/
noncomputable def rkx (V : Nat → Int) (chs : List cCh) (c : Nat) : Nat := cz (fun x => @ite Int (rch V chs c x) (Classical.propDecidable _) 0 1) chs.length
theorem cz_all : ∀ (n : Nat), cz (fun _ => 0) n = n
  | 0 => rfl
  | n + 1 => by unfold cz; rw [cz_all n, if_pos rfl]
theorem rk_lt (H : ∀ c, c < chs.length → ¬ rch V chs c c) {a b : Nat} (h : ed V chs a b) : rkx V chs b < rkx V chs a := by
  have r := ed_rg h
  unfold rkx
  refine cz_lt chs.length (fun x hx hz => ?_) ⟨b, r.2, ?_, ?_⟩
  · by_cases y : rch V chs b x
    · rw [if_pos (rch_trans (fun S s1 _ => s1 b h) y)]
    · rw [if_neg y] at hz; exact absurd hz (by decide)
  · rw [if_pos (show rch V chs a b from fun S s1 _ => s1 b h)]
  · rw [if_neg (H b r.2)]; decide
theorem rk_rg (H : ∀ c, c < chs.length → ¬ rch V chs c c) {c : Nat} (hc : c < chs.length) : rkx V chs c < chs.length := by
  have := cz_lt (g := fun _ => 0) (g' := fun x => @ite Int (rch V chs c x) (Classical.propDecidable _) 0 1) chs.length (fun _ _ _ => rfl) ⟨c, hc, rfl, by rw [if_neg (H c hc)]; decide⟩
  rw [cz_all] at this
  exact this
theorem gF_st (H : ∀ c, c < chs.length → ¬ rch V chs c c) : ∀ (m c : Nat), rkx V chs c < m → gF V chs m c = gF V chs (m + 1) c
  | 0, c, h => by omega
  | m + 1, c, h => by
    show (match chs[c]? with | some ch => gsm V chs (gF V chs m) ch.2.2.2.1 | none => 0) = (match chs[c]? with | some ch => gsm V chs (gF V chs (m + 1)) ch.2.2.2.1 | none => 0)
    cases hc : chs[c]? with
    | none => rfl
    | some ch => exact gsm_cg _ (fun q hq b hb => gF_st H m b (by have := rk_lt H (a := c) (b := b) ⟨ch, q, hc, hq, hb⟩; omega))
theorem bF_st (H : ∀ c, c < chs.length → ¬ rch V chs c c) : ∀ (m c : Nat), rkx V chs c < m → bF K V chs m c = bF K V chs (m + 1) c
  | 0, c, h => by omega
  | m + 1, c, h => by
    show (match chs[c]? with | some ch => ownx K V chs ch + bsm V chs (bF K V chs m) ch.2.2.2.1 | none => 0) = (match chs[c]? with | some ch => ownx K V chs ch + bsm V chs (bF K V chs (m + 1)) ch.2.2.2.1 | none => 0)
    cases hc : chs[c]? with
    | none => rfl
    | some ch =>
      dsimp only
      rw [bsm_cg _ (fun q hq b hb => bF_st H m b (by have := rk_lt H (a := c) (b := b) ⟨ch, q, hc, hq, hb⟩; omega))]
/-- gates and bits of a chip with all that is in it -/
def gAll (V : Nat → Int) (chs : List cCh) (c : Nat) : Nat := gF V chs (chs.length + 1) c
def bAll (K V : Nat → Int) (chs : List cCh) (c : Nat) : Nat := bF K V chs (chs.length + 1) c
theorem gAll_eq (H : ∀ c, c < chs.length → ¬ rch V chs c c) {c : Nat} {ch : cCh} (hc : chs[c]? = some ch) : gAll V chs c = gsm V chs (gAll V chs) ch.2.2.2.1 := by
  have e : gAll V chs c = gsm V chs (gF V chs chs.length) ch.2.2.2.1 := by
    show (match chs[c]? with | some ch => gsm V chs (gF V chs chs.length) ch.2.2.2.1 | none => 0) = _
    rw [hc]
  rw [e]
  exact gsm_cg _ (fun q hq b hb => gF_st H _ b (rk_rg H (by have := kOf_rg hb; omega)))
theorem bAll_eq (H : ∀ c, c < chs.length → ¬ rch V chs c c) {c : Nat} {ch : cCh} (hc : chs[c]? = some ch) : bAll K V chs c = ownx K V chs ch + bsm V chs (bAll K V chs) ch.2.2.2.1 := by
  have e : bAll K V chs c = ownx K V chs ch + bsm V chs (bF K V chs chs.length) ch.2.2.2.1 := by
    show (match chs[c]? with | some ch => ownx K V chs ch + bsm V chs (bF K V chs chs.length) ch.2.2.2.1 | none => 0) = _
    rw [hc]
  rw [e]
  congr 1
  exact bsm_cg _ (fun q hq b hb => bF_st H _ b (rk_rg H (by have := kOf_rg hb; omega)))
theorem wsm_rg : ∀ (ps : List (Nat × Int)), wsm V ps ≤ 16 * ps.length
  | [] => Nat.le_refl _
  | p :: ps => by
    have := wsm_rg ps
    have := c_w_rg V p.2
    unfold wsm
    rw [List.length_cons]
    omega
theorem gsm_app (G : Nat → Nat) : ∀ (a b : List (Nat × List cLk)), gsm V chs G (a ++ b) = gsm V chs G a + gsm V chs G b
  | [], b => (Nat.zero_add _).symm
  | q :: a, b => by
    show _ + gsm V chs G (a ++ b) = _ + gsm V chs G a + _
    rw [gsm_app G a b, Nat.add_assoc]
theorem bsm_app (G : Nat → Nat) : ∀ (a b : List (Nat × List cLk)), bsm V chs G (a ++ b) = bsm V chs G a + bsm V chs G b
  | [], b => (Nat.zero_add _).symm
  | q :: a, b => by
    show _ + bsm V chs G (a ++ b) = _ + bsm V chs G a + _
    rw [bsm_app G a b, Nat.add_assoc]
theorem wsm_app : ∀ (a b : List (Nat × Int)), wsm V (a ++ b) = wsm V a + wsm V b
  | [], b => (Nat.zero_add _).symm
  | q :: a, b => by
    show _ + wsm V (a ++ b) = _ + wsm V a + _
    rw [wsm_app a b, Nat.add_assoc]
theorem gvs_ub {ch : cCh} : ∀ (ps : List (Nat × List cLk)) (X : Nat → Int), (∀ q ∈ ps, ∀ l ∈ q.2, 0 ≤ l.2.1.2.1) → (∀ j, X j ≤ 16) → ∀ j, gvs K V chs ch ps X j ≤ 16
  | [], X, _, h => h
  | q :: qs, X, hl, h => by
    have g1 : ∀ (k : Nat) (l : cLk) (X : Nat → Int), 0 ≤ l.2.1.2.1 → (∀ j, X j ≤ 16) → ∀ j, gv1 K V chs k ch l X j ≤ 16 := fun k l X h0 h j => by
      unfold gv1
      split
      · exact h j
      · unfold p_set
        split
        · split
          · rename_i y
            have := lwd_rg (V := V) (chs := chs) k l
            have : 0 ≤ rlo l.2.1 := by unfold rlo; split <;> omega
            unfold rn; unfold rok at y; omega
          · decide
        · exact h j
    have gl : ∀ (k : Nat) (ls : List cLk) (X : Nat → Int), (∀ l ∈ ls, 0 ≤ l.2.1.2.1) → (∀ j, X j ≤ 16) → ∀ j, gvl K V chs k ch ls X j ≤ 16 := fun k ls => by
      induction ls with
      | nil => intro X _ h; exact h
      | cons l ls ih => intro X h0 h; exact ih _ (fun l' hl' => h0 l' (List.mem_cons_of_mem _ hl')) (g1 k l X (h0 l (List.mem_cons_self ..)) h)
    refine gvs_ub qs _ (fun q' hq' => hl q' (List.mem_cons_of_mem _ hq')) ?_
    intro j
    unfold gvp
    cases kOf V chs (V q.1) with
    | none => exact h j
    | some k => exact gl k _ _ (hl q (List.mem_cons_self ..)) h j
/-- an inner name that has no width comes from a link that is wrong -/
theorem gvs_bad {ch : cCh} : ∀ (ps : List (Nat × List cLk)) (X : Nat → Int) (j : Nat), gvs K V chs ch ps X j = -1 → X j = -1 ∨ ∃ q ∈ ps, ∃ k, kOf V chs (V q.1) = some k ∧ ∃ l ∈ q.2, ¬ rok l.2.1 (lwd V chs k l)
  | [], X, j, h => Or.inl h
  | q :: qs, X, j, h => by
    have gl : ∀ (k : Nat) (ls : List cLk) (X : Nat → Int), gvl K V chs k ch ls X j = -1 → X j = -1 ∨ ∃ l ∈ ls, ¬ rok l.2.1 (lwd V chs k l) := fun k ls => by
      induction ls with
      | nil => intro X h; exact Or.inl h
      | cons l ls ih =>
        intro X h
        rcases ih _ h with z | ⟨l', z1, z2⟩
        · unfold gv1 at z
          split at z
          · exact Or.inl z
          · unfold p_set at z
            split at z
            · split at z
              · rename_i y; unfold rn at z; unfold rok at y; omega
              · rename_i y; exact Or.inr ⟨l, List.mem_cons_self .., y⟩
            · exact Or.inl z
        · exact Or.inr ⟨l', List.mem_cons_of_mem _ z1, z2⟩
    rcases gvs_bad qs _ j h with z | ⟨q', z1, z2⟩
    · unfold gvp at z
      cases hk : kOf V chs (V q.1) with
      | none => rw [hk] at z; exact Or.inl z
      | some k =>
        rw [hk] at z
        rcases gl k _ _ z with w | w
        · exact Or.inl w
        · exact Or.inr ⟨q, List.mem_cons_self .., k, hk, w⟩
    · exact Or.inr ⟨q', List.mem_cons_of_mem _ z1, z2⟩
/-- what a passed check says of each part -/
theorem prsS_ok {ch : cCh} {X : Nat → Int} : ∀ (ps : List (Nat × List cLk)) (s u : (Nat → Int) × (Nat → Int)), prsS K V chs ch X ps s = .inr u → ∀ q ∈ ps, ∃ k, kOf V chs (V q.1) = some k ∧ ∀ l ∈ q.2, lpn V chs k l ≠ -1 ∧ rok l.2.1 (lwd V chs k l)
  | [], s, u, _ => fun q hq => absurd hq List.not_mem_nil
  | p :: ps, s, u, h => by
    have gl : ∀ (k : Nat) (ls : List cLk) (s u : cSt), lksS K V chs k ch X ls s = .inr u → ∀ l ∈ ls, lpn V chs k l ≠ -1 ∧ rok l.2.1 (lwd V chs k l) := fun k ls => by
      induction ls with
      | nil => intro s u _ l hl; exact absurd hl List.not_mem_nil
      | cons l ls ih =>
        intro s u h l' hl'
        unfold lksS at h
        cases hx : lkS K V chs k ch X l s with
        | inl e => rw [hx] at h; cases h
        | inr s' =>
          rw [hx] at h
          rcases List.mem_cons.1 hl' with w | w
          · subst w
            unfold lkS at hx
            by_cases y : lpn V chs k l' = -1
            · rw [if_pos y] at hx; cases hx
            · rw [if_neg y] at hx
              by_cases z : rok l'.2.1 (lwd V chs k l')
              · exact ⟨y, z⟩
              · rw [if_neg z] at hx; cases hx
          · exact ih _ _ h l' w
    unfold prsS at h
    cases hx : prS K V chs ch X p s with
    | inl e => rw [hx] at h; cases h
    | inr s' =>
      rw [hx] at h
      intro q hq
      rcases List.mem_cons.1 hq with w | w
      · subst w
        unfold prS at hx
        cases hk : kOf V chs (V q.1) with
        | none => rw [hk] at hx; cases hx
        | some k =>
          rw [hk] at hx
          dsimp only at hx
          cases hy : lksS K V chs k ch X q.2 (fun _ => 0, s) with
          | inl e => rw [hy] at hx; cases hx
          | inr v => exact ⟨k, rfl, gl k _ _ _ hy⟩
      · exact prsS_ok ps _ _ h q w
/-- what is known when no check has failed -/
theorem cksS_ok : ∀ (cs : List cCh) (c : Nat), cksS K V chs cs c = none → ∀ j ch, cs[j]? = some ch → hdS V chs (c + j) ch = none ∧ ∃ u, prsS K V chs ch (cIW K V chs ch) ch.2.2.2.1 (fun _ => 0, fun _ => 0) = .inr u
  | [], c, h => fun j ch hj => by cases hj
  | a :: cs, c, h => by
    unfold cksS at h
    cases hx : ckS K V chs c a with
    | some e => rw [hx] at h; cases h
    | none =>
      rw [hx] at h
      intro j ch hj
      cases j with
      | zero =>
        cases hj
        unfold ckS at hx
        cases hy : hdS V chs c a with
        | some e => rw [hy] at hx; cases hx
        | none =>
          rw [hy] at hx
          dsimp only at hx
          refine ⟨rfl, ?_⟩
          cases hz : prsS K V chs a (cIW K V chs a) a.2.2.2.1 (fun _ => 0, fun _ => 0) with
          | inl e => rw [hz] at hx; cases hx
          | inr u => exact ⟨u, rfl⟩
      | succ j =>
        have := cksS_ok cs (c + 1) h j ch hj
        rw [show c + 1 + j = c + (j + 1) by omega] at this
        exact this
theorem ck_iw (h : cksS K V chs chs 0 = none) {c : Nat} {ch : cCh} (hc : chs[c]? = some ch) (j : Nat) : 0 ≤ cIW K V chs ch j := by
  obtain ⟨-, u, hu⟩ := cksS_ok chs 0 h c ch hc
  have r := gvs_rg (K := K) (V := V) (chs := chs) (ch := ch) ch.2.2.2.1 (fun _ => 0) (fun _ => Or.inr (Int.le_refl _)) j
  rcases r with z | z
  · rcases gvs_bad ch.2.2.2.1 _ j z with w | ⟨q, w1, k, w2, l, w3, w4⟩
    · exact absurd w (by decide)
    · obtain ⟨k', x1, x2⟩ := prsS_ok _ _ _ hu q w1
      rw [w2] at x1; cases x1
      exact absurd (x2 l w3).2 w4
  · exact z
theorem ck_kd (h : cksS K V chs chs 0 = none) : ∀ ch ∈ chs, ∀ q ∈ ch.2.2.2.1, kOf V chs (V q.1) ≠ none := fun ch hch q hq => by
  obtain ⟨c, hc⟩ := List.mem_iff_getElem?.1 hch
  obtain ⟨-, u, hu⟩ := cksS_ok chs 0 h c ch hc
  obtain ⟨k, x1, -⟩ := prsS_ok _ _ _ hu q hq
  rw [x1]; exact Option.some_ne_none k
end
