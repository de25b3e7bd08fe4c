/-! RUN, 3: output, numbers as letters, on both sides -/
/-- output -/
def pr1 (c : Int) (G : vG) : vG := (G.1, G.2.1, if G.2.2.length < 3000 then G.2.2 ++ [c % 256] else G.2.2)
/-- digits, from the last one on, and from the first one on -/
def dlf : Nat → Nat → List Int
  | 0, n => [48 + ((n % 10 : Nat) : Int)]
  | k + 1, n => if n < 10 then [48 + ((n % 10 : Nat) : Int)] else dlf k (n / 10) ++ [48 + ((n % 10 : Nat) : Int)]
def mlf : Nat → Nat → List Int
  | 0, n => [48 + ((n % 10 : Nat) : Int)]
  | k + 1, n => (48 + ((n / 10 ^ (k + 1) % 10 : Nat) : Int)) :: mlf k n
theorem mlf_snoc : ∀ k n : Nat, mlf (k + 1) n = mlf k (n / 10) ++ [48 + ((n % 10 : Nat) : Int)]
  | 0, n => by show [_, _] = [_, _]; rw [Nat.pow_one]
  | k + 1, n => by
    show (48 + ((n / 10 ^ (k + 2) % 10 : Nat) : Int)) :: mlf (k + 1) n = (48 + ((n / 10 / 10 ^ (k + 1) % 10 : Nat) : Int)) :: mlf k (n / 10) ++ [_]
    rw [mlf_snoc k n, Nat.div_div_eq_div_mul, show 10 * 10 ^ (k + 1) = 10 ^ (k + 2) by rw [Nat.mul_comm, ← Nat.pow_succ]]
    rfl
/-- how many digits: k + 1 of them -/
def dgn (k n : Nat) : Prop := n < 10 ^ (k + 1) ∧ (k = 0 ∨ 10 ^ k ≤ n)
theorem dgn_ex (n : Nat) (h : n < 100000) : ∃ k, k ≤ 4 ∧ dgn k n := by
  unfold dgn
  by_cases c1 : n < 10
  · exact ⟨0, by omega, by simpa using c1, Or.inl rfl⟩
  · by_cases c2 : n < 100
    · exact ⟨1, by omega, by simpa using c2, Or.inr (by simpa using c1)⟩
    · by_cases c3 : n < 1000
      · exact ⟨2, by omega, by simpa using c3, Or.inr (by simpa using c2)⟩
      · by_cases c4 : n < 10000
        · exact ⟨3, by omega, by simpa using c4, Or.inr (by simpa using c3)⟩
        · exact ⟨4, by omega, by simpa using h, Or.inr (by simpa using c4)⟩
theorem dgn_d {k n : Nat} (h : dgn (k + 1) n) : dgn k (n / 10) := by
  obtain ⟨h1, h2⟩ := h
  have h2 : 10 ^ (k + 1) ≤ n := by rcases h2 with z | z; · cases z
                                   · exact z
  refine ⟨?_, ?_⟩
  · rw [Nat.div_lt_iff_lt_mul (by decide), ← Nat.pow_succ]; exact h1
  · right
    rw [Nat.le_div_iff_mul_le (by decide), ← Nat.pow_succ]; exact h2
theorem dlf_mlf : ∀ k n : Nat, dgn k n → dlf k n = mlf k n
  | 0, n, _ => rfl
  | k + 1, n, h => by
    have h2 : 10 ^ (k + 1) ≤ n := by rcases h.2 with z | z; · cases z
                                     · exact z
    have h3 : 10 ≤ n := Nat.le_trans (by rw [Nat.pow_succ]; exact Nat.le_mul_of_pos_left _ (Nat.pow_pos (by decide))) h2
    rw [mlf_snoc, ← dlf_mlf k (n / 10) (dgn_d h)]
    show (if n < 10 then _ else _) = _
    rw [if_neg (by omega)]
theorem mlf_rg : ∀ k n : Nat, ∀ c ∈ mlf k n, 48 ≤ c ∧ c ≤ 57
  | 0, n, c, h => by rw [show mlf 0 n = [_] from rfl, List.mem_singleton] at h; omega
  | k + 1, n, c, h => by
    rcases List.mem_cons.1 h with h | h
    · omega
    · exact mlf_rg k n c h
/-- letters one after the other -/
def vem (f : Int → vG → vO) : List Int → vG → vO
  | [], G => (.inl 0, G)
  | c :: cs, G => match f c G with
    | (.inl _, G1) => vem f cs G1
    | (.inr e, G1) => (.inr e, G1)
theorem vem_app (f : Int → vG → vO) : ∀ (a b : List Int) (G : vG), vem f (a ++ b) G = match vem f a G with
    | (.inl _, G1) => vem f b G1
    | (.inr e, G1) => (.inr e, G1)
  | [], b, G => rfl
  | c :: a, b, G => by
    show (match f c G with | (.inl _, G1) => vem f (a ++ b) G1 | (.inr e, G1) => (.inr e, G1)) = _
    cases hf : f c G with
    | mk x G1 =>
      rcases x with v | e
      · show vem f (a ++ b) G1 = _
        rw [vem_app f a b G1]
        show _ = match (match f c G with | (.inl _, G1) => vem f a G1 | (.inr e, G1) => (.inr e, G1)) with | (.inl _, G1) => vem f b G1 | (.inr e, G1) => (.inr e, G1)
        rw [hf]
      · show _ = match (match f c G with | (.inl _, G1) => vem f a G1 | (.inr e, G1) => (.inr e, G1)) with | (.inl _, G1) => vem f b G1 | (.inr e, G1) => (.inr e, G1)
        rw [hf]
section
variable (d L : Nat) {ky : List Int} {G : vG} {h : am_H}
theorem v_putc (ky : List Int) (c : Int) (G : vG) : vD ky (d + 1) 28 [c] G = some (.inl 0, pr1 c G) := by
  rw [w_28, show am_s16 (32001 + 0) = 32001 by decide]; rfl
theorem j_print (R : MR ky G h) (e : h 254 99 = -1) (c : Int) : ∃ h', am_D (d + 1) 17 87 [am_r (am_a 254), am_i c] (zS L, h) = pV L h' ∧ JO ky G h (.inl 0, pr1 c G) h' := by
  obtain ⟨r1, r2, r3, r4, ⟨r5, r6, r7⟩, r8⟩ := id R
  rw [D_17_87, if_pos e]
  by_cases c1 : h 254 106 = 3000
  · rw [if_pos c1]
    have : pr1 c G = G := by unfold pr1; rw [if_neg (by omega)]
    rw [this]
    exact ⟨_, rfl, JO_ret R e ⟨by decide, by decide⟩⟩
  · rw [if_neg c1, p_idx (by omega) (by omega), p_w (by omega) (by omega), p_and255]
    have cc : ∀ a, a ≠ 254 → a ≠ 320 → am_up (am_up h 320 (h 254 106).toNat (c % 256)) 254 106 (h 254 106 + 1) a = h a := fun a a1 a2 => by rw [p_up_c _ _ _ _ _ a1, p_up_c _ _ _ _ _ a2]
    have cf : ∀ k, k ≠ 106 → am_up (am_up h 320 (h 254 106).toNat (c % 256)) 254 106 (h 254 106 + 1) 254 k = h 254 k := fun k hk => by rw [p_up_n _ _ _ _ _ _ (Or.inr hk), p_up_c _ _ _ _ _ (by decide)]
    have ep : pr1 c G = (G.1, G.2.1, G.2.2 ++ [c % 256]) := by unfold pr1; rw [if_pos (by omega)]
    rw [ep]
    refine ⟨_, rfl, ⟨?_, ?_, ?_, ?_, ?_, r8⟩, vfr_refl _, ((p_fr.refl h).upc _ _ _ rfl).upf _ _ _ rfl, (cf 99 (by decide)).trans e, cf 100 (by decide), by decide, by decide⟩
    · rw [cc 308 (by decide) (by decide)]; exact r1
    · unfold bk; rw [cf 81 (by decide), cc 309 (by decide) (by decide), cc 310 (by decide) (by decide)]; exact r2
    · rw [cf 108 (by decide)]; exact r3
    · unfold kyR; rw [cf 103 (by decide), cf 102 (by decide), cc 319 (by decide) (by decide)]; exact r4
    · refine ⟨?_, ?_, fun j x hx => ?_⟩
      · rw [p_up_s, List.length_append]; show _ = ((G.2.2.length + 1 : Nat) : Int); omega
      · rw [List.length_append]; show G.2.2.length + 1 ≤ 3000; omega
      · rw [p_up_c _ _ _ _ _ (by decide)]
        by_cases z : j < G.2.2.length
        · dsimp only at hx
          rw [List.getElem?_append_left z] at hx
          rw [p_up_n _ _ _ _ _ _ (Or.inr (by omega))]; exact r7 j x hx
        · have hj : j < (G.2.2 ++ [c % 256]).length := (List.getElem?_eq_some_iff.1 hx).1
          rw [List.length_append] at hj
          have hj : j < G.2.2.length + 1 := hj
          have ej : j = G.2.2.length := by omega
          subst ej
          dsimp only at hx
          rw [List.getElem?_append_right (Nat.le_refl _), Nat.sub_self] at hx
          have : c % 256 = x := Option.some.inj hx
          rw [r5, Int.toNat_natCast, p_up_s]
          exact ⟨this, by omega, by omega⟩
theorem m_print_x (c : Int) (e : h 254 99 ≠ -1) : am_D (d + 1) 17 87 [am_r (am_a 254), am_i c] (zS L, h) = pV L h := by rw [D_17_87, if_neg e]
/-- Output.printString and printString() -/
theorem j_printS (o : Int) (ho : rg16 o) : ∀ (R : MR ky G h) (e : h 254 99 = -1), ∃ x h', vD ky (d + 4) 30 [o] G = some x ∧ am_D (d + 5) 17 95 [am_r (am_a 254), am_i o] (zS L, h) = pV L h' ∧ JO ky G h x h' ∧ (∀ v, x.1 = .inl v → v = 0) := by
  have go : ∀ (n : Int), rg16 n → ∀ (m : Nat) (i : Nat) (G : vG) (h : am_H) (tm : Option Int), n - (i : Int) ≤ m → (i : Int) ≤ 32767 → MR ky G h → h 254 99 = -1 → ∃ x h', vE ky (vD ky (d + 3)) 8 c_30 (vlab c_30 91) ([o], [(i : Int), n], none, tm, [], G) = some x ∧ am_E (am_D (d + 4)) m_17_95 (.inl 1) [some (am_r (am_a 254)), some (am_i o), some (am_i n), some (am_i (i : Int))] [] (zS L, h) = pV L h' ∧ JO ky G h x h' ∧ (∀ v, x.1 = .inl v → v = 0) := by
    intro n hn m
    induction m with
    | zero =>
      intro i G h tm hm hi R e
      rw [w_30_91, v_if_f (by omega), q_17_95_1, if_neg (by omega)]
      exact ⟨_, _, rfl, rfl, JO_ret R e ⟨by decide, by decide⟩, fun v hv => by injection hv with hv; exact hv.symm⟩
    | succ m ih =>
      intro i G h tm hm hi R e
      rw [w_30_91, q_17_95_1]
      by_cases c : (i : Int) < n
      · obtain ⟨hn1, hn2⟩ := id hn
        rw [v_if_t c, if_pos c, if_pos e]
        obtain ⟨⟨x, G1⟩, h1, r, a1, a2, J, a4, a5⟩ := j_charAt (d + 1) L R e o i ho ⟨by omega, by omega⟩
        rw [a1, a2, p_xI]
        rcases x with v | q
        · obtain ⟨g1, g2⟩ := a5 rfl
          dsimp only at g1
          subst g1; subst g2
          have ev := a4 v rfl
          subst ev
          obtain ⟨h2, b1, b2⟩ := j_print (d + 3) L R e r
          rw [v_cl_i, v_putc, v_cl_i, b1, p_xV, s16_id ⟨by omega, by omega⟩, p_w (by omega) (by omega), show (i : Int) + 1 = ((i + 1 : Nat) : Int) by omega]
          obtain ⟨x, h3, i1, i2, i3, i4⟩ := ih (i + 1) (pr1 r G1) h2 (some 0) (by omega) (by omega) b2.1 b2.2.2.2.1
          exact ⟨x, h3, i1, i2, i3.pre b2.2.1 b2.2.2.1 b2.2.2.2.2.1, i4⟩
        · obtain ⟨J1, J2, J3, J4⟩ := J
          have e1 : h1 254 99 ≠ -1 := by rw [J4.1]; have := J4.2.1; omega
          rw [v_cl_r, m_print_x _ _ _ e1, p_xV, p_w (by omega) (by omega), q_17_95_1]
          refine ⟨_, h1, rfl, ?_, ⟨J1, J2, J3, J4⟩, fun v hv => (by cases hv)⟩
          by_cases c2 : (i : Int) + 1 < n
          · rw [if_pos c2, if_neg e1]
          · rw [if_neg c2]
      · rw [v_if_f c, if_neg c]
        exact ⟨_, _, rfl, rfl, JO_ret R e ⟨by decide, by decide⟩, fun v hv => by injection hv with hv; exact hv.symm⟩
  intro R e
  rw [w_30, D_17_95]
  obtain ⟨⟨x, G1⟩, h1, r, a1, a2, J, a4, a5⟩ := j_length (d + 1) L R e o
  rw [a1, a2, p_xI]
  rcases x with v | q
  · obtain ⟨g1, g2⟩ := a5 rfl
    dsimp only at g1
    subst g1; subst g2
    have ev := a4 v rfl
    subst ev
    rw [v_cl_i]
    have hr : rg16 r := J.2.2.2.2.2
    exact go r hr (r - 0).toNat 0 G1 h1 none (by omega) (by omega) R e
  · obtain ⟨J1, J2, J3, J4⟩ := J
    have e1 : h1 254 99 ≠ -1 := by rw [J4.1]; have := J4.2.1; omega
    rw [v_cl_r, q_17_95_1]
    refine ⟨_, h1, rfl, ?_, ⟨J1, J2, J3, J4⟩, fun v hv => (by cases hv)⟩
    by_cases c2 : (0 : Int) < r
    · rw [if_pos c2, if_neg e1]
    · rw [if_neg c2]
end
