/-! PURE LAYER, 29: the body of a sub -/
section
variable {K V P : Nat → Int} {sy w : Bool} {Z : Nat} {g0 : am_H} {i deep st : Nat} {g h : am_H} (d L : Nat) {β : Type}
/-- names of vars behind a type -/
theorem pn_varn {F : Nat × Nat × ce_S → gx_R β} {ok : β → Option am_O → Prop} {a b c t : Int} {l : List (Int × Int × Int × Int)} (g1 : am_H) {B : Nat} (hB : B ≤ 1400000000)
    (hk : ∀ (j n : Nat) (g h : am_H), pc_N K V P sy w Z g0 j deep st g h → ce_vv g1 g → n ≤ B → pc_o L (am_E (am_D (d + 6)) m_7_39 (.inl 1) [some (am_r (am_a 212)), some (am_i n), some (am_i t)] [] (zS L, h)) g0 (F (j, n, (g, t, a, b, c, (n : Int), l))) ok) :
    ∀ (f i n : Nat) (g h : am_H), pc_N K V P sy w Z g0 i deep st g h → ce_vv g1 g → n + f ≤ B →
    pc_o L (am_xV (zS L) (am_D (d + 6) 7 37 [am_r (am_a 212), am_i 2, am_i t, am_i n] (zS L, h)) (am_up1 (zS L)) fun h37 => am_E (am_D (d + 6)) m_7_39 (.inl 2) [some (am_r (am_a 212)), some (am_i (am_w ((n : Int) + 1))), some (am_i t)] [] (zS L, h37)) g0 (gx_b (gp_varn sy K V P (ce w sy K V P) f i n (g, t, a, b, c, (n : Int), l)) F) ok := by
  intro f
  induction f with
  | zero => intro i n g h N hv hn; exact fun z => absurd z (by decide)
  | succ f ih =>
    intro i n g h N hv hn
    rw [gp_varn]
    have e50 : ce w sy K V P (50, (i : Int), 0, 0) (g, t, a, b, c, (n : Int), l) = gx_b (ce_chk w (ce_vs g (V i) = -1) (3, P i) (ce_q (g 229 5 < 50) (.inr (ce_var2 2 n t n (V i) g)))) fun g3 => .inr (g3, t, a, b, c, (n : Int) + 1, l) := by
      show ce_chk w (ce_vs g (V ((i : Int)).toNat) = -1) (3, P ((i : Int)).toNat) (ce_q (g 229 5 < 50) (.inr (ce_var2 2 (n : Int) t (n : Int) (V ((i : Int)).toNat) g, t, a, b, c, (n : Int) + 1, l))) = _
      rw [Int.toNat_natCast]
      exact ce_cq_b w _ _ _ _ (fun g3 => (g3, t, a, b, c, (n : Int) + 1, l))
    rw [e50]
    have ef : ∀ X : gx_R (Nat × Nat × ce_S), gx_b (gx_if (K i = 2) (1, P i) (gx_if (sy = true ∨ n < 12) (2, P i) X)) F = gx_if (K i = 2) (1, P i) (gx_if (sy = true ∨ n < 12) (2, P i) (gx_b X F)) := by
      intro X; unfold gx_if; split
      · split <;> rfl
      · rfl
    rw [ef]
    simp only [gx_b_assoc, gx_b_inr]
    refine pn_var (d + 2) L (F := fun j g3 => gx_b (if gx_sg K V 44 j then gx_b (gx_next sy K P j) fun j2 => gp_varn sy K V P (ce w sy K V P) f j2 (n + 1) (g3, t, a, b, c, (n : Int) + 1, l) else gx_b (gx_sign sy K V P 59 j) fun j2 => .inr (j2, n + 1, (g3, t, a, b, c, (n : Int) + 1, l))) F) N 2 t n (by omega) n ?_ (fun j3 h3 N3 => ?_)
    · rw [if_neg (fun z => by have := z.1; omega)]
    · have hv3 : ce_vv g1 (ce_var2 2 n t n (V i) g) := hv.trans (ce_var2_vv _ _ _ _ _ _)
      rw [p_w (by omega) (by omega), q_7_39_2, pc_isSign (d + 4) L N3.R N3.lt, p_xI]
      simp only [pB_0]
      by_cases c44 : gx_sg K V 44 j3
      · rw [if_neg (fun z => z c44), if_pos c44, gx_b_assoc]
        refine pn_next (d + 3) L N3 ⟨by rw [c44.1]; decide, by rw [c44.1]; decide⟩ (fun j4 h4 _ N4 => ?_)
        have t := ih j4 (n + 1) _ h4 N4 hv3 (by omega)
        exact t
      · rw [if_pos c44, if_neg c44, gx_b_assoc]
        exact pn_sign (d + 2) L N3 59 (fun j4 h4 N4 => hk j4 (n + 1) _ h4 N4 hv3 (by omega))
/-- vars -/
theorem pn_locs {F : Nat × ce_S → gx_R β} {ok : β → Option am_O → Prop} {a b c : Int} {l : List (Int × Int × Int × Int)} {k : Int → Option am_V → am_H → Option am_O} (g1 : am_H) {G : Nat}
    (hE : ∀ (h : am_H) (x1 : Int) (u2 : Option am_V), am_E (am_D (d + 6)) m_7_39 (.inl 1) [some (am_r (am_a 212)), some (am_i x1), u2] [] (zS L, h) = am_xI (zS L) (am_D (d + 6) 7 5 [am_r (am_a 212), am_i 6] (zS L, h)) (am_up1 (zS L)) fun v2 h1 => if (v2 : Int) = 0 then k x1 u2 h1 else am_xV (zS L) (am_D (d + 6) 7 10 [am_r (am_a 212)] (zS L, h1)) (am_up1 (zS L)) fun h34 => am_xI (zS L) (am_D (d + 6) 7 36 [am_r (am_a 212)] (zS L, h34)) (am_up1 (zS L)) fun v36 h35 => am_xV (zS L) (am_D (d + 6) 7 37 [am_r (am_a 212), am_i 2, am_i v36, am_i x1] (zS L, h35)) (am_up1 (zS L)) fun h37 => am_E (am_D (d + 6)) m_7_39 (.inl 2) [some (am_r (am_a 212)), some (am_i (am_w (x1 + 1))), some (am_i v36)] [] (zS L, h37))
    (hk : ∀ (j n : Nat) (t : Int) (g h : am_H) (u2 : Option am_V), pc_N K V P sy w Z g0 j deep st g h → ce_vv g1 g → n ≤ 1400000000 → pc_o L (k n u2 h) g0 (F (j, (g, t, a, b, c, (n : Int), l))) ok) :
    ∀ (f i n : Nat) (t : Int) (g h : am_H) (u2 : Option am_V), pc_N K V P sy w Z g0 i deep st g h → ce_vv g1 g → n + f * G ≤ 1400000000 →
    pc_o L (am_E (am_D (d + 6)) m_7_39 (.inl 1) [some (am_r (am_a 212)), some (am_i n), u2] [] (zS L, h)) g0 (gx_b (gp_locs sy K V P (ce w sy K V P) G f i n (g, t, a, b, c, (n : Int), l)) F) ok := by
  intro f
  induction f with
  | zero => intro i n t g h u2 N hv hn; exact fun z => absurd z (by decide)
  | succ f ih =>
    intro i n t g h u2 N hv hn
    rw [Nat.succ_mul] at hn
    rw [hE, gp_locs, pc_isWord (d + 4) L N.R N.lt, p_xI]
    simp only [pB_0]
    by_cases c6 : gx_wd K V 6 i
    · rw [if_neg (fun z => z c6), if_pos c6, gx_b_assoc]
      refine pn_next (d + 3) L N ⟨by rw [c6.1]; decide, by rw [c6.1]; decide⟩ (fun j h1 _ N1 => ?_)
      rw [gx_b_assoc]
      refine pn_type (d + 1) L N1 (fun j2 t2 h2 N2 => ?_)
      rw [gx_b_assoc]
      refine pn_varn d L (t := t2) g1 (B := n + G) (by omega) ?_ G j2 n g h2 N2 hv (by omega)
      intro j3 n3 g3 h3 N3 hv3 hn3
      exact ih j3 n3 t2 g3 h3 (some (am_i t2)) N3 hv3 (by omega)
    · rw [if_pos c6, if_neg c6]
      exact hk i n t g h u2 N hv (by omega)
end
