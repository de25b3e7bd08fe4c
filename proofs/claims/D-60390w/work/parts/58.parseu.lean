/-! PURE LAYER, 28: variables of a sub -/
/-- all but the sub's variables is as it was -/
def ce_vv (g g1 : am_H) : Prop := ∀ a, (a < 229 ∨ 234 < a) → g1 a = g a
theorem ce_vv.refl (g : am_H) : ce_vv g g := fun _ _ => rfl
theorem ce_vv.trans {a b c : am_H} (h1 : ce_vv a b) (h2 : ce_vv b c) : ce_vv a c := fun x hx => (h2 x hx).trans (h1 x hx)
theorem ce_var2_vv (k pl ty no x : Int) (g : am_H) : ce_vv g (ce_var2 k pl ty no x g) := by
  intro a ha
  unfold ce_var2
  rw [p_up_c _ _ _ _ _ (by omega), p_up_c _ _ _ _ _ (by omega), p_up_c _ _ _ _ _ (by omega), p_up_c _ _ _ _ _ (by omega), p_up_c _ _ _ _ _ (by omega), p_up_c _ _ _ _ _ (by omega)]
theorem ce_cq_b {α β : Type} (w : Bool) (p p2 : Prop) [Decidable p] [Decidable p2] (e : Int × Int) (x : α) (y : α → β) : ce_chk w p e (ce_q p2 (.inr (y x) : gx_R β)) = gx_b (ce_chk w p e (ce_q p2 (.inr x))) fun a => .inr (y a) := by
  unfold ce_chk ce_q
  split
  · rfl
  · split <;> rfl
section
variable {K V P : Nat → Int} {sy w : Bool} {Z : Nat} {g0 : am_H} {i deep st : Nat} {g h : am_H} (d L : Nat) {β : Type}
theorem pc_N.var2 (N : pc_N K V P sy w Z g0 i deep st g h) (h5 : g 229 5 < 50) (k pl ty no x : Int) :
    pc_N K V P sy w Z g0 i deep st (ce_var2 k pl ty no x g) (am_up (am_up (am_up (am_up (am_up (am_up h 230 (g 229 5).toNat x) 231 (g 229 5).toNat k) 232 (g 229 5).toNat pl) 233 (g 229 5).toNat ty) 234 (g 229 5).toNat no) 229 5 (g 229 5 + 1)) := by
  have o := N.R.ok
  have N1 := N.up 230 (g 229 5).toNat x rfl rfl rfl (by omega) (by omega) (o.upc rfl)
  have N2 := N1.up 231 (g 229 5).toNat k rfl rfl rfl (by omega) (by omega) ((o.upc rfl).upc rfl)
  have N3 := N2.up 232 (g 229 5).toNat pl rfl rfl rfl (by omega) (by omega) (((o.upc rfl).upc rfl).upc rfl)
  have N4 := N3.up 233 (g 229 5).toNat ty rfl rfl rfl (by omega) (by omega) ((((o.upc rfl).upc rfl).upc rfl).upc rfl)
  have o5 := (((((o.upc (a := 230) (k := (g 229 5).toNat) (v := x) rfl).upc (a := 231) (k := (g 229 5).toNat) (v := k) rfl).upc (a := 232) (k := (g 229 5).toNat) (v := pl) rfl).upc (a := 233) (k := (g 229 5).toNat) (v := ty) rfl).upc (a := 234) (k := (g 229 5).toNat) (v := no) rfl)
  have N5 := N4.up 234 (g 229 5).toNat no rfl rfl rfl (by omega) (by omega) o5
  refine N5.up 229 5 (g 229 5 + 1) rfl rfl rfl (by omega) (by omega) ?_
  have a := o.2.2.2.2.2.2.2
  unfold ce_ok at o5 ⊢
  rw [p_up_c _ _ _ _ 8 (by decide), p_up_c _ _ _ _ 235 (by decide), p_up_c _ _ _ _ 213 (by decide), p_up_c _ _ _ _ 217 (by decide), p_up_c _ _ _ _ 223 (by decide), p_up_s]
  exact ⟨o5.1, o5.2.1, o5.2.2.1, o5.2.2.2.1, o5.2.2.2.2.1, o5.2.2.2.2.2.1, o5.2.2.2.2.2.2.1, by omega, by omega⟩
/-- variable(kind, type, n) -/
theorem pn_var {k : am_H → Option am_O} {F : Nat → am_H → gx_R β} {ok : β → Option am_O → Prop} (N : pc_N K V P sy w Z g0 i deep st g h) (kind t : Int) (n : Nat) (hn : n ≤ 1500000000) (p : Int) (hp : p = if kind = 1 ∧ g 212 14 = 3 then (n : Int) + 1 else (n : Int)) (hk : ∀ j h1, pc_N K V P sy w Z g0 j deep st (ce_var2 kind p t p (V i) g) h1 → pc_o L (k h1) g0 (F j (ce_var2 kind p t p (V i) g)) ok) :
    pc_o L (am_xV (zS L) (am_D (d + 4) 7 37 [am_r (am_a 212), am_i kind, am_i t, am_i n] (zS L, h)) (am_up1 (zS L)) k) g0
      (gx_if (K i = 2) (1, P i) (gx_if (sy = true ∨ n < 12) (2, P i) (gx_b (ce_chk w (ce_vs g (V i) = -1) (3, P i) (ce_q (g 229 5 < 50) (.inr (ce_var2 kind p t p (V i) g)))) fun g1 => gx_b (gx_next sy K P i) fun j => F j g1))) ok := by
  have hX : pc_o L (am_D (d + 4) 7 37 [am_r (am_a 212), am_i kind, am_i t, am_i n] (zS L, h)) g0
      (gx_if (K i = 2) (1, P i) (gx_if (sy = true ∨ n < 12) (2, P i) (gx_b (ce_chk w (ce_vs g (V i) = -1) (3, P i) (ce_q (g 229 5 < 50) (.inr (ce_var2 kind p t p (V i) g)))) fun g1 => gx_b (gx_next sy K P i) fun j => (.inr (j, g1) : gx_R (Nat × am_H)))))
      (fun a D => ∃ h1, D = pV L h1 ∧ (pc_N K V P sy w Z g0 a.1 deep st a.2 h1 ∧ a.2 = ce_var2 kind p t p (V i) g)) := by
    have e2 : am_D (d + 4) 7 37 [am_r (am_a 212), am_i kind, am_i t, am_i n] (zS L, h) = am_E (am_D (d + 3)) m_7_37 (.inl 2) [some (am_r (am_a 212)), some (am_i kind), some (am_i t), some (am_i n), none] [am_i (pB (K i = 2)), am_r (am_a 212)] (zS L, h) := by
      rw [D_7_37, pc_token (d + 2) L N.R N.lt, p_xI]
      by_cases c : K i = 2
      · rw [if_pos c, pB_t c]
      · rw [if_neg c, pB_f c]
    rw [e2, q_7_37_2]
    refine pn_need (d + 1) L N _ (fun hK => ?_)
    rw [N.R.syq]
    simp only [pB_0]
    have e5 : (if ¬sy = true then if (n : Int) < 12 then am_E (am_D (d + 3)) m_7_37 (.inl 5) [some (am_r (am_a 212)), some (am_i kind), some (am_i t), some (am_i n), none] [am_i 1, am_r (am_a 212)] (zS L, h) else am_E (am_D (d + 3)) m_7_37 (.inl 5) [some (am_r (am_a 212)), some (am_i kind), some (am_i t), some (am_i n), none] [am_i 0, am_r (am_a 212)] (zS L, h) else am_E (am_D (d + 3)) m_7_37 (.inl 5) [some (am_r (am_a 212)), some (am_i kind), some (am_i t), some (am_i n), none] [am_i 1, am_r (am_a 212)] (zS L, h)) = am_E (am_D (d + 3)) m_7_37 (.inl 5) [some (am_r (am_a 212)), some (am_i kind), some (am_i t), some (am_i n), none] [am_i (pB (sy = true ∨ n < 12)), am_r (am_a 212)] (zS L, h) := by
      by_cases hs : sy = true
      · rw [if_neg (fun z => z hs), pB_t (Or.inl hs)]
      · rw [if_pos hs]
        by_cases c : n < 12
        · rw [if_pos (by omega), pB_t (Or.inr c)]
        · rw [if_neg (by omega), pB_f (fun z => z.elim hs c)]
    rw [e5, q_7_37_5]
    refine pn_room (d + 1) L N _ (fun _ => ?_)
    rw [pc_value (d + 2) L N.R N.lt, p_xI, fi_vs (d + 2) L _ N.R.okh.2.2.2.2.2.2.2, p_xI, N.R.vs, ce_chk_b]
    have e7 : (if ce_vs g (V i) = -1 then am_E (am_D (d + 3)) m_7_37 (.inl 7) [some (am_r (am_a 212)), some (am_i kind), some (am_i t), some (am_i n), none] [am_i 1, am_r (am_a 212)] (zS L, h) else am_E (am_D (d + 3)) m_7_37 (.inl 7) [some (am_r (am_a 212)), some (am_i kind), some (am_i t), some (am_i n), none] [am_i 0, am_r (am_a 212)] (zS L, h)) = am_E (am_D (d + 3)) m_7_37 (.inl 7) [some (am_r (am_a 212)), some (am_i kind), some (am_i t), some (am_i n), none] [am_i (pB (ce_vs g (V i) = -1)), am_r (am_a 212)] (zS L, h) := by
      by_cases c : ce_vs g (V i) = -1
      · rw [if_pos c, pB_t c]
      · rw [if_neg c, pB_f c]
    rw [e7, q_7_37_7, pc_here (d + 2) L N.R N.lt, p_xI]
    refine pn_check (d + 1) L N _ 3 (P i) (fun _ => ?_)
    unfold ce_q
    by_cases h5 : g 229 5 < 50
    · have o5 := N.R.ok.2.2.2.2.2.2.2
      rw [if_pos h5, gx_b_inr, N.R.eq 212 14 rfl, p_w (by omega) (by omega)]
      have e9 : (if kind = 1 then if g 212 14 = 3 then am_E (am_D (d + 3)) m_7_37 (.inl 9) [some (am_r (am_a 212)), some (am_i kind), some (am_i t), some (am_i n), none] [am_i ((n : Int) + 1)] (zS L, h) else am_E (am_D (d + 3)) m_7_37 (.inl 9) [some (am_r (am_a 212)), some (am_i kind), some (am_i t), some (am_i n), none] [am_i n] (zS L, h) else am_E (am_D (d + 3)) m_7_37 (.inl 9) [some (am_r (am_a 212)), some (am_i kind), some (am_i t), some (am_i n), none] [am_i n] (zS L, h)) = am_E (am_D (d + 3)) m_7_37 (.inl 9) [some (am_r (am_a 212)), some (am_i kind), some (am_i t), some (am_i n), none] [am_i p] (zS L, h) := by
        by_cases c1 : kind = 1
        · rw [if_pos c1]
          by_cases c2 : g 212 14 = 3
          · rw [if_pos c2, hp, if_pos ⟨c1, c2⟩]
          · rw [if_neg c2, hp, if_neg (fun z => c2 z.2)]
        · rw [if_neg c1, hp, if_neg (fun z => c1 z.1)]
      rw [e9, q_7_37_9, pc_value (d + 2) L N.R N.lt, p_xI, D_15_2_229, N.R.eq 229 5 rfl, p_idx (by omega) (by omega), p_idx (by omega) (by omega), p_idx (by omega) (by omega), p_idx (by omega) (by omega), p_idx (by omega) (by omega), p_w (by omega) (by omega), p_xV]
      exact pn_next d L (N.var2 h5 kind p t p (V i)) ⟨by rw [hK]; decide, by rw [hK]; decide⟩ (fun j h2 _ N2 => ⟨h2, rfl, N2, rfl⟩)
    · rw [if_neg h5]; exact fun z => absurd z (by decide)
  have e : (gx_if (K i = 2) (1, P i) (gx_if (sy = true ∨ n < 12) (2, P i) (gx_b (ce_chk w (ce_vs g (V i) = -1) (3, P i) (ce_q (g 229 5 < 50) (.inr (ce_var2 kind p t p (V i) g)))) fun g1 => gx_b (gx_next sy K P i) fun j => F j g1))) =
      gx_b (gx_if (K i = 2) (1, P i) (gx_if (sy = true ∨ n < 12) (2, P i) (gx_b (ce_chk w (ce_vs g (V i) = -1) (3, P i) (ce_q (g 229 5 < 50) (.inr (ce_var2 kind p t p (V i) g)))) fun g1 => gx_b (gx_next sy K P i) fun j => (.inr (j, g1) : gx_R (Nat × am_H))))) fun a => F a.1 a.2 := by
    unfold gx_if
    split
    · split
      · simp only [gx_b_assoc, gx_b_inr]
      · rfl
    · rfl
  rw [e]
  refine pc_bV hX ?_
  rintro ⟨j, g2⟩ h1 - ⟨N2, eg⟩
  have eg : g2 = ce_var2 kind p t p (V i) g := eg
  subst eg
  exact hk j h1 N2
/-- parameters: as long as the ) does not stand there -/
theorem pn_pars {F : Nat × ce_S → gx_R β} {ok : β → Option am_O → Prop} {a b e : Int} {l : List (Int × Int × Int × Int)} {k : Int → am_H → Option am_O} (g1 : am_H)
    (hE : ∀ (h : am_H) (x1 : Int) (u2 : Option am_V), am_E (am_D (d + 6)) m_7_38 (.inl 13) [some (am_r (am_a 212)), some (am_i x1), u2] [] (zS L, h) = am_xI (zS L) (am_D (d + 6) 7 4 [am_r (am_a 212), am_i 41] (zS L, h)) (am_up1 (zS L)) fun v2 h1 => if (v2 : Int) = 0 then if (0 : Int) < x1 then am_xV (zS L) (am_D (d + 6) 7 11 [am_r (am_a 212), am_i 44] (zS L, h1)) (am_up1 (zS L)) fun h9 => am_xI (zS L) (am_D (d + 6) 7 36 [am_r (am_a 212)] (zS L, h9)) (am_up1 (zS L)) fun v11 h10 => am_xV (zS L) (am_D (d + 6) 7 37 [am_r (am_a 212), am_i 1, am_i v11, am_i x1] (zS L, h10)) (am_up1 (zS L)) fun h12 => am_E (am_D (d + 6)) m_7_38 (.inl 13) [some (am_r (am_a 212)), some (am_i (am_w (x1 + 1))), some (am_i v11)] [] (zS L, h12) else am_xI (zS L) (am_D (d + 6) 7 36 [am_r (am_a 212)] (zS L, h1)) (am_up1 (zS L)) fun v7 h6 => am_xV (zS L) (am_D (d + 6) 7 37 [am_r (am_a 212), am_i 1, am_i v7, am_i x1] (zS L, h6)) (am_up1 (zS L)) fun h8 => am_E (am_D (d + 6)) m_7_38 (.inl 13) [some (am_r (am_a 212)), some (am_i (am_w (x1 + 1))), some (am_i v7)] [] (zS L, h8) else am_xV (zS L) (am_D (d + 6) 7 10 [am_r (am_a 212)] (zS L, h1)) (am_up1 (zS L)) fun h3 => k x1 h3)
    (hk : ∀ (j n : Nat) (t : Int) (g h : am_H), pc_N K V P sy w Z g0 j deep st g h → ce_vv g1 g → n ≤ 5000000 → pc_o L (k n h) g0 (F (j, (g, t, a, b, (n : Int), e, l))) ok) :
    ∀ (f i n : Nat) (t : Int) (g h : am_H) (u2 : Option am_V), pc_N K V P sy w Z g0 i deep st g h → ce_vv g1 g → n + f ≤ 5000000 →
    pc_o L (am_E (am_D (d + 6)) m_7_38 (.inl 13) [some (am_r (am_a 212)), some (am_i n), u2] [] (zS L, h)) g0 (gx_b (gp_pars sy K V P (ce w sy K V P) f i n (g, t, a, b, (n : Int), e, l)) F) ok := by
  intro f
  induction f with
  | zero => intro i n t g h u2 N hv hn; exact fun z => absurd z (by decide)
  | succ f ih =>
    intro i n t g h u2 N hv hn
    rw [hE, gp_pars, pc_isSign (d + 4) L N.R N.lt, p_xI]
    simp only [pB_0]
    by_cases c : gx_sg K V 41 i
    · rw [if_neg (fun z => z c), if_pos c, gx_b_assoc]
      exact pn_next (d + 3) L N ⟨by rw [c.1]; decide, by rw [c.1]; decide⟩ (fun j h1 _ N1 => hk j n t g h1 N1 hv (by omega))
    · rw [if_pos c, if_neg c]
      have go : ∀ (j : Nat) (h : am_H), pc_N K V P sy w Z g0 j deep st g h → pc_o L (am_xI (zS L) (am_D (d + 6) 7 36 [am_r (am_a 212)] (zS L, h)) (am_up1 (zS L)) fun v7 h6 => am_xV (zS L) (am_D (d + 6) 7 37 [am_r (am_a 212), am_i 1, am_i v7, am_i n] (zS L, h6)) (am_up1 (zS L)) fun h8 => am_E (am_D (d + 6)) m_7_38 (.inl 13) [some (am_r (am_a 212)), some (am_i (am_w ((n : Int) + 1))), some (am_i v7)] [] (zS L, h8)) g0
          (gx_b (gx_b (gx_type sy K V P (ce w sy K V P) j (g, t, a, b, (n : Int), e, l)) fun r => gx_if (K r.1 = 2) (1, P r.1) (gx_if (sy = true ∨ n < 12) (2, P r.1) (gx_b (ce w sy K V P (46, (r.1 : Int), 0, 0) r.2) fun s1 => gx_b (gx_next sy K P r.1) fun j2 => gp_pars sy K V P (ce w sy K V P) f j2 (n + 1) s1))) F) ok := by
        intro j h N
        rw [gx_b_assoc]
        refine pn_type (d + 1) L N (fun j2 t2 h2 N2 => ?_)
        dsimp only
        have e46 : ce w sy K V P (46, (j2 : Int), 0, 0) (g, t2, a, b, (n : Int), e, l) = gx_b (ce_chk w (ce_vs g (V j2) = -1) (3, P j2) (ce_q (g 229 5 < 50) (.inr (ce_var2 1 (if g 212 14 = 3 then (n : Int) + 1 else n) t2 (if g 212 14 = 3 then (n : Int) + 1 else n) (V j2) g)))) fun g3 => .inr (g3, t2, a, b, (n : Int) + 1, e, l) := by
          show ce_chk w (ce_vs g (V ((j2 : Int)).toNat) = -1) (3, P ((j2 : Int)).toNat) (ce_q (g 229 5 < 50) (.inr (ce_var2 1 (if g 212 14 = 3 then (n : Int) + 1 else n) t2 (if g 212 14 = 3 then (n : Int) + 1 else n) (V ((j2 : Int)).toNat) g, t2, a, b, (n : Int) + 1, e, l))) = _
          rw [Int.toNat_natCast]
          exact ce_cq_b w _ _ _ _ (fun g3 => (g3, t2, a, b, (n : Int) + 1, e, l))
        rw [e46]
        have ef : ∀ X : gx_R (Nat × ce_S), gx_b (gx_if (K j2 = 2) (1, P j2) (gx_if (sy = true ∨ n < 12) (2, P j2) X)) F = gx_if (K j2 = 2) (1, P j2) (gx_if (sy = true ∨ n < 12) (2, P j2) (gx_b X F)) := by
          intro X; unfold gx_if; split
          · split <;> rfl
          · rfl
        rw [ef]
        simp only [gx_b_assoc, gx_b_inr]
        refine pn_var (d + 2) L (F := fun j2 g3 => gx_b (gp_pars sy K V P (ce w sy K V P) f j2 (n + 1) (g3, t2, a, b, (n : Int) + 1, e, l)) F) N2 1 t2 n (by omega) _ ?_ (fun j3 h3 N3 => ?_)
        · by_cases c3 : g 212 14 = 3
          · rw [if_pos c3, if_pos ⟨rfl, c3⟩]
          · rw [if_neg c3, if_neg (fun z => c3 z.2)]
        · rw [p_w (by omega) (by omega)]
          have t := ih j3 (n + 1) t2 _ h3 (some (am_i t2)) N3 (hv.trans (ce_var2_vv _ _ _ _ _ _)) (by omega)
          exact t
      by_cases n0 : n = 0
      · rw [if_neg (by omega), if_pos n0, gx_b_inr]
        exact go i h N
      · rw [if_pos (by omega), if_neg n0, gx_b_assoc]
        exact pn_sign (d + 2) L N 44 (fun j h1 N1 => go j h1 N1)
end
