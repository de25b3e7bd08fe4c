/-! RUN, 31: the words with which a run begins and ends -/
def begN (u : Nat) : List vl := [(15, 0, 0), (1, 5, 0), (15, 37, 0), (1, 5, 0), (15, u, 0), (1, 5, 0), (15, 46, 0)]
section
variable {ky : List Int} {lab fs gv : Nat → Nat} {h : am_H} {L n : Nat} {r : Nat → Int} {a d : Int} {G : vG} {w : Nat}
/-- a value is thrown away, without a frame -/
theorem b_pop (hi : HI h lab fs) (c : cmw h w (wPop ++ wKeep ((5 : Nat) : Int))) (h0 : r 0 = ((17001 : Nat) : Int)) (M : ∀ k, 16 ≤ k → k < 17000 → r k = G.1 k) : ∃ a2 d2 r2, Hq L n h ((w : Int), a, d, r) (((w + 5 : Nat) : Int), a2, d2, r2) ∧ r2 0 = ((17000 : Nat) : Int) ∧ ∀ k, 16 ≤ k → k < 17000 → r2 k = G.1 k := by
  have A : QS L n h wPop (a, d, r) _ := q_pop (sp := 17000) h0 (by decide) (by decide)
  have B := A.app (q_keep 5 (by decide)) (List.cons_ne_nil _ _) (List.cons_ne_nil _ _)
  exact ⟨_, _, _, B w c.cd hi.2.1, by rw [p_set_n _ _ _ _ (by decide), p_set_s], fun k h1 h2 => by rw [p_set_n _ _ _ _ (by omega), p_set_n _ _ _ _ (by omega)]; exact M k h1 h2⟩
/-- a call without a frame -/
theorem b_call {s : Nat} {o : vO} (hi : HI h lab fs) (c : cmw h w ([((w + 4 : Nat) : Int), -5104] ++ [(fs s : Int), -5497])) (hw : w + 4 < 32768) (I : IOR ky G h) (h0 : r 0 = ((17000 : Nat) : Int)) (M : ∀ k, 16 ≤ k → k < 17000 → r k = G.1 k) (R : hrg ((w : Int), a, d, r)) (H : vD ky 9 s [] G = some o) : hRet L n ky h ((w : Int), a, d, r) r 17000 (w + 4) (r 1) (r 2) (r 3) (r 4) o := by
  have fb := (hi.2.2.2 s).2
  have P := h_sub (L := L) (n := n) (lab := lab) (fs := fs) (ky := ky) 9 s [] G o H h r 17000 (w + 4) ((fs s : Nat) : Int) hi I h0 (fun i v hi => (by cases hi)) M (by decide) (by decide) hw ⟨⟨by dsimp only; omega, by dsimp only; omega⟩, ⟨by dsimp only; omega, by dsimp only; omega⟩, R.2.2⟩
  have Q : Hq L n h ((w : Int), a, d, r) _ := q_go P.1.1 (l_const (w + 4) (by omega)) (List.cons_ne_nil _ _) c.cd hi.2.1
  exact hRet.pre Q.hq (p_fr.refl h) hi.2.1 P.1 (fun _ _ _ => rfl) P.2
/-- the system's own beginnings -/
theorem b_sys {s : Nat} {v : Int} {G' : vG} (hi : HI h lab fs) (c : cmw h w ([((w + 4 : Nat) : Int), -5104] ++ [(fs s : Int), -5497])) (c2 : cmw h (w + 4) (wPop ++ wKeep ((5 : Nat) : Int))) (I : IOR ky G h) (h0 : r 0 = ((17000 : Nat) : Int)) (M : ∀ k, 16 ≤ k → k < 17000 → r k = G.1 k) (R : hrg ((w : Int), a, d, r)) (H : vD ky 9 s [] G = some (.inl v, G')) : ∃ h' a2 d2 r2, HQ L n h ((w : Int), a, d, r) h' (((w + 9 : Nat) : Int), a2, d2, r2) ∧ r2 0 = ((17000 : Nat) : Int) ∧ (∀ k, 16 ≤ k → k < 17000 → r2 k = G'.1 k) ∧ IOR ky G' h' ∧ p_fr ioC ioF h h' := by
  have m := c2 0 _ rfl
  rw [Nat.add_zero] at m
  rcases b_call (L := L) (n := n) (s := s) hi c m.2.1 I h0 M R H with ⟨v2, G2, h', a2, d2, r2, e1, Q, ⟨z0, -⟩, -, me, I2, f⟩ | ⟨e, v2, G2, hf, e1, -⟩
  · cases e1
    obtain ⟨a3, d3, r3, Q3, y0, y1⟩ := b_pop (L := L) (n := n) (a := a2) (d := d2) (hi.fr f) (c2.fr f) z0 me
    exact ⟨h', a3, d3, r3, Q.then (hi.fr f).2.1 ⟨m.2.1, by rw [f.cell 16 rfl rfl]; exact m.2.2⟩ Q3.hq, y0, y1, I2, f⟩
  · cases e1
/-- behind the last return -/
theorem b_end (hi : HI h lab fs) (c1 : cmw h w (wPop ++ wKeep ((5 : Nat) : Int))) (c2 : cmw h (w + 5) ([((w + 9 : Nat) : Int), -5104] ++ [(fs 46 : Int), -5497])) (hw : w + 9 < 32768) (I : IOR ky G h) (h0 : r 0 = ((17001 : Nat) : Int)) (M : ∀ k, 16 ≤ k → k < 17000 → r k = G.1 k) (R : hrg ((w : Int), a, d, r)) : ∃ hf, H3 L n h ((w : Int), a, d, r) (pI L 0 hf) ∧ hEnd ky h 0 0 G hf ∧ ∀ k, rg16 (hf 18 k) := by
  obtain ⟨a2, d2, r2, Q, y0, y1⟩ := b_pop (L := L) (n := n) (a := a) (d := d) (G := G) hi c1 h0 M
  have m1 := c1 0 _ rfl
  rw [Nat.add_zero] at m1
  have m2 := c2 0 _ rfl
  rw [Nat.add_zero] at m2
  obtain ⟨R2, go⟩ := Q R
  have H : vD ky 9 46 [] G = some (.inr (0, 0), G) := by
    rw [w_46, show am_s16 (32000 + 0) = 32000 by decide]
    unfold v_wr
    rw [if_neg (by decide), if_neg (by decide), if_pos rfl]
  rcases b_call (L := L) (n := n) (w := w + 5) (s := 46) hi c2 hw I y0 y1 R2 H with ⟨v2, G2, h', a2, d2, r2, e1, -⟩ | ⟨e, v2, G2, hf, e1, F, E⟩
  · cases e1
  · cases e1
    exact ⟨hf, h34 hi.2.1 m1.2.1 m1.2.2 (go _ (h34 hi.2.1 m2.2.1 m2.2.2 (F R2).1)), E, (F R2).2⟩
/-- what is laid where a run begins -/
theorem LU_cm0 {sg k : Nat} {o w : Nat} (hl : lin (o, sg, k)) (H : lat h lab fs gv 0 (w, 0) (o, sg, k)) : cmw h w (lw lab fs w (o, sg, k)) := by
  obtain ⟨c1, c2⟩ := lat_lin hl H
  intro j v hj
  obtain ⟨y1, y2, y3⟩ := c1 j v hj
  refine ⟨y1, y2, ?_⟩
  by_cases z : j = 0
  · rw [z, Nat.add_zero]; exact c2
  · exact y3 z
theorem b_laid {u ws : Nat} (H : LU h lab fs gv 0 (ws, 0) (begN u)) : cmw h ws ([((ws + 4 : Nat) : Int), -5104] ++ [(fs 0 : Int), -5497]) ∧ cmw h (ws + 4) (wPop ++ wKeep ((5 : Nat) : Int)) ∧ cmw h (ws + 9) ([((ws + 13 : Nat) : Int), -5104] ++ [(fs 37 : Int), -5497]) ∧ cmw h (ws + 13) (wPop ++ wKeep ((5 : Nat) : Int)) ∧ cmw h (ws + 18) ([((ws + 22 : Nat) : Int), -5104] ++ [(fs u : Int), -5497]) ∧ cmw h (ws + 22) (wPop ++ wKeep ((5 : Nat) : Int)) ∧ cmw h (ws + 27) ([((ws + 31 : Nat) : Int), -5104] ++ [(fs 46 : Int), -5497]) ∧ ws + 31 < 32768 := by
  obtain ⟨h1, -, -, h2, -, -, h3, -, -, h4, -, -, h5, -, -, h6, -, -, h7, -, h8, -⟩ := H
  have p15 : ∀ a b : Nat, lin (15, a, b) := fun _ _ => Or.inr (Or.inr (Or.inr (Or.inr rfl)))
  have p1 : ∀ a b : Nat, lin (1, a, b) := fun _ _ => Or.inl (by show 1 ≤ 10; decide)
  exact ⟨LU_cm0 (p15 _ _) h1, LU_cm0 (p1 _ _) h2, LU_cm0 (p15 _ _) h3, LU_cm0 (p1 _ _) h4, LU_cm0 (p15 _ _) h5, LU_cm0 (p1 _ _) h6, LU_cm0 (p15 _ _) h7, h8⟩
end
