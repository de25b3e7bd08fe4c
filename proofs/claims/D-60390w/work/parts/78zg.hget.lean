/-! HACK, 6: values out of the memory and into it -/
/-- how a run has ended -/
def hEnd (ky : List Int) (h : am_H) (e v : Int) (G : vG) (hf : am_H) : Prop := p_fr (18 :: ioC) spF h hf ∧ IOR ky G hf ∧ hf 17 12 = e ∧ hf 17 14 = 0 ∧ (e = 3 → hf 17 13 = v) ∧ (e ≠ 3 → hf 17 13 = h 17 13) ∧ ∀ a, 16 ≤ a → a < 17000 → hf 18 a = G.1 a
section
variable {L n : Nat} {h h' h'' : am_H} {r : Nat → Int} {ab lb : Nat} {as ls : List Int} {th tm : Option Int} {st : List Int} {G G' : vG} {a d : Int} {ky : List Int} {x y z : hX}
theorem cmw.fr {p : Nat} {ws : List Int} (c : cmw h p ws) (f : p_fr ioC ioF h h') : cmw h' p ws := fun j w hj => by
  obtain ⟨c1, c2, c3⟩ := c j w hj
  exact ⟨by rw [f.cell 13 rfl rfl]; exact c1, c2, by rw [f.cell 16 rfl rfl]; exact c3⟩
theorem cd.fr {p : Nat} {ws : List Int} (c : cd h p ws) (f : p_fr ioC ioF h h') : cd h' p ws := fun j w hj => by
  obtain ⟨c1, c2, c3⟩ := c j w hj
  exact ⟨by rw [f.cell 13 rfl rfl]; exact c1, c2, fun z => by rw [f.cell 16 rfl rfl]; exact c3 z⟩
theorem E_fr (E : h 17 14 ≠ 0) (f : p_fr ioC ioF h h') : h' 17 14 ≠ 0 := by rw [f 17 14 rfl rfl]; exact E
theorem VX.g (X : VX r ab lb (as, ls, th, tm, st, G)) (e : G'.1 = G.1) : VX r ab lb (as, ls, th, tm, st, G') := by
  obtain ⟨x1, x4, x5, x6, x7, x8, x9, x10⟩ := X
  exact ⟨x1, x4, x5, x6, x7, x8, fun j h1 h2 => by show r j = G'.1 j; rw [e]; exact x9 j h1 h2, x10⟩
/-- D = M: the memory, or a door -/
theorem g_read {p : Nat} {x : Int} {o : vO} {k : Int → vG → Option vO} (I : IOR ky G h) (M : ∀ a, 16 ≤ a → a < 17000 → r a = G.1 a) (E : h 17 14 ≠ 0) (hp : p < 32768) (hw : h 13 p = -1008) (H : v_rd ky x G k = some o) : ∃ v G' h', k v G' = some o ∧ HQ L n h ((p : Int), x, d, r) h' (((p + 1 : Nat) : Int), x, v, r) ∧ IOR ky G' h' ∧ p_fr ioC ioF h h' ∧ G'.1 = G.1 := by
  unfold v_rd at H
  by_cases c1 : 16 ≤ x ∧ x < 17000
  · rw [if_pos c1] at H
    have e : x = (x.toNat : Int) := by omega
    have Q := c_DeM (L := L) (n := n) (d := d) (r := r) (k := x.toNat) E (by omega) hp hw
    rw [← e, M _ (by omega) (by omega)] at Q
    exact ⟨_, _, h, H, Q, I, p_fr.refl h, rfl⟩
  · rw [if_neg c1] at H
    have door : ∀ kk : Nat, x = (kk : Int) → (kk = 32002 ∨ kk = 32003 ∨ kk = 32005) → k (dG ky kk G).1 (dG ky kk G).2 = some o → ∃ v G' h', k v G' = some o ∧ HQ L n h ((p : Int), x, d, r) h' (((p + 1 : Nat) : Int), x, v, r) ∧ IOR ky G' h' ∧ p_fr ioC ioF h h' ∧ G'.1 = G.1 := by
      intro kk e hk H
      obtain ⟨h', e1, e2, e3, e4, e5⟩ := d_read (L := L) (n := n) (r := r) I kk hk
      have Q := c_door (d := d) E hp (by omega) (by omega) hw e1 e4
      rw [← e] at Q
      exact ⟨_, _, h', H, Q, e2, e3, e5⟩
    by_cases c2 : x = 32002
    · rw [if_pos c2] at H
      refine door 32002 c2 (Or.inl rfl) ?_
      unfold dG
      rw [if_pos rfl]
      cases hk : ky[G.2.1]? with
      | none => rw [hk] at H; exact H
      | some c => rw [hk] at H; exact H
    · rw [if_neg c2] at H
      by_cases c3 : x = 32003
      · rw [if_pos c3] at H
        exact door 32003 c3 (Or.inr (Or.inl rfl)) H
      · rw [if_neg c3] at H
        by_cases c4 : x = 32005
        · rw [if_pos c4] at H
          exact door 32005 c4 (Or.inr (Or.inr rfl)) H
        · rw [if_neg c4] at H; cases H
/-- a value for an address, anywhere -/
theorem r_raw {q : Nat} {x : Int} {o : vO} {k : Int → vG → Option vO} (S : cmw h 6 shL) (E : h 17 14 ≠ 0) (I : IOR ky G h) (X : VX r ab lb (as, ls, th, tm, x :: st, G)) (h15 : r 15 = (q : Int)) (hq : q < 32768) (H : v_rd ky x G k = some o) : ∃ v G' h' d2 r2, k v G' = some o ∧ HQ L n h (((183 : Nat) : Int), a, d, r) h' ((q : Int), (q : Int), d2, r2) ∧ VX r2 ab lb (as, ls, th, tm, v :: st, G') ∧ KP r r2 ab as.length lb ∧ IOR ky G' h' ∧ p_fr ioC ioF h h' := by
  obtain ⟨⟨x1, x2, x3⟩, x4, x5, ⟨x6, x6'⟩, x7, x8, x9, x10, x11, x12⟩ := id X
  dsimp only at *
  have x12 : lb + ls.length + (st.length + 1) ≤ 31990 := x12
  rw [List.length_cons] at x1
  have a2 : QS L n h [-864] (((0 : Nat) : Int), d, r) _ := q_AeMd (by decide)
  rw [x1, show am_s16 (((lb + ls.length + (st.length + 1) : Nat) : Int) - 1) = ((lb + ls.length + st.length : Nat) : Int) by rw [s16_id ⟨by omega, by omega⟩]; omega] at a2
  have a3 : QS L n h [-992] (((lb + ls.length + st.length : Nat) : Int), d, r) _ := q_AeM (by omega)
  rw [x6] at a3
  have A : QS L n h [0, -864, -992] (a, d, r) _ := (q_at 0 (by decide) (by decide)).cons (a2.cons a3 (List.cons_ne_nil _ _)) (List.cons_ne_nil _ _)
  have c := S.sub 177 ([0, -864, -992] ++ [-1008] ++ ([0, -864, -7416] ++ [15, -992, -5497])) rfl
  have m1 := S.sub 180 [-1008] rfl 0 _ rfl
  have m2 := S.sub 181 [0] rfl 0 _ rfl
  obtain ⟨v, G', h', e1, B, I', f, eG⟩ := g_read (L := L) (n := n) (d := d) I x9 E m1.2.1 m1.1 H
  have AB := HQ.then (A 183 c.app_l.app_l.cd E).hq E m1.2 B
  have c' := (S.sub 181 ([0, -864, -7416] ++ [15, -992, -5497]) rfl).fr f
  have E' := E_fr E f
  obtain ⟨r2, C, X2, K2⟩ := r_tell (L := L) (n := n) (a := x) (d := v) (v := v) c' E' X h15 hq (fun k hk _ => q_MeD hk)
  exact ⟨v, G', h', v, r2, e1, AB.then E' ⟨m2.2.1, by rw [f.cell 16 rfl rfl]; exact m2.2.2⟩ C, X2.g eG, K2, I', f⟩
/-- addresses are looked at -/
theorem r_look {p t : Nat} {x : Int} (ht : t < 32768) (c : cmw h p ([0, -864, -1008, 156, -7420] ++ ([2048, -6960, 156, -7420] ++ ([12288, -6960, (t : Int), -7420] ++ ([2048, -6960, 156, -7420] ++ ([128, -6960, (t : Int), -7420] ++ [156, -5497])))))) (E : h 17 14 ≠ 0) (X : VX r ab lb (as, ls, th, tm, x :: st, G)) (rx : rg16 x) : ∃ a2 d2, Hq L n h ((p : Int), a, d, r) (if v_pl x then (t : Int) else ((156 : Nat) : Int), a2, d2, r) := by
  obtain ⟨⟨x1, x2, x3⟩, x4, x5, ⟨x6, x6'⟩, x7, x8, x9, x10, x11, x12⟩ := id X
  dsimp only at *
  obtain ⟨rx1, rx2⟩ := rx
  have x12 : lb + ls.length + (st.length + 1) ≤ 31990 := x12
  rw [List.length_cons] at x1
  have a2 : QS L n h [-864] (((0 : Nat) : Int), d, r) _ := q_AeMd (by decide)
  rw [x1, show am_s16 (((lb + ls.length + (st.length + 1) : Nat) : Int) - 1) = ((lb + ls.length + st.length : Nat) : Int) by rw [s16_id ⟨by omega, by omega⟩]; omega] at a2
  have a3 : QS L n h [-1008] (((lb + ls.length + st.length : Nat) : Int), d, r) _ := q_DeM (by omega)
  rw [x6] at a3
  have A : QS L n h [0, -864, -1008] (a, d, r) _ := (q_at 0 (by decide) (by decide)).cons (a2.cons a3 (List.cons_ne_nil _ _)) (List.cons_ne_nil _ _)
  have c1 := c.app_l
  have c2' := c.app_r
  have c2 := c2'.app_l
  have c3' := c2'.app_r
  have c3 := c3'.app_l
  have c4' := c3'.app_r
  have c4 := c4'.app_l
  have c5' := c4'.app_r
  have c5 := c5'.app_l
  have c6 := c5'.app_r
  have mk : ∀ {p : Nat} {w : Int} {ws : List Int}, cmw h p (w :: ws) → h 13 p = w ∧ p < 32768 ∧ h 16 p = 0 := fun c => c 0 _ rfl
  have J1 := q_jd (p := p) (t := 156) (jw := -7420) (by decide) A (by simp) c1.cd E (fun p' hp hw => c_jlt E hp (by decide) hw)
  have sb : ∀ (k : Nat) {a d : Int}, k ≤ 32767 → rg16 (d - k) → QS L n h [(k : Int), -6960] (a, d, r) ((k : Int), d - k, r) := by
    intro k a d hk hr
    have : QS L n h [-6960] ((k : Int), d, r) _ := q_DmA
    rw [s16_id hr] at this
    exact (q_at (k : Int) (by omega) (by omega)).cons this (List.cons_ne_nil _ _)
  by_cases d1 : x < 0
  · rw [if_neg (by intro z; rcases z with z | z <;> omega)]; exact ⟨_, _, J1.1 d1⟩
  · have J1 := J1.2 d1
    have J2 := q_jd (t := 156) (jw := -7420) (by decide) (sb 2048 (a := ((156 : Nat) : Int)) (d := x) (by decide) ⟨by omega, by omega⟩) (by simp) c2.cd E (fun p' hp hw => c_jlt E hp (by decide) hw)
    by_cases d2 : x < 2048
    · rw [if_neg (by intro z; rcases z with z | z <;> omega)]; exact ⟨_, _, J1.on E _ (mk c2) (J2.1 (by omega))⟩
    · have J2 := J1.on E _ (mk c2) (J2.2 (by omega))
      have J3 := q_jd (t := t) (jw := -7420) ht (sb 12288 (a := ((156 : Nat) : Int)) (d := x - ((2048 : Nat) : Int)) (by decide) ⟨by omega, by omega⟩) (by simp) c3.cd E (fun p' hp hw => c_jlt E hp ht hw)
      by_cases d3 : x < 14336
      · rw [if_pos (Or.inl ⟨by omega, by omega⟩)]; exact ⟨_, _, J2.on E _ (mk c3) (J3.1 (by omega))⟩
      · have J3 := J2.on E _ (mk c3) (J3.2 (by omega))
        have J4 := q_jd (t := 156) (jw := -7420) (by decide) (sb 2048 (a := (t : Int)) (d := x - ((2048 : Nat) : Int) - ((12288 : Nat) : Int)) (by decide) ⟨by omega, by omega⟩) (by simp) c4.cd E (fun p' hp hw => c_jlt E hp (by decide) hw)
        by_cases d4 : x < 16384
        · rw [if_neg (by intro z; rcases z with z | z <;> omega)]; exact ⟨_, _, J3.on E _ (mk c4) (J4.1 (by omega))⟩
        · have J4 := J3.on E _ (mk c4) (J4.2 (by omega))
          have J5 := q_jd (t := t) (jw := -7420) ht (sb 128 (a := ((156 : Nat) : Int)) (d := x - ((2048 : Nat) : Int) - ((12288 : Nat) : Int) - ((2048 : Nat) : Int)) (by decide) ⟨by omega, by omega⟩) (by simp) c5.cd E (fun p' hp hw => c_jlt E hp ht hw)
          by_cases d5 : x < 16512
          · rw [if_pos (Or.inr ⟨by omega, by omega⟩)]; exact ⟨_, _, J4.on E _ (mk c5) (J5.1 (by omega))⟩
          · have J5 := J4.on E _ (mk c5) (J5.2 (by omega))
            rw [if_neg (by intro z; rcases z with z | z <;> omega)]
            exact ⟨_, _, J5.on E _ (mk c6) (q_go0 (t := 156) (by decide) c6.cd E)⟩
theorem IOR.up (I : IOR ky G h) (k : Nat) (v : Int) (hk : k = 12 ∨ k = 13 ∨ k = 14) : IOR ky G (am_up h 17 k v) := by
  obtain ⟨⟨i1, i2, i3⟩, ⟨i4, i5⟩, i6, i7, i8⟩ := I
  have s : ∀ j, j ≠ k → am_up h 17 k v 17 j = h 17 j := fun j hj => p_up_n _ _ _ _ _ _ (Or.inr hj)
  exact ⟨⟨by rw [s 5 (by omega)]; exact i1, i2, by rw [p_up_c _ _ _ _ _ (by decide)]; exact i3⟩, ⟨by rw [s 6 (by omega)]; exact i4, i5⟩, by rw [s 7 (by omega)]; exact i6, i7, by rw [p_up_c _ _ _ _ _ (by decide)]; exact i8⟩
theorem IOR.rr (I : IOR ky G h) (r : Nat → Int) : IOR ky G (rr h r) := by
  unfold IOR kyC
  rw [rr_n _ _ (show 17 ≠ 18 by decide), rr_n _ _ (show 19 ≠ 18 by decide), rr_n _ _ (show 20 ≠ 18 by decide)]; exact I
theorem p_fr_rr {cs : List Nat} {fs : List (Nat × Nat)} (f : p_fr cs fs h h') : p_fr (18 :: cs) fs h (rr h' r) := fun b j hb hj => by
  have h1 : b ≠ 18 ∧ cs.contains b = false := by
    rw [List.contains_cons, Bool.or_eq_false_iff] at hb
    exact ⟨fun z => by rw [z] at hb; exact absurd hb.1 (by decide), hb.2⟩
  rw [rr_n _ _ h1.1]; exact f b j h1.2 hj
/-- behind a door that ends a run -/
theorem h_end {e v : Int} (E : h 17 14 ≠ 0) (I : IOR ky G h) (M : ∀ a, 16 ≤ a → a < 17000 → r a = G.1 a) (p : Nat) (hp : p < 32768) (hw : h 13 p = -7416) (kk : Nat) (hk : kk = 32000 ∧ e = 0 ∨ kk = 32004 ∧ e = 3 ∧ v = d) : ∃ hf, HF L n h ((p : Int), (kk : Int), d, r) e hf ∧ hEnd ky h e v G hf := by
  rcases hk with ⟨rfl, rfl⟩ | ⟨rfl, rfl, rfl⟩
  · have Q := c_dwr (L := L) (n := n) (d := d) (r := r) E hp (by decide) (by decide) hw (fun _ => d_halt d)
    refine ⟨rr (am_up (am_up h 17 12 0) 17 14 0) r, fun rx => ⟨(Q rx).2 _ ?_, fun k => by rw [rr_18]; exact rx.2.2 k⟩, p_fr_rr (((p_fr.refl h).upf _ _ _ rfl).upf _ _ _ rfl), ((I.up 12 _ (by omega)).up 14 _ (by omega)).rr r, ?_, ?_, fun z => (by cases z), fun _ => ?_, fun a h1 h2 => by rw [rr_18]; exact M a h1 h2⟩
    · have := h_stop (L := L) (n := n) (h := am_up (am_up h 17 12 0) 17 14 0) (a := ((32000 : Nat) : Int)) (d := d) (r := r) (p := (p : Int) + 1) (p_up_s _ _ _ _)
      rw [p_up_n _ _ _ _ _ _ (Or.inr (show 12 ≠ 14 by decide)), p_up_s] at this
      exact this
    · rw [rr_n _ _ (by decide), p_up_n _ _ _ _ _ _ (Or.inr (by decide)), p_up_s]
    · rw [rr_n _ _ (by decide), p_up_s]
    · rw [rr_n _ _ (by decide), p_up_n _ _ _ _ _ _ (Or.inr (by decide)), p_up_n _ _ _ _ _ _ (Or.inr (by decide))]
  · have Q := c_dwr (L := L) (n := n) (d := v) (r := r) E hp (by decide) (by decide) hw (fun _ => d_err v)
    refine ⟨rr (am_up (am_up (am_up h 17 13 v) 17 12 3) 17 14 0) r, fun rx => ⟨(Q rx).2 _ ?_, fun k => by rw [rr_18]; exact rx.2.2 k⟩, p_fr_rr ((((p_fr.refl h).upf _ _ _ rfl).upf _ _ _ rfl).upf _ _ _ rfl), (((I.up 13 _ (by omega)).up 12 _ (by omega)).up 14 _ (by omega)).rr r, ?_, ?_, fun _ => ?_, fun z => absurd rfl z, fun a h1 h2 => by rw [rr_18]; exact M a h1 h2⟩
    · have := h_stop (L := L) (n := n) (h := am_up (am_up (am_up h 17 13 v) 17 12 3) 17 14 0) (a := ((32004 : Nat) : Int)) (d := v) (r := r) (p := (p : Int) + 1) (p_up_s _ _ _ _)
      rw [p_up_n _ _ _ _ _ _ (Or.inr (show 12 ≠ 14 by decide)), p_up_s] at this
      exact this
    · rw [rr_n _ _ (by decide), p_up_n _ _ _ _ _ _ (Or.inr (by decide)), p_up_s]
    · rw [rr_n _ _ (by decide), p_up_s]
    · rw [rr_n _ _ (by decide), p_up_n _ _ _ _ _ _ (Or.inr (by decide)), p_up_n _ _ _ _ _ _ (Or.inr (by decide)), p_up_s]
/-- an address that may not be used -/
theorem r_bad (S : cmw h 6 shL) (E : h 17 14 ≠ 0) (I : IOR ky G h) (M : ∀ a, 16 ≤ a → a < 17000 → r a = G.1 a) : ∃ hf, HF L n h (((156 : Nat) : Int), a, d, r) 3 hf ∧ hEnd ky h 3 20 G hf := by
  have m := S.sub 153 [-7416] rfl 0 _ rfl
  obtain ⟨hf, H, e⟩ := h_end (L := L) (n := n) (d := 20) (v := 20) (e := 3) E I M 159 m.2.1 m.1 32004 (Or.inr ⟨rfl, rfl, rfl⟩)
  have A : QS L n h [((20 : Nat) : Int), -5104, ((32004 : Nat) : Int)] (a, d, r) (((32004 : Nat) : Int), ((20 : Nat) : Int), r) := (q_at _ (by decide) (by decide)).cons (q_DeA.cons (q_at _ (by decide) (by decide)) (List.cons_ne_nil _ _)) (List.cons_ne_nil _ _)
  exact ⟨hf, HQ.fin (A 156 (S.sub 150 _ rfl).cd E).hq E m.2 H, e⟩
theorem VX.mem (X : VX r ab lb (as, ls, th, tm, st, G)) (k : Nat) (h1 : 16 ≤ k) (h2 : k < 17000) (v : Int) : VX (p_set r k v) ab lb (as, ls, th, tm, st, (p_set G.1 k v, G.2)) ∧ KP r (p_set r k v) ab as.length lb := by
  obtain ⟨⟨x1, x2, x3⟩, x4, x5, x6, x7, x8, x9, x10, x11, x12⟩ := X
  dsimp only at *
  have s : ∀ j, j ≠ k → p_set r k v j = r j := fun j hj => p_set_n _ _ _ _ hj
  refine ⟨⟨⟨by rw [s 0 (by omega)]; exact x1, by rw [s 1 (by omega)]; exact x2, by rw [s 2 (by omega)]; exact x3⟩, x4.fr (fun j h1 _ => s j (by omega)), x5.fr (fun j h1 _ => s j (by omega)), x6.fr (fun j h1 _ => s j (by omega)), fun w hw => by rw [s 3 (by omega)]; exact x7 w hw, fun w hw => by rw [s 5 (by omega)]; exact x8 w hw, fun j h1 h2 => ?_, x10, x11, x12⟩, fun j hj => s j (by omega)⟩
  show p_set r k v j = p_set G.1 k v j
  by_cases z : j = k
  · rw [z, p_set_s, p_set_s]
  · rw [s j z, p_set_n _ _ _ _ z]; exact x9 j h1 h2
/-- what a write gives -/
def wGo (L n : Nat) (ky : List Int) (ab lb : Nat) (as ls : List Int) (th tm : Option Int) (st : List Int) (h : am_H) (x : hX) (r : Nat → Int) (q : Nat) (o : vO) (k : vG → Option vO) : Prop :=
  (∃ G' h' a2 d2 r2, k G' = some o ∧ HQ L n h x h' ((q : Int), a2, d2, r2) ∧ VX r2 ab lb (as, ls, th, tm, st, G') ∧ KP r r2 ab as.length lb ∧ IOR ky G' h' ∧ p_fr ioC ioF h h')
  ∨ ∃ e v G' hf, o = (.inr (e, v), G') ∧ HF L n h x e hf ∧ hEnd ky h e v G' hf
/-- a value into a place, anywhere -/
theorem r_wraw {q : Nat} {x v : Int} {o : vO} {k : vG → Option vO} (S : cmw h 6 shL) (E : h 17 14 ≠ 0) (I : IOR ky G h) (X : VX r ab lb (as, ls, th, some v, x :: st, G)) (h15 : r 15 = (q : Int)) (hq : q < 32768) (rx : rg16 x) (H : v_wr x v G k = some o) : wGo L n ky ab lb as ls th (some v) st h (((216 : Nat) : Int), a, d, r) r q o k := by
  have A := l_popk (L := L) (n := n) (h := h) (a := a) (d := d) 13 (by decide) X
  obtain ⟨e1, e2, X2, K2⟩ := X.pop
  have X3 := X2.low 13 x (by omega)
  have K3 := K2.trans (KP.low (as := as) (lb := lb) 13 x (by omega) X.2.2.2.2.2.2.2.1)
  have h15' : p_set (p_set r 0 ((lb + ls.length + st.length : Nat) : Int)) 13 x 15 = (q : Int) := by rw [p_set_n _ _ _ _ (by decide), p_set_n _ _ _ _ (by decide)]; exact h15
  have h13' : p_set (p_set r 0 ((lb + ls.length + st.length : Nat) : Int)) 13 x 13 = x := p_set_s _ _ _
  generalize er : p_set (p_set r 0 ((lb + ls.length + st.length : Nat) : Int)) 13 x = r3 at *
  obtain ⟨⟨x1, x2, x3⟩, x4, x5, x6, x7, x8, x9, x10, x11, x12⟩ := id X3
  have t5 : QS L n h (wTake ((5 : Nat) : Int)) (((13 : Nat) : Int), x, r3) _ := q_take 5 (by decide)
  rw [x8 v rfl] at t5
  have t13 : QS L n h [-992] (((13 : Nat) : Int), v, r3) _ := q_AeM (by decide)
  rw [h13'] at t13
  have B := A.app (t5.app ((q_at ((13 : Nat) : Int) (by decide) (by decide)).cons t13 (List.cons_ne_nil _ _)) (List.cons_ne_nil _ _) (List.cons_ne_nil _ _)) (by simp [wPop]) (by simp [wTake])
  have c := S.sub 210 (wPop ++ wKeep ((13 : Nat) : Int) ++ (wTake ((5 : Nat) : Int) ++ [((13 : Nat) : Int), -992])) rfl
  have m1 := S.sub 219 [-7416] rfl 0 _ rfl
  have m2 := S.sub 220 [15] rfl 0 _ rfl
  have B := (B 216 c.cd E).hq
  unfold v_wr at H
  by_cases c1 : 16 ≤ x ∧ x < 17000
  · rw [if_pos c1] at H
    have e : x = (x.toNat : Int) := by omega
    have Q := c_MeD (L := L) (n := n) (d := v) (r := r3) (k := x.toNat) E (by omega) m1.2.1 m1.1
    rw [← e] at Q
    obtain ⟨X4, K4⟩ := X3.mem x.toNat (by omega) (by omega) v
    have C := r_come (L := L) (n := n) (a := x) (d := v) (r := p_set r3 x.toNat v) (S.sub 220 _ rfl) E (by rw [p_set_n _ _ _ _ (by omega)]; exact h15') hq
    exact Or.inl ⟨_, h, _, _, _, H, B.then E m1.2 (HQ.then (p := 226) Q.hq E m2.2 C.hq), X4, K3.trans K4, I, p_fr.refl h⟩
  · rw [if_neg c1] at H
    by_cases c2 : x = 32001
    · rw [if_pos c2] at H
      obtain ⟨h', e1, e2, e3⟩ := d_write (L := L) (n := n) (r := r3) I v
      have Q := c_dwr (L := L) (n := n) (d := v) (r := r3) E m1.2.1 (by decide) (by decide) m1.1 (fun _ => e1)
      rw [show ((32001 : Nat) : Int) = x from c2.symm] at Q
      have C := r_come (L := L) (n := n) (a := x) (d := v) (r := r3) ((S.sub 220 _ rfl).fr e3) (E_fr E e3) h15' hq
      exact Or.inl ⟨_, h', _, _, _, H, B.then E m1.2 (HQ.then (p := 226) Q (E_fr E e3) ⟨m2.2.1, by rw [e3.cell 16 rfl rfl]; exact m2.2.2⟩ C.hq), X3.g rfl, K3, e2, e3⟩
    · rw [if_neg c2] at H
      by_cases c3 : x = 32000
      · rw [if_pos c3] at H; cases H
        obtain ⟨hf, F, e⟩ := h_end (L := L) (n := n) (d := v) (v := 0) (e := 0) E I x9 225 m1.2.1 m1.1 32000 (Or.inl ⟨rfl, rfl⟩)
        rw [show ((32000 : Nat) : Int) = x from c3.symm] at F
        exact Or.inr ⟨_, _, _, hf, rfl, B.fin E m1.2 F, e⟩
      · rw [if_neg c3] at H
        by_cases c4 : x = 32004
        · rw [if_pos c4] at H; cases H
          obtain ⟨hf, F, e⟩ := h_end (L := L) (n := n) (d := v) (v := v) (e := 3) E I x9 225 m1.2.1 m1.1 32004 (Or.inr ⟨rfl, rfl, rfl⟩)
          rw [show ((32004 : Nat) : Int) = x from c4.symm] at F
          exact Or.inr ⟨_, _, _, hf, rfl, B.fin E m1.2 F, e⟩
        · rw [if_neg c4] at H; cases H
/-- a value for an address that is looked at -/
theorem r_get {q : Nat} {x : Int} {o : vO} {k : Int → vG → Option vO} (S : cmw h 6 shL) (E : h 17 14 ≠ 0) (I : IOR ky G h) (X : VX r ab lb (as, ls, th, tm, x :: st, G)) (h15 : r 15 = (q : Int)) (hq : q < 32768) (rx : rg16 x) (H : v_rc x G k = some o) : (∃ v G' h' a2 d2 r2, k v G' = some o ∧ HQ L n h (((160 : Nat) : Int), a, d, r) h' ((q : Int), a2, d2, r2) ∧ VX r2 ab lb (as, ls, th, tm, v :: st, G') ∧ KP r r2 ab as.length lb ∧ IOR ky G' h' ∧ p_fr ioC ioF h h') ∨ ∃ e v G' hf, o = (.inr (e, v), G') ∧ HF L n h (((160 : Nat) : Int), a, d, r) e hf ∧ hEnd ky h e v G' hf := by
  obtain ⟨a2, d2, Q⟩ := r_look (L := L) (n := n) (a := a) (d := d) (t := 183) (by decide) (S.sub 154 _ rfl) E X rx
  unfold v_rc at H
  by_cases c : v_pl x
  · rw [if_pos c] at H Q
    have H' : v_rd ky x G k = some o := by
      unfold v_rd; rw [if_pos (by rcases c with c | c <;> omega)]; exact H
    obtain ⟨v, G', h', d3, r2, e1, B, X2, K2, I2, f⟩ := r_raw (L := L) (n := n) (a := a2) (d := d2) S E I X h15 hq H'
    exact Or.inl ⟨v, G', h', _, d3, r2, e1, Q.hq.then E (S.sub 177 [0] rfl 0 _ rfl).2 B, X2, K2, I2, f⟩
  · rw [if_neg c] at H Q
    cases H
    obtain ⟨hf, F, e⟩ := r_bad (L := L) (n := n) (a := a2) (d := d2) S E I X.2.2.2.2.2.2.1
    exact Or.inr ⟨_, _, _, hf, rfl, Q.hq.fin E (S.sub 150 [20] rfl 0 _ rfl).2 F, e⟩
theorem r_set {q : Nat} {x v : Int} {o : vO} {k : vG → Option vO} (S : cmw h 6 shL) (E : h 17 14 ≠ 0) (I : IOR ky G h) (X : VX r ab lb (as, ls, th, some v, x :: st, G)) (h15 : r 15 = (q : Int)) (hq : q < 32768) (rx : rg16 x) (H : v_wc x v G k = some o) : wGo L n ky ab lb as ls th (some v) st h (((193 : Nat) : Int), a, d, r) r q o k := by
  obtain ⟨a2, d2, Q⟩ := r_look (L := L) (n := n) (a := a) (d := d) (t := 216) (by decide) (S.sub 187 _ rfl) E X rx
  unfold v_wc at H
  by_cases c : v_pl x
  · rw [if_pos c] at H Q
    have H' : v_wr x v G k = some o := by
      unfold v_wr; rw [if_pos (by rcases c with c | c <;> omega)]; exact H
    rcases r_wraw (L := L) (n := n) (a := a2) (d := d2) S E I X h15 hq rx H' with ⟨G', h', a3, d3, r2, e1, B, X2, K2, I2, f⟩ | ⟨e, v, G', hf, e1, F, e2⟩
    · exact Or.inl ⟨G', h', a3, d3, r2, e1, Q.hq.then E (S.sub 210 [0] rfl 0 _ rfl).2 B, X2, K2, I2, f⟩
    · exact Or.inr ⟨e, v, G', hf, e1, Q.hq.fin E (S.sub 210 [0] rfl 0 _ rfl).2 F, e2⟩
  · rw [if_neg c] at H Q
    cases H
    obtain ⟨hf, F, e⟩ := r_bad (L := L) (n := n) (a := a2) (d := d2) S E I X.2.2.2.2.2.2.1
    exact Or.inr ⟨_, _, _, hf, rfl, Q.hq.fin E (S.sub 150 [20] rfl 0 _ rfl).2 F, e⟩
end
