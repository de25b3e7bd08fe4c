/-! RUN, 22: items of plain lines, on both sides -/
/-- heights -/
def hgt (l : vl) (n : Nat) : Nat := match l.1 with
  | 0 => n + 1
  | 19 => n + 1
  | 15 => n - l.2.2 + 1
  | 4 => n
  | 7 => n
  | 17 => n
  | _ => n - 1
section
variable {ky : List Int} {Γ : vC} {m : Nat} {code rest : List vl} {F : vF} {o : vO}
theorem v_hgt {l : vl} {x : vL} (hl : lin l) (H : vins ky Γ m code F l rest x = some o) : (∃ y, F rest y = some o ∧ y.2.2.2.2.1.length = hgt l x.2.2.2.2.1.length) ∨ ∃ e G', o = (.inr e, G') := by
  obtain ⟨op, sg, k⟩ := l
  obtain ⟨as, ls, th, tm, st, G⟩ := x
  unfold lin at hl
  dsimp only at hl
  match op, hl with
  | 0, _ =>
    match sg with
    | 0 =>
      have H : v_ps m st (k : Int) (fun st => F rest (as, ls, th, tm, st, G)) = some o := H
      obtain ⟨h1, h2⟩ := v_ps_some H; exact Or.inl ⟨_, h2, rfl⟩
    | 1 => obtain ⟨v, -, h2⟩ := v_at_some H; obtain ⟨h1, h2⟩ := v_ps_some h2; exact Or.inl ⟨_, h2, rfl⟩
    | 2 => obtain ⟨v, -, h2⟩ := v_at_some H; obtain ⟨h1, h2⟩ := v_ps_some h2; exact Or.inl ⟨_, h2, rfl⟩
    | 3 =>
      have H : v_ps m st (G.1 (16 + k)) (fun st => F rest (as, ls, th, tm, st, G)) = some o := H
      obtain ⟨h1, h2⟩ := v_ps_some H; exact Or.inl ⟨_, h2, rfl⟩
    | 4 => obtain ⟨v, -, h2⟩ := v_o_some H; obtain ⟨h1, h2⟩ := v_ps_some h2; exact Or.inl ⟨_, h2, rfl⟩
    | _ + 5 => cases H
  | 1, _ =>
    obtain ⟨v, s, rfl, H⟩ := v_p1_some H
    match sg with
    | 0 => cases H
    | 1 => obtain ⟨-, h2⟩ := v_c_some H; exact Or.inl ⟨_, h2, rfl⟩
    | 2 => obtain ⟨-, h2⟩ := v_c_some H; exact Or.inl ⟨_, h2, rfl⟩
    | 3 => exact Or.inl ⟨_, H, rfl⟩
    | 4 => exact Or.inl ⟨_, H, rfl⟩
    | 5 => exact Or.inl ⟨_, H, rfl⟩
    | _ + 6 => cases H
  | 2, _ => obtain ⟨x, y, s, rfl, H⟩ := v_p2_some H; exact Or.inl ⟨_, H, rfl⟩
  | 3, _ => obtain ⟨x, y, s, rfl, H⟩ := v_p2_some H; exact Or.inl ⟨_, H, rfl⟩
  | 4, _ => obtain ⟨x, s, rfl, H⟩ := v_p1_some H; exact Or.inl ⟨_, H, rfl⟩
  | 5, _ => obtain ⟨x, y, s, rfl, H⟩ := v_p2_some H; exact Or.inl ⟨_, H, rfl⟩
  | 6, _ => obtain ⟨x, y, s, rfl, H⟩ := v_p2_some H; exact Or.inl ⟨_, H, rfl⟩
  | 7, _ => obtain ⟨x, s, rfl, H⟩ := v_p1_some H; exact Or.inl ⟨_, H, rfl⟩
  | 8, _ => obtain ⟨x, y, s, rfl, H⟩ := v_p2_some H; exact Or.inl ⟨_, H, rfl⟩
  | 9, _ => obtain ⟨x, y, s, rfl, H⟩ := v_p2_some H; exact Or.inl ⟨_, H, rfl⟩
  | 10, _ => obtain ⟨x, y, s, rfl, H⟩ := v_p2_some H; exact Or.inl ⟨_, H, rfl⟩
  | 15, _ =>
    obtain ⟨-, H2⟩ := v_c_some H
    cases c : Γ sg (st.take k).reverse G with
    | none => dsimp only at H2; rw [c] at H2; cases H2
    | some og =>
      dsimp only at H2
      rw [c] at H2
      obtain ⟨v | e, G'⟩ := og
      · have H2 : v_ps m (st.drop k) v (fun st => F rest (as, ls, th, none, st, G')) = some o := H2
        obtain ⟨h1, h2⟩ := v_ps_some H2
        refine Or.inl ⟨_, h2, ?_⟩
        show (st.drop k).length + 1 = st.length - k + 1
        rw [List.length_drop]
      · exact Or.inr ⟨e, G', (Option.some.inj H2).symm⟩
  | 17, _ =>
    obtain ⟨x, s, rfl, H2⟩ := v_p1_some H
    match sg with
    | 0 =>
      have H2 : v_rd ky x G (fun v G => F rest (as, ls, th, tm, v :: s, G)) = some o := H2
      unfold v_rd at H2
      split at H2
      · exact Or.inl ⟨_, H2, rfl⟩
      · split at H2
        · split at H2
          · exact Or.inl ⟨_, H2, rfl⟩
          · exact Or.inl ⟨_, H2, rfl⟩
        · split at H2
          · exact Or.inl ⟨_, H2, rfl⟩
          · split at H2
            · exact Or.inl ⟨_, H2, rfl⟩
            · cases H2
    | _ + 1 =>
      have H2 : v_rc x G (fun v G => F rest (as, ls, th, tm, v :: s, G)) = some o := H2
      unfold v_rc at H2
      split at H2
      · exact Or.inl ⟨_, H2, rfl⟩
      · exact Or.inr ⟨_, _, (Option.some.inj H2).symm⟩
  | 18, _ =>
    obtain ⟨x, s, rfl, H2⟩ := v_p1_some H
    obtain ⟨v, rfl, H3⟩ := v_o_some H2
    match sg with
    | 0 =>
      have H3 : v_wr x v G (fun G => F rest (as, ls, th, some v, s, G)) = some o := H3
      unfold v_wr at H3
      split at H3
      · exact Or.inl ⟨_, H3, rfl⟩
      · split at H3
        · exact Or.inl ⟨_, H3, rfl⟩
        · split at H3
          · exact Or.inr ⟨_, _, (Option.some.inj H3).symm⟩
          · split at H3
            · exact Or.inr ⟨_, _, (Option.some.inj H3).symm⟩
            · cases H3
    | _ + 1 =>
      have H3 : v_wc x v G (fun G => F rest (as, ls, th, some v, s, G)) = some o := H3
      unfold v_wc at H3
      split at H3
      · exact Or.inl ⟨_, H3, rfl⟩
      · exact Or.inr ⟨_, _, (Option.some.inj H3).symm⟩
  | 19, _ => obtain ⟨v, -, h2⟩ := v_o_some H; obtain ⟨h1, h2⟩ := v_ps_some h2; exact Or.inl ⟨_, h2, rfl⟩
  | 11, hl => omega
  | 12, hl => omega
  | 13, hl => omega
  | 14, hl => omega
  | 16, hl => omega
  | _ + 20, hl => omega
def hgts (vs : List vl) (n : Nat) : Nat := vs.foldl (fun n l => hgt l n) n
theorem v_hgts {K : vL → Option vO} : ∀ {vs : List vl} {x : vL}, (∀ l ∈ vs, lin l) → vseq ky Γ m vs x K = some o → (∃ y, K y = some o ∧ y.2.2.2.2.1.length = hgts vs x.2.2.2.2.1.length) ∨ ∃ e G', o = (.inr e, G')
  | [], x, _, H => Or.inl ⟨x, H, rfl⟩
  | l :: vs, x, hl, H => by
    rcases v_hgt (hl l (List.mem_cons_self ..)) H with ⟨y, h1, h2⟩ | z
    · rcases v_hgts (fun v hv => hl v (List.mem_cons_of_mem _ hv)) h1 with ⟨y2, h3, h4⟩ | z
      · exact Or.inl ⟨y2, h3, by rw [h4, h2]; rfl⟩
      · exact Or.inr z
    · exact Or.inr z
end
theorem VI.hgt {ky : List Int} {vs : List vl} {x y : vL} (hl : ∀ l ∈ vs, lin l) (V : VI ky vs x (.inl y)) : y.2.2.2.2.1.length = hgts vs x.2.2.2.2.1.length := by
  classical
  have H := V (fun y2 => if y2 = y then some (.inl 0, x.2.2.2.2.2) else none)
  dsimp only at H
  rw [if_pos rfl] at H
  rcases v_hgts hl H with ⟨y2, h1, h2⟩ | ⟨e, G', z⟩
  · by_cases q : y2 = y
    · rw [← q]; exact h2
    · rw [if_neg q] at h1; cases h1
  · cases z
section
variable {ky : List Int} {lab fs gv : Nat → Nat} {h0 g0 : am_H} {at' : Nat → Nat × List Nat} {P : Nat → Int} {fr : Nat → Prop} {wp : Nat → Nat} {w0 N : Nat} {h g : am_H} {r : Nat → Int} {ab k : Nat} {s rk : Nat} {as ls : List Int} {th : Option Int} {st : List Int} {rs : List uF} {G : vG} {L n d : Nat} {q q2 : Nat × Nat} {a dd : Int} {vs : List vl}
/-- an item within a frame -/
theorem u_simple (U : UR ky lab fs h0 g0 at' P fr wp w0 N h g r ab k (s, as, ls, th, st, rk) rs G) (R : hrg ((q.1 : Int), a, dd, r)) (hl : ∀ v ∈ vs, lin v) (Y : LU h lab fs gv 1 q vs) (hq : q2 = lfold q vs) (J : JT ky L d g k s rk as ls th st rs G vs) (hs : st.length ≤ 352) (hk : k + 1 < N) (h281 : g0 281 (k + 1) = (s : Int)) (ha : (at' (k + 1)).1 = hgts vs st.length ∧ (at' (k + 1)).2 = (at' k).2) (hfr : fr (k + 1) → fr k) (hfr2 : ∀ z, VI ky vs (as, ls, th, none, st, G) (.inr z) → fr k) (hlen : (at' k).2.length ≤ 30)
    (next : ∀ (h' g' : am_H) (a2 d2 : Int) (r2 : Nat → Int) (q' : uF) (G' : vG), UR ky lab fs h0 g0 at' P fr wp w0 N h' g' r2 ab (k + 1) q' rs G' → g' 254 96 = g 254 96 → hrg ((q2.1 : Int), a2, d2, r2) → GOAL ky L n d h0 g0 h' g' q2.2 ((q2.1 : Int), a2, d2, r2)) : GOAL ky L n d h0 g0 h g q.2 ((q.1 : Int), a, dd, r) := by
  obtain ⟨⟨hi, C, I⟩, ⟨M, B⟩, ⟨⟨e8, e9, e10, e11⟩, es, e13, e100⟩, ⟨W, e95, pl, frs⟩, ⟨⟨k1, k2, k3, k4⟩, ht⟩, f0, f1⟩ := U
  obtain ⟨res, g', V, D, J⟩ := J
  have e99 : g 254 99 = -1 := M.2.2.1.2.2.2
  have wb : 0 ≤ g 254 95 ∧ g 254 95 ≤ 1200 := by
    have := W.2.1
    rw [e95]; omega
  have gf : p_fr mcC mcF g g' := J.1.mono rfl rfl
  have g317 : g' 317 = g 317 := J.1.cell 317 rfl rfl
  have g318 : g' 318 = g 318 := J.1.cell 318 rfl rfl
  have g95 : g' 254 95 = g 254 95 := J.1 254 95 rfl rfl
  have g74 : g' 254 74 = g 254 74 := J.1 254 74 rfl rfl
  have wt : ∀ w, wtop g' w = wtop g w := fun w => by unfold wtop; rw [g318, g74]
  -- the way on
  have on : ∀ (y : vL) (h' : am_H) (a2 d2 : Int) (r2 : Nat → Int), res = .inl y → hrg ((q2.1 : Int), a2, d2, r2) → CU r2 wp w0 ab (s, y.1, y.2.1, y.2.2.1, y.2.2.2.2.1, rk) rs y.2.2.2.2.2 → IOR ky y.2.2.2.2.2 h' → p_fr ioC ioF h h' → GOAL ky L n d h0 g0 h' g' q2.2 ((q2.1 : Int), a2, d2, r2) := by
    intro y h' a2 d2 r2 ey R2 C2 I2 f
    subst ey
    obtain ⟨J1, M2, J100⟩ := J
    have hh := V.hgt hl
    have c267 : ∀ c, c = 267 ∨ c = 268 → g' c = g c := fun c hc => by rcases hc with rfl | rfl <;> exact J1.cell _ rfl rfl
    refine next h' g' a2 d2 r2 (s, y.1, y.2.1, y.2.2.1, y.2.2.2.2.1, rk) y.2.2.2.2.2 ⟨⟨hi.fr f, C2, I2⟩, ⟨M2, MB.fr c267 (fs := (s, as, ls, th, st, rk) :: rs) B⟩, ⟨⟨?_, ?_, ?_, ?_⟩, ?_, ?_, ?_⟩, ⟨?_, ?_, fun j hj => ?_, fun z => ?_⟩, ⟨⟨hk, h281, ?_, k4⟩, ht⟩, f0.trans (f.mono rfl rfl), f1.trans gf⟩ (J1 254 96 rfl rfl) R2
    · rw [f 17 8 rfl rfl, J1 254 96 rfl rfl]; exact e8
    · rw [f 17 9 rfl rfl, J1 254 97 rfl rfl]; exact e9
    · rw [f 17 10 rfl rfl, J1 254 88 rfl rfl]; exact e10
    · rw [f 17 11 rfl rfl, J1 254 89 rfl rfl]; exact e11
    · rw [J1 254 96 rfl rfl, J1 254 97 rfl rfl]; exact es
    · rw [f 17 13 rfl rfl]; exact e13
    · rw [J100]; exact e100
    · have W2 : WS g' at' P k ((s, as, ls, th, st, rk) :: rs) := WS_fr (fun j _ => by rw [g317]) (fun j _ => by rw [g318]) W (by rw [List.length_cons]; omega) (fun q' rs' e => by cases e; omega)
      obtain ⟨w1, w2, w3, w4, w5⟩ := W2
      exact ⟨by rw [ha.2]; exact w1, w2, w3, w4, w5⟩
    · rw [g95, g317, ha.2]; exact e95
    · rw [f.cell 21 rfl rfl, wt, g317]; exact pl j hj
    · rw [f.cell 21 rfl rfl, wt, g95]; exact frs (hfr z)
    · rw [ha.1]; exact hh
  cases vs with
  | nil =>
    have ey : res = .inl (as, ls, th, none, st, G) := by
      cases res with
      | inl y =>
        classical
        have H := V (fun y2 => if y2 = y then some (.inl 0, G) else none)
        have H : (if (as, ls, th, none, st, G) = y then some (.inl 0, G) else none) = (if y = y then (some (.inl 0, G) : Option vO) else none) := H
        rw [if_pos rfl] at H
        by_cases z : (as, ls, th, none, st, G) = y
        · rw [z]
        · rw [if_neg z] at H; cases H
      | inr z =>
        have H := V (fun _ => none)
        cases H
    have hq : q2 = q := hq
    rw [hq] at on
    obtain ⟨e, hf, gf', c1, c2, c3⟩ := on _ h a dd r ey R C I (p_fr.refl h)
    exact ⟨e, hf, gf', c1, LPx.step e99 D c2, c3⟩
  | cons l vs =>
    obtain ⟨p1, p2⟩ := c_lin (L := L) (n := n) hl Y hi C I R hs k4 V
    cases hres : res with
    | inl y =>
      obtain ⟨h', a2, d2, r2, c1, c2, c3, c4, c5, c6⟩ := p1 y hres
      have e2 : q2.2 = 0 := by
        rw [hq, (LU_lin hl Y).2.2.2.2.2]
      rw [← hq] at c1 c2
      obtain ⟨e, hf, gf', o1, o2, o3⟩ := on y h' a2 d2 r2 hres c2 c3 c4 c5
      rw [e2] at o1
      exact ⟨e, hf, gf', c1 _ o1, LPx.step e99 D o2, o3⟩
    | inr z =>
      obtain ⟨hf, c1, c2, c3⟩ := p2 z hres
      obtain ⟨x1, x2, x3, x4, x5, x6, x7⟩ := c2
      rw [hres] at J V
      obtain ⟨J1, J2, J3, J4, J5⟩ := J
      refine ⟨z.1.1, hf, g', c1, LPx.step e99 D LPx.refl, z.2, ⟨x2, J2, x7⟩, ⟨x3, x4, J3, J4, ?_⟩, ⟨?_, ?_, ?_⟩, fun ze => ⟨rs.length + 1, ?_, by omega, ?_⟩, by rw [g95]; exact wb, f0.trans (x1.mono rfl rfl), f1.trans gf, c3⟩
      · by_cases z3 : z.1.1 = 3
        · rw [x5 z3, J5, if_pos z3]
        · rw [x6 z3, J5, if_neg z3, e13, e100]
      · rw [x1 17 8 rfl rfl, J1 254 96 rfl rfl]; exact e8
      · rw [x1 17 9 rfl rfl, J1 254 97 rfl rfl]; exact e9
      · rw [x1 17 11 rfl rfl, J1 254 89 rfl rfl]; exact e11
      · rw [x1 17 10 rfl rfl, e10]; exact M.2.2.1.2.1
      · rw [x1.cell 21 rfl rfl, wt, g95]; exact frs (hfr2 z V)
end
