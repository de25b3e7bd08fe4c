/-! TRANSLATOR, 9: settled rows are the layout -/
/-- a row's word when labels are known -/
def rvl (h : am_H) (e : Int × Int × Int) : Int := if e.2.1 < 0 then e.1 else am_s16 (h 15 e.2.1.toNat)
def shT (k : Nat) : Nat := match k with
  | 0 => 6 | 1 => 49 | 2 => 103 | 3 => 124 | 4 => 112 | 5 => 160 | 6 => 193 | 7 => 183 | 8 => 216 | 9 => 156 | 10 => 91 | 11 => 97 | 12 => 134 | 13 => 144 | _ => 148
/-- targets known -/
def TG (h : am_H) (lab fs : Nat → Nat) : Prop := (∀ k, k < 15 → h 15 (1630 + k) = (shT k : Int)) ∧ (∀ a, a < 1500 → h 15 a = (lab a : Int)) ∧ (∀ s, s < 130 → h 15 (1500 + s) = (fs s : Int)) ∧ ∀ a, lab a < 32768 ∧ fs a < 32768
section
variable {h h' : am_H} {lab fs gv : Nat → Nat} {wd : Nat} {q : Nat × Nat} {l : vl}
theorem rvl_rx (ws : List Int) : (rx ws).map (rvl h) = ws := by
  induction ws with
  | nil => rfl
  | cons w ws ih =>
    show rvl h (w, -1, 0) :: (rx ws).map (rvl h) = _
    rw [ih]; rfl
theorem rvl_rt (T : TG h lab fs) {k w : Nat} (hk : k < 15) : (rrt (w : Int) k).map (rvl h) = wRt w (shT k) := by
  have e : rvl h (0, 1630 + (k : Int), 0) = (shT k : Int) := by
    unfold rvl
    rw [if_neg (by dsimp only; omega)]
    dsimp only
    rw [show (1630 + (k : Int)).toNat = 1630 + k by omega, T.1 k hk]
    refine s16_id ⟨by omega, ?_⟩
    unfold shT; split <;> omega
  show [(w : Int) + 6, -5104, 15, -7416, rvl h (0, 1630 + (k : Int), 0), -5497] = _
  rw [e]; rfl
theorem rvl_l (T : TG h lab fs) {a : Nat} (ha : a < 1500) : rvl h (0, (a : Int), 0) = (lab a : Int) := by
  unfold rvl
  rw [if_neg (by dsimp only; omega)]
  dsimp only
  have := (T.2.2.2 a).1
  rw [Int.toNat_natCast, T.2.1 a ha, s16_id ⟨by omega, by omega⟩]
theorem rvl_s (T : TG h lab fs) {a : Nat} (ha : a < 130) : rvl h (0, 1500 + (a : Int), 0) = (fs a : Int) := by
  unfold rvl
  rw [if_neg (by dsimp only; omega)]
  dsimp only
  have := (T.2.2.2 a).2
  rw [show (1500 + (a : Int)).toNat = 1500 + a by omega, T.2.2.1 a ha, s16_id ⟨by omega, by omega⟩]
/-- marks of a line's rows -/
def mk0 (m : Int) : List (Int × Int × Int) → Prop
  | [] => True
  | e :: r => e.2.2 = m ∧ ∀ x ∈ r, x.2.2 = 0
theorem mk0_rx (ws : List Int) : mk0 0 (rx ws) := by
  cases ws with
  | nil => trivial
  | cons w ws =>
    refine ⟨rfl, fun x hx => ?_⟩
    obtain ⟨y, -, rfl⟩ := List.mem_map.1 hx
    rfl
theorem trl_val (T : TG h lab fs) {w pd : Nat} (hwd : wd ≤ 1) (G : lgo gv pd l) (n20 : l.1 ≠ 20) (n11 : l.1 ≠ 11) (n14 : l.1 ≠ 14) : (trl (w : Int) (wd : Int) l).map (rvl h) = lw lab fs w l ∧ mk0 (if l.1 = 16 ∧ wd = 1 then 2 else 0) (trl (w : Int) (wd : Int) l) := by
  obtain ⟨⟨g1, g2, g3, g4⟩, g5, g6, g7, g8, g9, g10, g11⟩ := G
  obtain ⟨op, sg, b⟩ := l
  dsimp only at *
  have rr : ∀ ws, (rx ws).map (rvl h) = ws ∧ mk0 (if op = 16 ∧ wd = 1 then 2 else 0) (rx ws) ∨ op = 16 := fun ws => by
    by_cases z : op = 16
    · exact Or.inr z
    · rw [if_neg (fun z' => z z'.1)]; exact Or.inl ⟨rvl_rx ws, mk0_rx ws⟩
  have rt : ∀ k, k < 15 → op ≠ 16 → (rrt (w : Int) k).map (rvl h) = wRt w (shT k) ∧ mk0 (if op = 16 ∧ wd = 1 then 2 else 0) (rrt (w : Int) k) := fun k hk z => by
    refine ⟨rvl_rt T hk, ?_⟩
    rw [if_neg (fun z' => z z'.1)]
    refine ⟨rfl, fun x hx => ?_⟩
    simp only [List.mem_cons, List.not_mem_nil, or_false] at hx
    rcases hx with rfl | rfl | rfl | rfl | rfl <;> rfl
  match op, n20, n11, n14 with
  | 0, _, _, _ =>
    match sg, g2 rfl with
    | 0, _ => exact (rr _).resolve_right (by decide)
    | 1, _ => exact (rr _).resolve_right (by decide)
    | 2, _ => exact (rr _).resolve_right (by decide)
    | 3, _ => exact (rr _).resolve_right (by decide)
    | 4, _ =>
      have : b = 0 := g10 (Or.inl rfl) (by decide)
      subst this
      exact (rr _).resolve_right (by decide)
    | _ + 5, z => omega
  | 1, _, _, _ =>
    match sg, g3 rfl with
    | 0, z => omega
    | 1, _ => exact (rr _).resolve_right (by decide)
    | 2, _ => exact (rr _).resolve_right (by decide)
    | 3, _ => exact (rr _).resolve_right (by decide)
    | 4, _ =>
      have : b = 0 := g10 (Or.inr rfl) (by decide)
      subst this
      exact (rr _).resolve_right (by decide)
    | 5, _ =>
      have : b = 0 := g10 (Or.inr rfl) (by decide)
      subst this
      exact (rr _).resolve_right (by decide)
    | _ + 6, z => omega
  | 2, _, _, _ => exact (rr _).resolve_right (by decide)
  | 3, _, _, _ => exact (rr _).resolve_right (by decide)
  | 4, _, _, _ => exact (rr _).resolve_right (by decide)
  | 5, _, _, _ => exact (rr _).resolve_right (by decide)
  | 6, _, _, _ => exact (rr _).resolve_right (by decide)
  | 7, _, _, _ => exact (rr _).resolve_right (by decide)
  | 8, _, _, _ => exact rt 2 (by decide) (by decide)
  | 9, _, _, _ => exact rt 3 (by decide) (by decide)
  | 10, _, _, _ => exact rt 4 (by decide) (by decide)
  | 12, _, _, _ =>
    refine ⟨?_, ?_⟩
    · show [rvl h (0, (sg : Int), 0), -5497] = [(lab sg : Int), -5497]
      rw [rvl_l T (g7 (by omega))]
    · rw [if_neg (by omega)]
      exact ⟨rfl, fun x hx => by rw [List.mem_singleton] at hx; rw [hx]⟩
  | 13, _, _, _ =>
    refine ⟨?_, ?_⟩
    · show (rx wPop ++ ([(0, (sg : Int), 0)] ++ [(-7419, -1, 0)])).map (rvl h) = wPop ++ [(lab sg : Int), -7419]
      rw [List.map_append, rvl_rx]
      show wPop ++ [rvl h (0, (sg : Int), 0), -7419] = _
      rw [rvl_l T (g7 (by omega))]
    · rw [if_neg (by omega)]
      refine ⟨rfl, fun x hx => ?_⟩
      have hx : x ∈ [((-856 : Int), (-1 : Int), (0 : Int)), (-1008, -1, 0), (0, (sg : Int), 0), (-7419, -1, 0)] := hx
      simp only [List.mem_cons, List.not_mem_nil, or_false] at hx
      rcases hx with rfl | rfl | rfl | rfl <;> rfl
  | 15, _, _, _ =>
    refine ⟨?_, ?_⟩
    · show [(w : Int) + 4, -5104, rvl h (0, 1500 + (sg : Int), 0), -5497] = [((w + 4 : Nat) : Int), -5104] ++ [(fs sg : Int), -5497]
      rw [rvl_s T (g6 rfl)]; rfl
    · rw [if_neg (by omega)]
      refine ⟨rfl, fun x hx => ?_⟩
      simp only [List.mem_cons, List.not_mem_nil, or_false] at hx
      rcases hx with rfl | rfl | rfl <;> rfl
  | 16, _, _, _ =>
    refine ⟨?_, ?_⟩
    · show [rvl h (0, 1631, if (wd : Int) = 0 then 0 else 2), -5497] = [((49 : Nat) : Int), -5497]
      have : rvl h (0, 1631, if (wd : Int) = 0 then 0 else 2) = ((49 : Nat) : Int) := by
        unfold rvl
        rw [if_neg (show ¬ (1631 : Int) < 0 by decide)]
        show am_s16 (h 15 (1630 + 1)) = _
        rw [T.1 1 (by decide)]; decide
      rw [this]
    · refine ⟨?_, fun x hx => by rw [List.mem_singleton] at hx; rw [hx]⟩
      show (if (wd : Int) = 0 then (0 : Int) else 2) = _
      by_cases z : wd = 0
      · rw [if_pos (by omega), if_neg (by omega)]
      · rw [if_neg (by omega), if_pos ⟨rfl, by omega⟩]
  | 17, _, _, _ =>
    have hs : sg ≤ 1 := g9 (by omega)
    match sg, hs with
    | 0, _ => exact rt 7 (by decide) (by decide)
    | 1, _ => exact rt 5 (by decide) (by decide)
    | _ + 2, z => omega
  | 18, _, _, _ =>
    have hs : sg ≤ 1 := g9 (by omega)
    match sg, hs with
    | 0, _ => exact rt 8 (by decide) (by decide)
    | 1, _ => exact rt 6 (by decide) (by decide)
    | _ + 2, z => omega
  | 19, _, _, _ => exact (rr _).resolve_right (by decide)
  | 11, _, z, _ => exact absurd rfl z
  | 14, _, _, z => exact absurd rfl z
  | 20, z, _, _ => exact absurd rfl z
  | _ + 21, _, _, _ => omega
theorem rloc_val : ∀ nl, (rloc nl).map (rvl h) = wLoc nl ∧ ∀ x ∈ rloc nl, x.2.2 = 0
  | 0 => ⟨rfl, fun x hx => (by cases hx)⟩
  | k + 1 => by
    obtain ⟨r1, r2⟩ := rloc_val k
    constructor
    · show (rx ([-5488] ++ wPush) ++ rloc k).map (rvl h) = ([-5488] ++ wPush) ++ wLoc k
      rw [List.map_append, rvl_rx, r1]
    · intro x hx
      rcases List.mem_append.1 hx with z | z
      · obtain ⟨y, -, rfl⟩ := List.mem_map.1 z
        rfl
      · exact r2 x z
theorem rfun_val (T : TG h lab fs) {w an nl : Nat} {m : Int} : (rfun (w : Int) an nl m).map (rvl h) = wFn w an ++ wLoc nl ∧ mk0 m (rfun (w : Int) an nl m) := by
  obtain ⟨r1, r2⟩ := rloc_val (h := h) nl
  constructor
  · unfold rfun
    rw [List.map_cons, List.map_cons, List.map_append, List.map_append, rvl_rx, r1]
    have e6 : rvl h (0, 1630, 0) = 6 := by
      unfold rvl
      rw [if_neg (show ¬ (1630 : Int) < 0 by decide)]
      show am_s16 (h 15 (1630 + 0)) = _
      rw [T.1 0 (by decide)]; decide
    show 15 :: -7416 :: (_ ++ ([rvl h (0, 1630, 0), -5497] ++ wLoc nl)) = _
    rw [e6]
    rfl
  · refine ⟨rfl, fun x hx => ?_⟩
    have hx : x ∈ ((-7416 : Int), (-1 : Int), (0 : Int)) :: (rx ([(an : Int), -5104] ++ wKeep ((13 : Nat) : Int) ++ [(w : Int) + 12, -5104] ++ wKeep ((14 : Nat) : Int)) ++ ([(0, 1630, 0), (-5497, -1, 0)] ++ rloc nl)) := hx
    rcases List.mem_cons.1 hx with rfl | hx
    · rfl
    · rcases List.mem_append.1 hx with z | z
      · obtain ⟨y, -, rfl⟩ := List.mem_map.1 z
        rfl
      · rcases List.mem_append.1 z with z | z
        · simp only [List.mem_cons, List.not_mem_nil, or_false] at z
          rcases z with rfl | rfl <;> rfl
        · exact r2 x z
theorem fmk_val {pd : Nat} {m : Int} {r : List (Int × Int × Int)} (M : mk0 m r) : (fmk pd r).map (rvl h) = r.map (rvl h) ∧ mk0 (if pd ≠ 0 then (pd : Int) else m) (fmk pd r) := by
  cases r with
  | nil => exact ⟨rfl, trivial⟩
  | cons e r =>
    have e1 : fmk pd (e :: r) = if pd = 0 then e :: r else (e.1, e.2.1, (pd : Int)) :: r := rfl
    rw [e1]
    by_cases z : pd = 0
    · rw [if_pos z, if_neg (fun z' => z' z)]; exact ⟨rfl, M⟩
    · rw [if_neg z, if_pos z]; exact ⟨rfl, rfl, M.2⟩
theorem RW_cd {N w : Nat} {rows : List (Int × Int × Int)} {ws : List Int} {m : Int} (R : RW h w rows) (S : ∀ k, k < N → h' 13 k = sttl h k) (e16 : h' 16 = h 16) (hN : w + rows.length ≤ N) (hN2 : N ≤ 32768) (e : rows.map (rvl h) = ws) (M : mk0 m rows) : cd h' w ws ∧ (rows ≠ [] → h' 16 w = m) := by
  subst e
  constructor
  · intro j v hj
    rw [List.getElem?_map] at hj
    cases hr : rows[j]? with
    | none => rw [hr] at hj; cases hj
    | some e =>
      rw [hr] at hj
      cases hj
      have hl := (List.getElem?_eq_some_iff.1 hr).1
      obtain ⟨r1, r2, r3⟩ := R j e hr
      refine ⟨?_, by omega, fun hj => ?_⟩
      · rw [S _ (by omega)]; unfold sttl rvl; rw [r2, r1]
      · rw [e16, r3]
        cases rows with
        | nil => cases hr
        | cons x r =>
          cases j with
          | zero => exact absurd rfl hj
          | succ j => exact M.2 e (List.mem_of_getElem? (show r[j]? = some e from hr))
  · intro hn
    cases rows with
    | nil => exact absurd rfl hn
    | cons x r =>
      have := (R 0 x rfl).2.2
      rw [Nat.add_zero] at this
      rw [e16, this]; exact M.1
theorem rat_lat (T : TG h lab fs) {N : Nat} (hwd : wd ≤ 1) (S : ∀ k, k < N → h' 13 k = sttl h k) (e16 : h' 16 = h 16) (hN2 : N ≤ 32767) (G : lgo gv q.2 l) (R : rat h gv wd q l) (hN : (lstp q l).1 ≤ N) : lat h' lab fs gv wd q l := by
  have oo : RW h q.1 (ownr q.2) → (if q.2 = 0 then q.1 else q.1 + 1) ≤ N → q.2 ≠ 0 → h' 13 q.1 = 0 ∧ h' 16 q.1 = (q.2 : Int) ∧ q.1 < 32768 := by
    intro R hN hq
    rw [if_neg hq] at hN
    unfold ownr at R
    rw [if_neg hq] at R
    obtain ⟨r1, r2, r3⟩ := R 0 _ rfl
    rw [Nat.add_zero] at r1 r2 r3
    refine ⟨?_, by rw [e16, r3], by omega⟩
    rw [S _ (by omega)]; unfold sttl; rw [r2, if_pos (show (-1 : Int) < 0 by decide), r1]
  by_cases n20 : l.1 = 20
  · obtain ⟨op, sg, b⟩ := l
    dsimp only at n20
    subst n20
    exact oo R hN
  · by_cases n11 : l.1 = 11
    · obtain ⟨op, sg, b⟩ := l
      dsimp only at n11
      subst n11
      refine ⟨oo R.1 hN, ?_⟩
      have := R.2
      rw [T.2.1 sg (G.2.2.2.1 (Or.inl rfl))] at this
      exact Int.ofNat.inj this
    · by_cases n14 : l.1 = 14
      · obtain ⟨op, sg, b⟩ := l
        dsimp only at n14
        subst n14
        obtain ⟨y1, y2, y3, y4⟩ := G.2.2.2.2.1 rfl
        dsimp only at y1 y2 y3
        obtain ⟨z1, z2⟩ := rfun_val (h := h) (lab := lab) (fs := fs) T (w := q.1) (an := gv sg) (nl := b) (m := (wd : Int))
        have hN : q.1 + 12 + 5 * b ≤ N := hN
        obtain ⟨c1, c2⟩ := RW_cd R.1 S e16 (by rw [rfun_len]; dsimp only; omega) (by omega) z1 z2
        refine ⟨c1, ?_, ?_⟩
        · rw [c2 (List.cons_ne_nil _ _), if_neg (fun z => z y4)]
        · have := R.2
          rw [T.2.2.1 sg y1] at this
          show fs sg = q.1
          omega
      · have rn := rat_n (h := h) (gv := gv) (wd := wd) (q := q) n20 n11 n14
        rw [rn.1] at R
        rw [rn.2] at hN
        have hN : q.1 + lwn l ≤ N := hN
        obtain ⟨z1, z2⟩ := trl_val (h := h) (w := q.1) (gv := gv) (pd := q.2) T hwd G n20 n11 n14
        obtain ⟨z3, z4⟩ := fmk_val (h := h) (pd := q.2) z2
        obtain ⟨c1, c2⟩ := RW_cd R S e16 (by rw [fmk_len, trl_len n11 n14 (by have := G.1.1; omega)]; exact hN) (by omega) (z3.trans z1) z4
        have ne : fmk q.2 (trl (q.1 : Int) (wd : Int) l) ≠ [] := by
          obtain ⟨e, r, er⟩ := trl_ne (w := (q.1 : Int)) (wd := (wd : Int)) (l := l) (by have := G.1.1; omega)
          rw [er]
          show (if q.2 = 0 then e :: r else (e.1, e.2.1, (q.2 : Int)) :: r) ≠ []
          split <;> exact List.cons_ne_nil _ _
        have c2 := c2 ne
        obtain ⟨op, sg, b⟩ := l
        dsimp only at n20 n11 n14
        unfold lat
        dsimp only
        split
        · exact absurd rfl n20
        · exact absurd rfl n11
        · exact absurd rfl n14
        · exact ⟨c1, c2⟩
theorem UL_LU (T : TG h lab fs) {N : Nat} (hwd : wd ≤ 1) (S : ∀ k, k < N → h' 13 k = sttl h k) (e16 : h' 16 = h 16) (hN2 : N ≤ 32767) : ∀ {vs : List vl} {q : Nat × Nat}, LGo gv q.2 vs → UL h gv wd q vs → (lfold q vs).1 ≤ N → LU h' lab fs gv wd q vs
  | [], _, _, _, _ => trivial
  | l :: vs, q, ⟨G, GG⟩, ⟨R, RR⟩, hN => by
    have hN1 : (lstp q l).1 ≤ N := Nat.le_trans (lfold_le (vs := vs) (q := lstp q l)) hN
    refine ⟨rat_lat T hwd S e16 hN2 G R hN1, ⟨by have := G.2.1.1; omega, G.2.2.2.2.2.2.2, fun _ => by have := G.1.2.2.2; omega⟩, by omega, UL_LU T hwd S e16 hN2 (by rw [lstp_npd]; exact GG) RR hN⟩
end
