/-! TRANSLATOR, 8: the loop over lines -/
def RW (h : am_H) (w : Nat) (rows : List (Int × Int × Int)) : Prop := ∀ j e, rows[j]? = some e → h 13 (w + j) = e.1 ∧ h 14 (w + j) = e.2.1 ∧ h 16 (w + j) = e.2.2
def ownr (pd : Nat) : List (Int × Int × Int) := if pd = 0 then [] else [(0, -1, (pd : Int))]
def rat (h : am_H) (gv : Nat → Nat) (wd : Nat) (q : Nat × Nat) (l : vl) : Prop := match l.1 with
  | 20 => RW h q.1 (ownr q.2)
  | 11 => RW h q.1 (ownr q.2) ∧ h 15 l.2.1 = ((lstp q l).1 : Int)
  | 14 => RW h q.1 (rfun (q.1 : Int) (gv l.2.1) l.2.2 (wd : Int)) ∧ h 15 (1500 + l.2.1) = (q.1 : Int)
  | _ => RW h q.1 (fmk q.2 (trl (q.1 : Int) (wd : Int) l))
def UL (h : am_H) (gv : Nat → Nat) (wd : Nat) : Nat × Nat → List vl → Prop
  | _, [] => True
  | q, l :: r => rat h gv wd q l ∧ UL h gv wd (lstp q l) r
/-- targets that a line sets -/
def tgt (l : vl) : List Nat := if l.1 = 11 then [l.2.1] else if l.1 = 14 then [1500 + l.2.1] else []
def tgts : List vl → List Nat
  | [] => []
  | l :: r => tgt l ++ tgts r
/-- lines that the translator takes -/
def lgo (gv : Nat → Nat) (pd : Nat) (l : vl) : Prop := (l.1 ≤ 20 ∧ (l.1 = 0 → l.2.1 ≤ 4) ∧ (l.1 = 1 → 1 ≤ l.2.1 ∧ l.2.1 ≤ 5) ∧ l.2.1 ≤ 32000) ∧ (l.2.2 ≤ 32767 ∧ (3 ≤ l.2.1 → l.2.2 ≤ 32000)) ∧ (l.1 = 15 → l.2.1 < 130) ∧ (l.1 = 11 ∨ l.1 = 12 ∨ l.1 = 13 → l.2.1 < 1500) ∧ (l.1 = 14 → l.2.1 < 130 ∧ l.2.2 ≤ 100 ∧ gv l.2.1 ≤ 32767 ∧ pd = 0) ∧ (l.1 = 17 ∨ l.1 = 18 → l.2.1 ≤ 1) ∧ (l.1 = 0 ∨ l.1 = 1 → 4 ≤ l.2.1 → l.2.2 = 0) ∧ (l.1 = 0 ∨ l.1 = 1 → l.2.1 = 3 → l.2.2 < 16000)
def npd (l : vl) : Nat := if l.1 = 20 then l.2.1 + 3 else 0
def LGo (gv : Nat → Nat) : Nat → List vl → Prop
  | _, [] => True
  | pd, l :: r => lgo gv pd l ∧ LGo gv (npd l) r
section
variable {L d : Nat} {h h' : am_H} {gv : Nat → Nat} {wd : Nat} {q : Nat × Nat} {l : vl}
theorem lstp_npd : (lstp q l).2 = npd l := by
  obtain ⟨op, sg, k⟩ := l
  unfold lstp npd
  dsimp only
  split
  · exact (if_pos rfl).symm
  · exact (if_neg (show ¬ (11 : Nat) = 20 by decide)).symm
  · exact (if_neg (show ¬ (14 : Nat) = 20 by decide)).symm
  · rename_i z _ _
    exact (if_neg z).symm
theorem lstp_le : q.1 ≤ (lstp q l).1 := by
  obtain ⟨op, sg, k⟩ := l
  unfold lstp
  dsimp only
  split
  · dsimp only; split <;> omega
  · dsimp only; split <;> omega
  · dsimp only; omega
  · dsimp only; omega
theorem lfold_le : ∀ {vs : List vl} {q : Nat × Nat}, q.1 ≤ (lfold q vs).1
  | [], q => Nat.le_refl _
  | l :: r, q => Nat.le_trans lstp_le (lfold_le (vs := r) (q := lstp q l))
theorem rx_len (ws : List Int) : (rx ws).length = ws.length := by unfold rx; rw [List.length_map]
theorem trl_len {w wd : Int} (hl : l.1 ≠ 11) (h4 : l.1 ≠ 14) (h2 : l.1 ≤ 19) : (trl w wd l).length = lwn l := by
  obtain ⟨op, sg, k⟩ := l
  unfold lwn
  dsimp only at hl h4 h2
  match op with
  | 0 => match sg with
    | 0 | 1 | 2 | 3 | _ + 4 => rfl
  | 1 => match sg with
    | 0 | 1 | 2 | 3 | 4 | _ + 5 => rfl
  | 2 | 3 | 4 | 5 | 6 | 7 | 8 | 9 | 10 | 12 | 13 | 15 | 16 | 19 => rfl
  | 11 => exact absurd rfl hl
  | 14 => exact absurd rfl h4
  | 17 =>
    show (if sg = 1 then rrt w 5 else rrt w 7).length = _
    by_cases z : sg = 1
    · rw [if_pos z, z]; rfl
    · rw [if_neg z]
      match sg with
      | 0 | _ + 1 => rfl
  | 18 =>
    show (if sg = 1 then rrt w 6 else rrt w 8).length = _
    by_cases z : sg = 1
    · rw [if_pos z, z]; rfl
    · rw [if_neg z]
      match sg with
      | 0 | _ + 1 => rfl
  | _ + 20 => omega
theorem fmk_len {pd : Nat} {r : List (Int × Int × Int)} : (fmk pd r).length = r.length := by
  cases r with
  | nil => rfl
  | cons e r =>
    show (if pd = 0 then e :: r else (e.1, e.2.1, (pd : Int)) :: r).length = _
    split <;> rfl
theorem rfun_len {w : Int} {an nl : Nat} {wd : Int} : (rfun w an nl wd).length = 12 + 5 * nl := by
  unfold rfun
  rw [List.length_cons, List.length_cons, List.length_append, List.length_append, rloc_len, rx_len]
  show 8 + (2 + 5 * nl) + 1 + 1 = _
  omega
theorem own_len {pd : Nat} : (ownr pd).length = if pd = 0 then 0 else 1 := by
  unfold ownr; split <;> rfl
theorem RW.eq {w : Nat} {rows : List (Int × Int × Int)} (R : RW h w rows) (e : ∀ c k, c = 13 ∨ c = 14 ∨ c = 16 → k < w + rows.length → h' c k = h c k) : RW h' w rows := fun j x hj => by
  have hl := (List.getElem?_eq_some_iff.1 hj).1
  rw [e 13 _ (by omega) (by omega), e 14 _ (by omega) (by omega), e 16 _ (by omega) (by omega)]
  exact R j x hj
theorem rat_n (n20 : l.1 ≠ 20) (n11 : l.1 ≠ 11) (n14 : l.1 ≠ 14) : rat h gv wd q l = RW h q.1 (fmk q.2 (trl (q.1 : Int) (wd : Int) l)) ∧ lstp q l = (q.1 + lwn l, 0) := by
  obtain ⟨op, sg, k⟩ := l
  dsimp only at n20 n11 n14
  unfold rat lstp
  dsimp only
  constructor
  · split
    · exact absurd rfl n20
    · exact absurd rfl n11
    · exact absurd rfl n14
    · rfl
  · split
    · exact absurd rfl n20
    · exact absurd rfl n11
    · exact absurd rfl n14
    · rfl
theorem rat.eq (hl : l.1 ≤ 20) (R : rat h gv wd q l) (e : ∀ c k, c = 13 ∨ c = 14 ∨ c = 16 → k < (lstp q l).1 → h' c k = h c k) (e15 : ∀ a ∈ tgt l, h' 15 a = h 15 a) : rat h' gv wd q l := by
  by_cases n20 : l.1 = 20
  · obtain ⟨op, sg, k⟩ := l
    dsimp only at n20
    subst n20
    refine RW.eq R (fun c k hc hk => e c k hc ?_)
    show k < (if q.2 = 0 then q.1 else q.1 + 1)
    rw [own_len] at hk
    split <;> split at hk <;> omega
  · by_cases n11 : l.1 = 11
    · obtain ⟨op, sg, k⟩ := l
      dsimp only at n11
      subst n11
      refine ⟨RW.eq R.1 (fun c k hc hk => e c k hc ?_), ?_⟩
      · show k < (if q.2 = 0 then q.1 else q.1 + 1)
        rw [own_len] at hk
        split <;> split at hk <;> omega
      · rw [e15 sg (List.mem_singleton.2 rfl)]; exact R.2
    · by_cases n14 : l.1 = 14
      · obtain ⟨op, sg, k⟩ := l
        dsimp only at n14
        subst n14
        refine ⟨RW.eq R.1 (fun c j hc hj => e c j hc ?_), ?_⟩
        · show j < q.1 + 12 + 5 * k
          rw [rfun_len] at hj; dsimp only at hj; omega
        · rw [e15 (1500 + sg) (List.mem_singleton.2 rfl)]; exact R.2
      · have rn := rat_n (h := h) (gv := gv) (wd := wd) (q := q) n20 n11 n14
        rw [rn.1] at R
        rw [(rat_n (h := h') (gv := gv) (wd := wd) (q := q) n20 n11 n14).1]
        refine RW.eq R (fun c k hc hk => e c k hc ?_)
        rw [rn.2]
        rw [fmk_len, trl_len n11 n14 (by omega)] at hk
        exact hk
/-- one turn -/
theorem t_turn {u2 u7 u8 u9 : Option am_V} {k : Nat} (hwd : wd ≤ 1) (hk : k < 9000) (hs : (k : Int) < h 8 3) (e9 : h 9 k = (l.1 : Int)) (e10 : h 10 k = (l.2.1 : Int)) (e11 : h 11 k = (l.2.2 : Int)) (hpd : q.2 ≤ 32767) (G : lgo gv q.2 l) (eg : l.1 = 14 → h 221 l.2.1 + (if h 220 l.2.1 = 3 then 1 else 0) = (gv l.2.1 : Int)) (e12 : h 12 3 = (q.1 : Int)) (h1 : (lstp q l).1 ≤ 32750) : ∃ h' v7 v8 v9, am_E (am_D (d + 5)) m_14_29 (.inl 1) [some (am_r (am_a 12)), some (am_r (am_a 8)), u2, some (am_r (am_a 217)), some (am_i (wd : Int)), some (am_i (q.2 : Int)), some (am_i (k : Int)), u7, u8, u9] [] (zS L, h) = am_E (am_D (d + 5)) m_14_29 (.inl 1) [some (am_r (am_a 12)), some (am_r (am_a 8)), u2, some (am_r (am_a 217)), some (am_i (wd : Int)), some (am_i ((lstp q l).2 : Int)), some (am_i ((k + 1 : Nat) : Int)), v7, v8, v9] [] (zS L, h') ∧ h' 12 3 = ((lstp q l).1 : Int) ∧ rat h' gv wd q l ∧ (∀ c k, c = 13 ∨ c = 14 ∨ c = 16 → k < q.1 → h' c k = h c k) ∧ (∀ a, a ∉ tgt l → h' 15 a = h 15 a) ∧ (∀ j, j ≠ 3 → h' 12 j = h 12 j) ∧ ∀ c, c ≠ 12 → c ≠ 13 → c ≠ 14 → c ≠ 15 → c ≠ 16 → h' c = h c := by
  obtain ⟨⟨g1, g2, g3, g4⟩, g5, g6, g7, g8, g9, g10, g11⟩ := G
  have hq := lstp_le (q := q) (l := l)
  have eN : (h 12 3).toNat = q.1 := by omega
  by_cases n14 : l.1 = 14
  · obtain ⟨op, sg, b⟩ := l
    dsimp only at n14
    subst n14
    obtain ⟨y1, y2, y3, y4⟩ := g8 rfl
    dsimp only at e9 e10 e11 eg y1 y2 y3 g1 g2 g3 g4 g5
    have h1 : q.1 + 12 + 5 * b ≤ 32750 := h1
    obtain ⟨h', v7, v8, v9, r, T⟩ := t_fnl (L := L) (d := d) (u2 := u2) (u7 := u7) (u8 := u8) (u9 := u9) (x4 := (wd : Int)) (by omega) hk hs e9 e10 e11 y1 y2 y3 (eg rfl) (by omega) (by omega)
    obtain ⟨t1, t2, t3, t4, t5⟩ := T
    have z : am_up h 15 (1500 + sg) (h 12 3) 12 = h 12 := p_up_c _ _ _ _ _ (by decide)
    rw [z] at t1 t2 t3 t4
    refine ⟨h', v7, v8, v9, ?_, ?_, ⟨?_, ?_⟩, fun c k hc hk => ?_, fun a ha => ?_, t4, fun c c1 c2 c3 c4 c5 => ?_⟩
    · rw [y4]; exact r
    · rw [t1, rfun_len, e12]; show _ = ((q.1 + 12 + 5 * b : Nat) : Int); omega
    · rw [eN, e12] at t2; exact t2
    · rw [t5 15 (by decide) (by decide) (by decide) (by decide), p_up_s]; exact e12
    · rw [t3 c k hc (by omega), p_up_c _ _ _ _ _ (by omega)]
    · have ha : a ≠ 1500 + sg := fun z => ha (by rw [z]; exact List.mem_singleton.2 rfl)
      rw [t5 15 (by decide) (by decide) (by decide) (by decide), p_up_n _ _ _ _ _ _ (Or.inr ha)]
    · rw [t5 c c1 c2 c3 c5, p_up_c _ _ _ _ _ c4]
  · by_cases n11 : l.1 = 11
    · obtain ⟨g, r, T⟩ := t_pre (L := L) (d := d + 1) (u2 := u2) (u7 := u7) (u8 := u8) (u9 := u9) (x4 := (wd : Int)) hk hs e9 e10 e11 hpd (Or.inl n11) (by omega) (by omega)
      obtain ⟨op, sg, b⟩ := l
      dsimp only at n11
      subst n11
      dsimp only at e9 e10 e11 r
      have n9 : g 9 = h 9 := T.2.2.2.2 9 (by decide) (by decide) (by decide) (by decide)
      obtain ⟨v7, v8, v9, r2⟩ := t_lbl (L := L) (d := d + 1) (h := g) (u2 := u2) (u9 := u9) (x4 := (wd : Int)) (a := sg) (b := b) hk (by rw [n9]; exact e9) (by have := g7 (Or.inl rfl); dsimp only at this; omega)
      obtain ⟨t1, t2, t3, t4, t5⟩ := T
      have t1' : g 12 3 = ((lstp q (11, sg, b)).1 : Int) := by
        show _ = (((if q.2 = 0 then q.1 else q.1 + 1 : Nat)) : Int)
        rw [t1, e12]
        by_cases z : q.2 = 0
        · rw [if_pos z, if_pos z]; show (q.1 : Int) + ((0 : Nat) : Int) = _; omega
        · rw [if_neg z, if_neg z]; show (q.1 : Int) + ((1 : Nat) : Int) = _; omega
      refine ⟨_, v7, v8, v9, r.trans r2, ?_, ⟨?_, ?_⟩, fun c k hc hk => ?_, fun a ha => ?_, fun j hj => ?_, fun c c1 c2 c3 c4 c5 => ?_⟩
      · rw [p_up_c _ _ _ _ _ (by decide)]; exact t1'
      · intro j x hj
        rw [p_up_c _ _ _ _ _ (by decide), p_up_c _ _ _ _ _ (by decide), p_up_c _ _ _ _ _ (by decide), ← eN]
        exact t2 j x hj
      · rw [p_up_s]; exact t1'
      · rw [p_up_c _ _ _ _ _ (by omega)]; exact t3 c k hc (by omega)
      · have ha : a ≠ sg := fun z => ha (by rw [z]; exact List.mem_singleton.2 rfl)
        rw [p_up_n _ _ _ _ _ _ (Or.inr ha), t5 15 (by decide) (by decide) (by decide) (by decide)]
      · rw [p_up_c _ _ _ _ _ (by decide)]; exact t4 j hj
      · rw [p_up_c _ _ _ _ _ c4]; exact t5 c c1 c2 c3 c5
    · by_cases n20 : l.1 = 20
      · obtain ⟨g, r, T⟩ := t_pre (L := L) (d := d + 1) (u2 := u2) (u7 := u7) (u8 := u8) (u9 := u9) (x4 := (wd : Int)) hk hs e9 e10 e11 hpd (Or.inr n20) (by omega) (by omega)
        obtain ⟨op, sg, b⟩ := l
        dsimp only at n20
        subst n20
        dsimp only at e9 e10 e11 r g4
        have n9 : g 9 = h 9 := T.2.2.2.2 9 (by decide) (by decide) (by decide) (by decide)
        obtain ⟨v7, v8, v9, r2⟩ := t_stp (L := L) (d := d + 1) (h := g) (u2 := u2) (u9 := u9) (x4 := (wd : Int)) (a := sg) (b := b) hk (by rw [n9]; exact e9) g4
        obtain ⟨t1, t2, t3, t4, t5⟩ := T
        have t1' : g 12 3 = ((lstp q (20, sg, b)).1 : Int) := by
          show _ = (((if q.2 = 0 then q.1 else q.1 + 1 : Nat)) : Int)
          rw [t1, e12]
          by_cases z : q.2 = 0
          · rw [if_pos z, if_pos z]; show (q.1 : Int) + ((0 : Nat) : Int) = _; omega
          · rw [if_neg z, if_neg z]; show (q.1 : Int) + ((1 : Nat) : Int) = _; omega
        refine ⟨g, v7, v8, v9, r.trans r2, t1', ?_, fun c k hc hk => t3 c k hc (by omega), fun a ha => by rw [t5 15 (by decide) (by decide) (by decide) (by decide)], t4, fun c c1 c2 c3 c4 c5 => t5 c c1 c2 c3 c5⟩
        intro j x hj
        rw [← eN]
        exact t2 j x hj
      · have rn := rat_n (h := h) (gv := gv) (wd := wd) (q := q) n20 n11 n14
        rw [rn.2] at h1 ⊢
        have tl := trl_len (l := l) (w := h 12 3) (wd := (wd : Int)) n11 n14 (by omega)
        have hb12 : h 12 3 + 12 ≤ 32767 := by omega
        obtain ⟨h', v7, v8, v9, r, t1, t2, t3, t4, t5⟩ := t_gen (L := L) (d := d + 1) (u2 := u2) (u7 := u7) (u8 := u8) (u9 := u9) (x4 := (wd : Int)) (pd := q.2) (by omega) hk hs e9 e10 e11 hpd (by omega) g2 g3 g4 g5 g6 (by omega) hb12
        refine ⟨h', v7, v8, v9, r, ?_, ?_, fun c k hc hk => t3 c k hc (by omega), fun a ha => by rw [t5 15 (by decide) (by decide) (by decide) (by decide)], t4, fun c c1 c2 c3 c4 c5 => t5 c c1 c2 c3 c5⟩
        · rw [t1, fmk_len, tl, e12]; dsimp only; omega
        · rw [(rat_n n20 n11 n14).1]
          rw [eN, e12] at t2
          exact t2
/-- the loop -/
theorem t_loop {u2 : Option am_V} (hwd : wd ≤ 1) : ∀ (vs : List vl) {q : Nat × Nat} {k : Nat} {u7 u8 u9 : Option am_V} {h : am_H}, (∀ j l, vs[j]? = some l → h 9 (k + j) = (l.1 : Int) ∧ h 10 (k + j) = (l.2.1 : Int) ∧ h 11 (k + j) = (l.2.2 : Int)) → h 8 3 = ((k + vs.length : Nat) : Int) → k + vs.length ≤ 9000 → LGo gv q.2 vs → (∀ l ∈ vs, l.1 = 14 → h 221 l.2.1 + (if h 220 l.2.1 = 3 then 1 else 0) = (gv l.2.1 : Int)) → h 12 3 = (q.1 : Int) → q.2 ≤ 32767 → (lfold q vs).1 ≤ 32750 → (tgts vs).Nodup →
    ∃ h', am_E (am_D (d + 5)) m_14_29 (.inl 1) [some (am_r (am_a 12)), some (am_r (am_a 8)), u2, some (am_r (am_a 217)), some (am_i (wd : Int)), some (am_i (q.2 : Int)), some (am_i (k : Int)), u7, u8, u9] [] (zS L, h) = pV L h' ∧ h' 12 3 = ((lfold q vs).1 : Int) ∧ UL h' gv wd q vs ∧ (∀ c k, c = 13 ∨ c = 14 ∨ c = 16 → k < q.1 → h' c k = h c k) ∧ (∀ a, a ∉ tgts vs → h' 15 a = h 15 a) ∧ (∀ j, j ≠ 3 → h' 12 j = h 12 j) ∧ ∀ c, c ≠ 12 → c ≠ 13 → c ≠ 14 → c ≠ 15 → c ≠ 16 → h' c = h c
  | [], q, k, u7, u8, u9, h, hl, hs, hk, G, eg, e12, hpd, hb, nd => by
    refine ⟨h, ?_, e12, trivial, fun _ _ _ _ => rfl, fun _ _ => rfl, fun _ _ => rfl, fun _ _ _ _ _ _ => rfl⟩
    rw [q_14_29_1, hs, if_neg (by rw [List.length_nil]; omega)]
  | l :: vs, q, k, u7, u8, u9, h, hl, hs, hk, ⟨G, GG⟩, eg, e12, hpd, hb, nd => by
    rw [List.length_cons] at hs hk
    have l0 := hl 0 l rfl
    rw [Nat.add_zero] at l0
    have hb1 : (lstp q l).1 ≤ 32750 := Nat.le_trans (lfold_le (vs := vs) (q := lstp q l)) hb
    obtain ⟨g, v7, v8, v9, r, s1, s2, s3, s4, s5, s6⟩ := t_turn (L := L) (d := d) (u2 := u2) (u7 := u7) (u8 := u8) (u9 := u9) (gv := gv) (q := q) hwd (show k < 9000 by omega) (by rw [hs]; omega) l0.1 l0.2.1 l0.2.2 hpd G (eg l (List.mem_cons_self ..)) e12 hb1
    have c9 := s6 9 (by decide) (by decide) (by decide) (by decide) (by decide)
    have c10 := s6 10 (by decide) (by decide) (by decide) (by decide) (by decide)
    have c11 := s6 11 (by decide) (by decide) (by decide) (by decide) (by decide)
    have c8 := s6 8 (by decide) (by decide) (by decide) (by decide) (by decide)
    have c220 := s6 220 (by decide) (by decide) (by decide) (by decide) (by decide)
    have c221 := s6 221 (by decide) (by decide) (by decide) (by decide) (by decide)
    have nd : (tgt l ++ tgts vs).Nodup := nd
    rw [List.nodup_append] at nd
    have np : (lstp q l).2 ≤ 32767 := by rw [lstp_npd]; unfold npd; have := G.1.2.2.2; split <;> omega
    obtain ⟨h', r', p1, p2, p3, p4, p5, p6⟩ := t_loop hwd vs (q := lstp q l) (k := k + 1) (u7 := v7) (u8 := v8) (u9 := v9) (h := g) (fun j x hj => by
      have := hl (j + 1) x hj
      rw [c9, c10, c11, show k + 1 + j = k + (j + 1) by omega]; exact this) (by rw [c8, hs]; congr 1; omega) (by omega) (by rw [lstp_npd]; exact GG) (fun x hx => by rw [c220, c221]; exact eg x (List.mem_cons_of_mem _ hx)) s1 np hb nd.2.1
    refine ⟨h', r.trans r', p1, ⟨s2.eq G.1.1 p3 (fun a ha => p4 a (fun z => nd.2.2 a ha a z rfl)), p2⟩, fun c k hc hk => ?_, fun a ha => ?_, fun j hj => by rw [p5 j hj, s5 j hj], fun c c1 c2 c3 c4 c5 => by rw [p6 c c1 c2 c3 c4 c5, s6 c c1 c2 c3 c4 c5]⟩
    · rw [p3 c k hc (Nat.lt_of_lt_of_le hk lstp_le), s3 c k hc hk]
    · have ha : a ∉ tgt l ++ tgts vs := ha
      rw [List.mem_append] at ha
      rw [p4 a (fun z => ha (Or.inr z)), s4 a (fun z => ha (Or.inl z))]
end
