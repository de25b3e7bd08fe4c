/-! HACK, 12: lines of an item, one after the other -/
def vseq (ky : List Int) (Γ : vC) (m : Nat) : List vl → vL → (vL → Option vO) → Option vO
  | [], x, k => k x
  | l :: r, x, k => vins ky Γ m [] (fun _ y => vseq ky Γ m r y k) l [] x
/-- lines that stay within an item -/
def lin (l : vl) : Prop := l.1 ≤ 10 ∨ l.1 = 17 ∨ l.1 = 18 ∨ l.1 = 19 ∨ l.1 = 15
/-- where lines end -/
def lend (lab fs : Nat → Nat) : Nat → List vl → Nat
  | w, [] => w
  | w, l :: r => lend lab fs (w + (lw lab fs w l).length) r
section
variable {L n : Nat} {ky : List Int} {lab fs : Nat → Nat} {h : am_H} {r : Nat → Int} {ab lb m w : Nat} {as ls : List Int} {th tm : Option Int} {st : List Int} {G : vG} {a d : Int} {o : vO} {F : vF} {code rest : List vl} {Γ : vC} {dp : Nat}
/-- a call of the system -/
theorem g_call {sg kk : Nat} (HΓ : SUB L n ky lab fs dp Γ) (hi : HI h lab fs) (c : cd h w (lw lab fs w (15, sg, kk))) (hw : w + 4 < 32768) (I : IOR ky G h) (X : VX r ab lb (as, ls, th, tm, st, G)) (R : hrg ((w : Int), a, d, r)) (hm : lb + ls.length + m + 20 * dp + 10 ≤ 31990) (hst : st.length ≤ m) (H : vins ky Γ m code F (15, sg, kk) rest (as, ls, th, tm, st, G) = some o) : LG L n ky ab lb m as.length ls.length h ((w : Int), a, d, r) r (w + 4) o (F rest) := by
  have x10 : 17000 ≤ ab ∧ ab + as.length ≤ lb := ⟨X.2.2.2.2.2.2.2.1, X.2.2.2.2.2.2.2.2.1⟩
  obtain ⟨h1, H2⟩ := v_c_some H
  have hk : kk ≤ st.length := Nat.le_of_ble_eq_true h1
  obtain ⟨og, hg⟩ : ∃ og, Γ sg (st.take kk).reverse G = some og := by
    cases c : Γ sg (st.take kk).reverse G with
    | none => dsimp only at H2; rw [c] at H2; cases H2
    | some og => exact ⟨og, rfl⟩
  dsimp only at H2
  rw [hg] at H2
  have la : (st.take kk).reverse.length = kk := by rw [List.length_reverse, List.length_take]; omega
  have x12 : lb + ls.length + st.length ≤ 31990 := X.2.2.2.2.2.2.2.2.2
  have SKs : SK r (lb + ls.length) st := X.2.2.2.1
  have P := HΓ sg (st.take kk).reverse G og hg h r (lb + ls.length + (st.length - kk)) (w + 4) ((fs sg : Nat) : Int) hi I (by rw [la, X.1.1]; show ((lb + ls.length + st.length : Nat) : Int) = _; omega) (SKs.args hk) X.2.2.2.2.2.2.1 (by omega) (by rw [la]; omega) hw ⟨⟨by dsimp only; omega, by
    have := (hi.2.2.2 sg).2
    dsimp only; omega⟩, ⟨by dsimp only; omega, by dsimp only; omega⟩, R.2.2⟩
  have Q : Hq L n h ((w : Int), a, d, r) _ := q_go P.1.1 (l_const (w + 4) (by omega)) (List.cons_ne_nil _ _) c hi.2.1
  rcases P.2 with ⟨v, G', h', a2, d2, r2, e1, Q2, ⟨z0, z1, z2, z3, z4, z5⟩, kp, me, I2, f⟩ | ⟨e, v, G', hf, e1, F, e2⟩
  · subst e1
    have H2 : v_ps m (st.drop kk) v (fun st => F rest (as, ls, th, none, st, G')) = some o := H2
    obtain ⟨h3, h4⟩ := v_ps_some H2
    have dl : (st.drop kk).length = st.length - kk := List.length_drop
    refine Or.inl ⟨_, h', a2, d2, r2, h4, Q.hq.then hi.2.1 P.1 Q2, ?_, ?_, I2, f, rfl, rfl, h3⟩
    · refine ⟨⟨?_, by rw [z2]; exact X.1.2.1, by rw [z3]; exact X.1.2.2⟩, X.2.1.fr (fun j j1 j2 => kp j (by omega) (by have : j < ab + as.length := j2; omega)), X.2.2.1.fr (fun j j1 j2 => kp j (by omega) (by have : j < lb + ls.length := j2; omega)), ⟨?_, (SKs.drop kk).fr (fun j j1 j2 => kp j (by omega) (by rw [dl] at j2; omega))⟩, fun u hu => (by rw [z4]; exact X.2.2.2.2.1 u hu), fun u hu => (by cases hu), me, x10.1, x10.2, ?_⟩
      · rw [z0]; show _ = ((lb + ls.length + ((st.drop kk).length + 1) : Nat) : Int); rw [dl]; omega
      · rw [dl]; exact z1
      · show lb + ls.length + ((st.drop kk).length + 1) ≤ 31990; omega
    · intro j hj
      rcases hj with hj | hj | hj
      · exact kp j hj.1 (by omega)
      · exact kp j (by omega) (by omega)
      · rw [hj]; exact z5
  · subst e1
    cases H2
    exact Or.inr ⟨e, v, G', hf, rfl, Q.hq.fin hi.2.1 P.1 F, e2⟩
theorem LG.then {an ln q q2 : Nat} {x : hX} {k1 k : vL → Option vO} (A : LG L n ky ab lb m an ln h x r q o k1) (E : h 17 14 ≠ 0) (mk : q < 32768 ∧ h 16 q = 0) (R : hrg x) (B : ∀ (y : vL) (h' : am_H) (a2 d2 : Int) (r2 : Nat → Int), p_fr ioC ioF h h' → k1 y = some o → VX r2 ab lb y → IOR ky y.2.2.2.2.2 h' → hrg ((q : Int), a2, d2, r2) → (y.1.length = an ∧ y.2.1.length = ln ∧ y.2.2.2.2.1.length ≤ m) → LG L n ky ab lb m an ln h' ((q : Int), a2, d2, r2) r2 q2 o k) : LG L n ky ab lb m an ln h x r q2 o k := by
  rcases A with ⟨y, h', a2, d2, r2, hk, Q, X2, K2, I2, f, b⟩ | z
  · have mk' : q < 32768 ∧ h' 16 q = 0 := ⟨mk.1, by rw [f.cell 16 rfl rfl]; exact mk.2⟩
    rcases B y h' a2 d2 r2 f hk X2 I2 (Q R).1 b with ⟨y3, h3, a3, d3, r3, hk3, Q3, X3, K3, I3, f3, b3⟩ | ⟨e, v, G', hf, e1, F, e2⟩
    · exact Or.inl ⟨y3, h3, a3, d3, r3, hk3, Q.then (E_fr E f) mk' Q3, X3, K2.trans K3, I3, f.trans f3, b3⟩
    · exact Or.inr ⟨e, v, G', hf, e1, Q.fin (E_fr E f) mk' F, e2.pre f⟩
  · exact Or.inr z
/-- one line that stays within an item -/
theorem h_lin {l : vl} (hl : lin l) (HΓ : SUB L n ky lab fs dp Γ) (hi : HI h lab fs) (c : cd h w (lw lab fs w l)) (hw : w + (lw lab fs w l).length < 32768) (lk : lok l) (I : IOR ky G h) (X : VX r ab lb (as, ls, th, tm, st, G)) (R : hrg ((w : Int), a, d, r)) (hm : lb + ls.length + m + 20 * dp + 10 ≤ 31990) (hst : st.length ≤ m) (H : vins ky Γ m code F l rest (as, ls, th, tm, st, G) = some o) : LG L n ky ab lb m as.length ls.length h ((w : Int), a, d, r) r (w + (lw lab fs w l).length) o (F rest) := by
  by_cases h15 : l.1 = 15
  · obtain ⟨op, sg, kk⟩ := l
    dsimp only at h15
    subst h15
    exact g_call HΓ hi c hw I X R hm hst H
  · exact h_line (by unfold lin at hl; omega) lk c hw hi.1 hi.2.1 I X R (by omega) hst H
theorem lin_mark {l : vl} (hl : lin l) (lab fs : Nat → Nat) (w : Nat) : lw lab fs w l ≠ [] := by
  obtain ⟨op, sg, k⟩ := l
  unfold lin at hl
  dsimp only at hl
  match op, hl with
  | 0, _ => match sg with
    | 0 | 1 | 2 | 3 | _ + 4 => simp [lw, wTake]
  | 1, _ => match sg with
    | 0 | 1 | 2 | 3 | 4 | _ + 5 => simp [lw, wPop]
  | 2, _ | 3, _ | 4, _ | 5, _ | 6, _ | 7, _ | 8, _ | 9, _ | 10, _ | 15, _ | 19, _ => simp [lw, wPop, wRt]
  | 17, _ => match sg with
    | 0 | _ + 1 => simp [lw, wRt]
  | 18, _ => match sg with
    | 0 | _ + 1 => simp [lw, wRt]
  | 11, hl => omega
  | 12, hl => omega
  | 13, hl => omega
  | 14, hl => omega
  | 16, hl => omega
  | _ + 20, hl => omega
theorem h_seq (HΓ : SUB L n ky lab fs dp Γ) {k : vL → Option vO} : ∀ (lines : List vl) (l : vl) {h : am_H} {w : Nat} {a d : Int} {r : Nat → Int} {as ls : List Int} {th tm : Option Int} {st : List Int} {G : vG}, (∀ v ∈ l :: lines, lin v) → HI h lab fs → cd h w (lw lab fs w l) → w + (lw lab fs w l).length < 32768 → lok l → LY h lab fs (w + (lw lab fs w l).length) lines → IOR ky G h → VX r ab lb (as, ls, th, tm, st, G) → hrg ((w : Int), a, d, r) → lb + ls.length + m + 20 * dp + 10 ≤ 31990 → st.length ≤ m → vseq ky Γ m (l :: lines) (as, ls, th, tm, st, G) k = some o → LG L n ky ab lb m as.length ls.length h ((w : Int), a, d, r) r (lend lab fs w (l :: lines)) o k
  | [], l, h, w, a, d, r, as, ls, th, tm, st, G, hl, hi, c, hw, lk, Y, I, X, R, hm, hst, H => h_lin (F := fun _ y => k y) (rest := []) (hl l (List.mem_cons_self ..)) HΓ hi c hw lk I X R hm hst H
  | l2 :: lines, l, h, w, a, d, r, as, ls, th, tm, st, G, hl, hi, c, hw, lk, Y, I, X, R, hm, hst, H => by
    obtain ⟨y1, y2, y3, y4, y5⟩ := Y
    have mk : w + (lw lab fs w l).length < 32768 ∧ h 16 (w + (lw lab fs w l).length) = 0 := by
      obtain ⟨v, vt, e⟩ := List.exists_cons_of_ne_nil (lin_mark (hl l2 (by simp)) lab fs (w + (lw lab fs w l).length))
      exact (y1 0 v (by rw [e]; rfl)).2
    refine (h_lin (F := fun _ y => vseq ky Γ m (l2 :: lines) y k) (rest := []) (hl l (List.mem_cons_self ..)) HΓ hi c hw lk I X R hm hst H).then hi.2.1 mk R ?_
    intro y h' a2 d2 r2 f hk X2 I2 R2 ⟨b1, b2, b3⟩
    obtain ⟨as2, ls2, th2, tm2, st2, G2⟩ := y
    dsimp only at b1 b2 b3
    rw [← b1, ← b2]
    exact h_seq HΓ lines l2 (fun v hv => hl v (List.mem_cons_of_mem _ hv)) (hi.fr f) (y1.fr f).cd y2 y4 (y5.fr f) I2 X2 R2 (by rw [b2]; exact hm) b3 hk
end
