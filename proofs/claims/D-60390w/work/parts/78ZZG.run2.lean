/-! PURE LAYER, 112: the second reading whole -/
/-- what was put behind, event by event -/
def TR (K P V sc ss : Nat → Int) (cs : Nat → Nat) (b21 b15 : Nat) (h c0 : am_H) : List gx_V → pr_S → mi_S → ce_S → ce_S → Prop
  | [], _, _, c, c' => c = c'
  | e :: es, p, s, c, c' => ∃ p1 s1 c1, pr pw K V e p = .inr p1 ∧ mi V e s = .inr s1 ∧ CO (oE K P V sc ss cs b21 b15 h c0 e p (c.1 8 4) (c.1 235 4) c.2.2.2.2.2.2) c c1 ∧ TR K P V sc ss cs b21 b15 h c0 es p1 s1 c1 c'
section
variable {K K' P V sc ss n6 : Nat → Int} {cc cs : Nat → Nat} {b20 b21 b15 bv bl n0 n3 : Nat} {h c0 : am_H} {pE : pr_S} {S : mi_S}
theorem c2_run (T : tkc K K' V P n6) (hn6 : c0 6 = n6) (F : FT b20 b21 V h c0 n0 n3) (Sy : SY b20 b21 sc ss cc cs h c0) (Sk : SKn c0) (tp : tkP K' P) (hb : b20 ≤ 12 ∧ b21 ≤ 70 ∧ b15 ≤ 2000 ∧ bv ≤ 6000 ∧ bl ≤ 50000) (hS : S.1 = h) (H0 : rt K' h) (HK : ∀ k : Nat, (k : Int) < h 254 39 → pr_cs K' V (h 283 k).toNat (h 284 k)) (hE14 : pE.1 14 = 0) (hE9 : pE.1 9 ≠ 6) :
    ∀ (es : List gx_V) {p : pr_S} {s : mi_S} {c : ce_S}, gx_fold (pr pw K' V) es p = .inr pE → gx_fold (mi V) es s = .inr S → r2 K' P V sc ss cc b20 b21 b15 bv bl h c0 p s c → po K' p → rv K' p s → rm p s → pq p → pBd p →
      (∃ c', gx_fold (ce true false K V P) es c = .inr c' ∧ r2 K' P V sc ss cc b20 b21 b15 bv bl h c0 pE S c' ∧ TR K' P V sc ss cs b21 b15 h c0 es p s c c' ∧ ml_n K' P V sc ss h = []) ∨ (∃ x, gx_fold (ce true false K V P) es c = .inl x ∧ x ∈ ml_n K' P V sc ss h ∧ ∀ q ∈ ml_n K' P V sc ss h, nle x q) := by
  have cpos : ∀ c, mx_k c → 0 ≤ h 254 c := by
    intro k hk
    obtain ⟨⟨r1, -⟩, ⟨r2, -⟩, ⟨r3, -⟩, ⟨r4, -⟩, r5, -⟩ := H0
    rcases hk with e | e | e | e | e <;> rw [e] <;> assumption
  intro es
  induction es with
  | nil =>
    intro p s c h1 m1 R O Rv Rm Q B
    cases h1; cases m1
    left
    refine ⟨c, rfl, R, rfl, ?_⟩
    rw [List.eq_nil_iff_forall_not_mem]
    intro q hq
    have N : noN K' P V sc ss h S.1 := R.2.2.2.1.2.2.2
    rw [ml_n_mem N cpos q, hS] at hq
    unfold isN at hq
    rcases hq with ⟨k, k1, k2, -⟩ | ⟨k, k1, k2, -⟩ | ⟨k, k1, k2, -⟩ | ⟨k, k1, k2, -⟩ | ⟨k, k1, k2, -⟩ <;> omega
  | cons e es ih =>
    intro p s c h1 m1 R O Rv Rm Q B
    have L : lt_e p s S := lt_run (e :: es) h1 m1 Rv Q
    obtain ⟨p1, e1, e2⟩ := gx_b_ok h1
    obtain ⟨s1, w1, w2⟩ := gx_b_ok m1
    obtain ⟨s1', w1', Rm1⟩ := mi_ev_ok e1 Rm
    have : s1' = s1 := by rw [w1] at w1'; cases w1'; rfl
    subst this
    have Rv1 := rv_ev e1 w1 Rv
    have Q1 := pq_ev e1 Q
    have L1 : lt_e p1 s1' S := lt_run es e2 w2 Rv1 Q1
    have M1 : mx s1'.1 h := by rw [← hS]; exact mx_run V es s1' S w2
    have Z1 : fz p1 s1'.1 h := by rw [← hS]; exact fz_run (w := pw) es e2 w2 Rv1
    have O1 : c2o K K' P V sc ss cc cs b20 b21 b15 bv bl h c0 e p p1 s s1' c := by
      by_cases he : e.1 ≤ 34
      · refine c2_body T hn6 F Sy Sk tp hb hS H0 HK he e1 w1 R O Rv Rm Rm1 Q L L1 M1 (fun z => ?_)
        have h9 := Q1.2.2.2.2.2.2 z
        have := ex_15 es e2 w2 Rv1 Q1 h9 z hE9
        rw [hS] at this
        exact this
      · refine c2_decl T hn6 F Sy Sk tp hb hS H0 he e1 w1 R Rv Q B L1 M1 Z1 (fun z => ?_)
        have := ex_14 e2 w2 Rv1 Q1 z hE14
        rw [hS] at this
        exact this
    have N : noN K' P V sc ss h s.1 := R.2.2.2.1.2.2.2
    rcases O1 with ⟨c1, d1, d2, d3⟩ | ⟨x, d1, d2, d3⟩
    · rcases ih e2 w2 d2 (po_ev e1 O) Rv1 Rm1 Q1 (pBd_ev e1 B) with ⟨c', u1, u2, u3, u4⟩ | ⟨x, u1, u2⟩
      · left
        refine ⟨c', ?_, u2, ⟨p1, s1', c1, e1, w1, d3, u3⟩, u4⟩
        show gx_b (ce true false K V P e c) _ = _
        rw [d1]; exact u1
      · right
        refine ⟨x, ?_, u2⟩
        show gx_b (ce true false K V P e c) _ = _
        rw [d1]; exact u1
    · right
      refine ⟨x, ?_, (ml_n_mem N cpos x).2 d2, fun q hq => d3 q ((ml_n_mem N cpos q).1 hq)⟩
      show gx_b (ce true false K V P e c) _ = _
      rw [d1]; rfl
end
