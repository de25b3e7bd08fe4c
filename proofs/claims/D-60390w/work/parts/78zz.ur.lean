/-! RUN, 21: the component beside the model, before an item -/
def ccC : List Nat := [18, 20, 21]
def ccF : List (Nat × Nat) := [(17, 6), (17, 7), (17, 8), (17, 10), (17, 11), (17, 12), (17, 13), (17, 14)]
def mcC : List Nat := [308, 309, 310, 311, 312, 313, 314, 315, 316, 317, 318, 320, 321]
def mcF : List (Nat × Nat) := [(254, 4), (254, 81), (254, 87), (254, 88), (254, 89), (254, 95), (254, 96), (254, 98), (254, 99), (254, 100), (254, 103), (254, 106), (254, 108)]
/-- the place of the statement that is open last -/
def wtop (g : am_H) (w : Int) : Int := if 0 < w then g 318 (w - 1).toNat else g 254 74
/-- statements that are open, frame by frame -/
def WS (g : am_H) (at' : Nat → Nat × List Nat) (P : Nat → Int) : Nat → List uF → Prop
  | _, [] => True
  | k, q :: rs => SK (g 318) (g 317 rs.length).toNat ((at' k).2.map P) ∧ (0 ≤ g 317 rs.length ∧ g 317 rs.length ≤ 30 * (rs.length : Int)) ∧ (rs = [] → g 317 rs.length = 0) ∧ (rs ≠ [] → g 317 rs.length = g 317 (rs.length - 1) + ((at' q.2.2.2.2.2).2.length : Int)) ∧ WS g at' P q.2.2.2.2.2 rs
/-- heights of stacks, and the subs of frames -/
def HT (g0 : am_H) (at' : Nat → Nat × List Nat) (N : Nat) : Nat → List uF → Prop
  | _, [] => True
  | rk, f :: rs => ((uSt f).length + 1 = (at' rk).1 ∧ rk < N ∧ g0 281 rk = (f.1 : Int) ∧ (f.2.1.length ≤ 13 ∧ f.2.2.1.length ≤ 12) ∧ 1 ≤ rk ∧ g0 277 (rk - 1) = 10) ∧ HT g0 at' N f.2.2.2.2.2 rs
def UR (ky : List Int) (lab fs : Nat → Nat) (h0 g0 : am_H) (at' : Nat → Nat × List Nat) (P : Nat → Int) (fr : Nat → Prop) (wp : Nat → Nat) (w0 N : Nat) (h g : am_H) (r : Nat → Int) (ab k : Nat) (q : uF) (rs : List uF) (G : vG) : Prop :=
  (HI h lab fs ∧ CU r wp w0 ab q rs G ∧ IOR ky G h) ∧ (MU ky g k G (q :: rs) ∧ MB g (q :: rs)) ∧
  ((h 17 8 = g 254 96 ∧ h 17 9 = g 254 97 ∧ h 17 10 = g 254 88 ∧ h 17 11 = g 254 89) ∧ (0 ≤ g 254 96 ∧ g 254 96 ≤ g 254 97 ∧ g 254 97 ≤ 5000) ∧ h 17 13 = 0 ∧ g 254 100 = 0) ∧
  (WS g at' P k (q :: rs) ∧ g 254 95 = g 317 rs.length + ((at' k).2.length : Int) ∧ (∀ f, f ≤ rs.length → h 21 f = wtop g (g 317 f)) ∧ (fr k → h 21 (rs.length + 1) = wtop g (g 254 95))) ∧
  ((k < N ∧ g0 281 k = (q.1 : Int) ∧ (uSt q).length = (at' k).1 ∧ rs.length < 40) ∧ HT g0 at' N q.2.2.2.2.2 rs) ∧
  (p_fr ccC ccF h0 h ∧ p_fr mcC mcF g0 g)
/-- how both runs have ended -/
def UF (ky : List Int) (h0 g0 hf gf : am_H) (e : Int) : Prop := ∃ G, (IOR ky G hf ∧ MR ky G gf ∧ ∀ a, 16 ≤ a → a < 17000 → hf 18 a = G.1 a) ∧ (hf 17 12 = e ∧ hf 17 14 = 0 ∧ gf 254 99 = e ∧ 0 ≤ e ∧ hf 17 13 = gf 254 100) ∧ (hf 17 8 = gf 254 96 ∧ hf 17 9 = gf 254 97 ∧ hf 17 11 = gf 254 89) ∧ (e ≠ 0 → ∃ dp : Nat, hf 17 10 = (dp : Int) ∧ dp ≤ 41 ∧ hf 21 dp = wtop gf (gf 254 95)) ∧ (0 ≤ gf 254 95 ∧ gf 254 95 ≤ 1200) ∧ p_fr ccC ccF h0 hf ∧ p_fr mcC mcF g0 gf ∧ ∀ k, rg16 (hf 18 k)
/-- the model goes on until it has ended -/
def LPx (L d : Nat) (g gf : am_H) : Prop := ∀ u1 u2, am_E (am_D (d + 13)) m_17_121 (.inl 7) [some (am_r (am_a 254)), u1, u2] [] (zS L, g) = am_E (am_D (d + 13)) m_17_121 (.inl 7) [some (am_r (am_a 254)), u1, u2] [] (zS L, gf)
theorem LPx.step {L d : Nat} {g g1 gf : am_H} (e : g 254 99 = -1) (h : am_D (d + 13) 17 118 [am_r (am_a 254)] (zS L, g) = pV L g1) (H : LPx L d g1 gf) : LPx L d g gf := fun u1 u2 => by
  rw [q_17_121_7, if_pos e, h, p_xV]; exact H u1 u2
theorem LPx.refl {L d : Nat} {g : am_H} : LPx L d g g := fun _ _ => rfl
/-- what is wanted of a state -/
def GOAL (ky : List Int) (L n d : Nat) (h0 g0 : am_H) (h g : am_H) (pd : Nat) (x : hX) : Prop := ∃ e hf gf, CL L n h pd x (pI L e hf) ∧ LPx L d g gf ∧ UF ky h0 g0 hf gf e
section
variable {ky : List Int} {lab fs gv : Nat → Nat} {h0 g0 : am_H} {at' : Nat → Nat × List Nat} {P : Nat → Int} {fr : Nat → Prop} {wp : Nat → Nat} {w0 N : Nat} {h g h' g' : am_H} {r r' : Nat → Int} {ab k k' : Nat} {s rk : Nat} {as ls : List Int} {th tm : Option Int} {st : List Int} {rs : List uF} {G G' : vG}
theorem WS_fr (h1 : ∀ j, j ≤ 40 → g' 317 j = g 317 j) (h2 : ∀ j : Nat, (j : Int) < g 254 95 → g' 318 j = g 318 j) : ∀ {rs : List uF} {k : Nat}, WS g at' P k rs → rs.length ≤ 41 → (∀ (q : uF) (rs' : List uF), rs = q :: rs' → g 317 rs'.length + ((at' k).2.length : Int) ≤ g 254 95) → WS g' at' P k rs
  | [], _, _, _, _ => trivial
  | q :: rs, k, ⟨w1, w2, w3, w4, w5⟩, hl, hb => by
    have b := hb q rs rfl
    rw [List.length_cons] at hl
    unfold WS
    rw [h1 rs.length (by omega), h1 (rs.length - 1) (by omega)]
    refine ⟨w1.fr (fun j j1 j2 => h2 j (by rw [List.length_map] at j2; omega)), w2, w3, w4, WS_fr h1 h2 w5 (by omega) (fun q' rs' e => ?_)⟩
    have z := w4 (by rw [e]; exact List.cons_ne_nil _ _)
    rw [e, List.length_cons, Nat.add_sub_cancel] at z
    rw [e, List.length_cons] at b
    omega
theorem wtop_fr (h2 : ∀ j : Nat, (j : Int) < g 254 95 → g' 318 j = g 318 j) (h4 : g' 254 74 = g 254 74) {w : Int} (hw : w ≤ g 254 95) : wtop g' w = wtop g w := by
  unfold wtop
  rw [h4]
  by_cases z : 0 < w
  · rw [if_pos z, if_pos z, h2 _ (by omega)]
  · rw [if_neg z, if_neg z]
/-- frames' rows of work lie below -/
theorem WS.le : ∀ {rs : List uF} {k : Nat}, WS g at' P k rs → ∀ f, f < rs.length → ∀ (q : uF) (rs' : List uF), rs = q :: rs' → 0 ≤ g 317 f ∧ g 317 f ≤ g 317 rs'.length
  | [], _, _, f, hf, q, rs', e => by cases e
  | q0 :: rs0, k, ⟨w1, w2, w3, w4, w5⟩, f, hf, q, rs', e => by
    cases e
    rw [List.length_cons] at hf
    by_cases z : f = rs0.length
    · rw [z]; exact ⟨w2.1, Int.le_refl _⟩
    · cases rs0 with
      | nil => exact absurd (show f = 0 by have : f < 0 + 1 := hf; omega) z
      | cons q1 rs1 =>
        rw [List.length_cons] at hf z
        have := WS.le w5 f (by rw [List.length_cons]; omega) q1 rs1 rfl
        have z4 := w4 (List.cons_ne_nil _ _)
        rw [List.length_cons, Nat.add_sub_cancel] at z4
        rw [List.length_cons]
        omega
end
