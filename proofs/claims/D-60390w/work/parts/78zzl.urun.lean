/-! RUN, 33: both runs, from the first word on -/
def gz0 : vG := (fun _ => 0, 0, [])
def gz1 : vG := (p_set (p_set (fun _ => 0) 16 16520) 17 16640, 0, [])
def gz2 : vG := (p_set (p_set (p_set (fun _ => 0) 16 16520) 17 16640) 19 (am_s16 (-1)), 0, [])
section
variable {ky : List Int} {lab fs gv : Nat → Nat} {h0 g0 : am_H} {at' : Nat → Nat × List Nat} {P : Nat → Int} {fr : Nat → Prop} {qp : Nat → Nat × Nat} {N bs : Nat} {L n d : Nat}
theorem gz2_n {a : Nat} (h : a ≠ 16 ∧ a ≠ 17 ∧ a ≠ 19) : gz2.1 a = 0 := by
  show p_set (p_set (p_set (fun _ => 0) 16 16520) 17 16640) 19 (am_s16 (-1)) a = 0
  rw [p_set_n _ _ _ _ h.2.2, p_set_n _ _ _ _ h.2.1, p_set_n _ _ _ _ h.1]
/-- the model's memory at the beginning -/
theorem MR_0 {g : am_H} (h308 : ∀ a, a < 16512 → g 308 a = 0) (e81 : g 254 81 = 0) (e108 : g 254 108 = 1) (e103 : g 254 103 = 0) (e106 : g 254 106 = 0) (K : kyR ky g) : MR ky gz2 g := by
  have e16 : gz2.1 16 = 16520 := rfl
  have e17 : gz2.1 17 = 16640 := rfl
  have e19 : gz2.1 19 = am_s16 (-1) := rfl
  refine ⟨fun a ha => ?_, ⟨[], ⟨⟨e16, e17, ?_, Nat.zero_le _⟩, fun j q hq => (by cases hq), trivial⟩, ⟨by omega, by omega⟩, ?_⟩, ?_, ⟨by rw [e103]; rfl, Nat.zero_le _, K⟩, ⟨by rw [e106]; rfl, Nat.zero_le _, fun j c hc => (by cases hc)⟩, fun a => ?_⟩
  · rw [gz2_n (by unfold v_pl at ha; omega), h308 a (by unfold v_pl at ha; omega)]
  · rw [gz2_n (by omega)]; rfl
  · unfold bk; rw [e81]; exact List.Perm.refl _
  · rw [e108, e19]; decide
  · by_cases z : a = 16
    · rw [z, e16]; exact ⟨by decide, by decide⟩
    · by_cases z1 : a = 17
      · rw [z1, e17]; exact ⟨by decide, by decide⟩
      · by_cases z2 : a = 19
        · rw [z2, e19]; exact rg16_s _
        · rw [gz2_n ⟨z, z1, z2⟩]; exact ⟨by decide, by decide⟩
/-- both runs -/
theorem u_run {u ws fuel : Nat} {r0 : Nat → Int} (hr0 : ∀ k, k < 32768 → r0 k = 0) (hr1 : ∀ k, rg16 (r0 k)) (ST : ∀ k, k < N → ItF lab fs gv h0 g0 at' P fr qp N bs k) (SM : SubF lab fs gv h0 g0 at' qp N bs u) (so : g0 264 u = 2) (p0 : g0 267 u = 0) (LB : LU h0 lab fs gv 0 (ws, 0) (begN (bs + u))) (hi : HI h0 lab fs) (c0 : cmw h0 0 (([((17000 : Nat) : Int), -5104] ++ wKeep ((0 : Nat) : Int)) ++ [(ws : Int), -5497]))
    (I : IOR ky gz0 h0) (e8 : h0 17 8 = 0) (e9 : h0 17 9 = (fuel : Int)) (hfu : fuel ≤ 5000) (e10 : h0 17 10 = 0) (e11 : h0 17 11 = 0) (e13 : h0 17 13 = 0) (e21 : h0 21 0 = g0 254 74)
    (h308 : ∀ a, a < 16512 → g0 308 a = 0) (h311 : ∀ j, j < 12 → g0 311 j = 0) (e81 : g0 254 81 = 0) (e108 : g0 254 108 = 1) (e103 : g0 254 103 = 0) (e106 : g0 254 106 = 0) (K : kyR ky g0) (e87 : g0 254 87 = 0) (e88 : g0 254 88 = 0) (e89 : g0 254 89 = 0) (e98 : g0 254 98 = 0) (e99 : g0 254 99 = -1) (e96 : g0 254 96 = 0) (e97 : g0 254 97 = (fuel : Int)) (e95 : g0 254 95 = 0) (e100 : g0 254 100 = 0) :
    ∃ e hf g1 gf, H3 L n h0 (0, 0, 0, r0) (pI L e hf) ∧ am_D (d + 13) 17 111 [am_r (am_a 254), am_i (u : Int)] (zS L, g0) = pV L g1 ∧ LPx L d g1 gf ∧ UF ky h0 g0 hf gf e := by
  have R0 : MR ky gz2 g0 := MR_0 h308 e81 e108 e103 e106 K
  obtain ⟨m', nl, k1, ⟨s1, s2, s3⟩, s4, ⟨s5, s6, s7, s8⟩, s9, s10, s11, s12, s13, s14⟩ := SM
  have em' : m' = 0 := by rw [p0] at s5; omega
  subst em'
  rw [if_neg (by omega)] at s4
  have hd0 : hdN g0 u = [] := by unfold hdN; rw [if_neg (by omega), if_neg (by omega)]
  rw [hd0] at s14
  have s14 : qp k1 = (fs (bs + u) + 12 + 5 * nl, 0) := s14
  obtain ⟨b1, b2, b3, b4, b5, b6, b7, b8⟩ := b_laid LB
  -- the first words
  have rz : hrg (((0 : Nat) : Int), (0 : Int), (0 : Int), r0) := by
    have z : rg16 (0 : Int) := ⟨by decide, by decide⟩
    exact ⟨z, z, hr1⟩
  have Q0 := q_go (L := L) (n := n) (h := h0) (p := 0) (s := (0, 0, r0)) (show ws < 32768 by omega) ((l_const 17000 (by decide)).app (q_keep 0 (by decide)) (List.cons_ne_nil _ _) (List.cons_ne_nil _ _)) (by simp) c0.cd hi.2.1
  obtain ⟨R1, go0⟩ := Q0 rz
  have m0 := c0 0 _ rfl
  have mw := b1 0 _ rfl
  rw [Nat.add_zero] at m0 mw
  obtain ⟨r1, hrr⟩ : ∃ r1 : Nat → Int, r1 = p_set r0 0 ((17000 : Nat) : Int) := ⟨_, rfl⟩
  rw [← hrr] at R1 go0
  obtain ⟨h1, a1, d1, r2, Q1, y0, y1, I1, f1⟩ := b_sys (L := L) (n := n) (G := gz0) (s := 0) (v := 0) (G' := gz1) hi b1 b2 I (by rw [hrr, p_set_s]) (fun k h1 h2 => by rw [hrr, p_set_n _ _ _ _ (by omega), hr0 k (by omega)]; rfl) R1 (w_0 ky 8 gz0)
  obtain ⟨R2, go1⟩ := Q1 R1
  have hi1 := hi.fr f1
  have m9 := b3 0 _ rfl
  rw [Nat.add_zero] at m9
  obtain ⟨h2, a2, d2, r3, Q2, z0, z1, I2, f2⟩ := b_sys (L := L) (n := n) (G := gz1) (s := 37) (v := 0) (G' := gz2) hi1 (b3.fr f1) (b4.fr f1) I1 y0 y1 R2 (w_37 ky 8 gz1)
  obtain ⟨R3, go2⟩ := Q2 R2
  have f12 := f1.trans f2
  have hi2 := hi.fr f12
  have m18 := b5 0 _ rfl
  rw [Nat.add_zero] at m18
  -- main is called
  have Q3 := q_go (L := L) (n := n) (h := h2) (p := ws + 18) (hi2.2.2.2 (bs + u)).2 (l_const (L := L) (n := n) (h := h2) (a := a2) (d := d2) (r := r3) (ws + 22) (by omega)) (List.cons_ne_nil _ _) (b5.fr f12).cd hi2.2.1
  obtain ⟨R4, go3⟩ := Q3 R3
  have all : ∀ o, H3 L n h2 ((fs (bs + u) : Int), (fs (bs + u) : Int), ((ws + 22 : Nat) : Int), r3) o → H3 L n h0 (0, 0, 0, r0) o := by
    intro o Ho
    have x3 := go3 o Ho
    have x3' := h34 hi2.2.1 m18.2.1 (by rw [f12.cell 16 rfl rfl]; exact m18.2.2) x3
    have x2' := h34 hi1.2.1 m9.2.1 (by rw [f1.cell 16 rfl rfl]; exact m9.2.2) (go2 o x3')
    have x1' := h34 hi.2.1 mw.2.1 mw.2.2 (go1 o x2')
    exact h34 hi.2.1 m0.2.1 m0.2.2 (go0 o x1')
  have mk1 : h2 16 (fs (bs + u)) = 1 := by rw [f12.cell 16 rfl rfl]; exact s2.2.1
  have q8 : h2 17 8 = 0 := by rw [f12 17 8 rfl rfl]; exact e8
  have q9 : h2 17 9 = (fuel : Int) := by rw [f12 17 9 rfl rfl]; exact e9
  have q10 : h2 17 10 = ((0 : Nat) : Int) := by rw [f12 17 10 rfl rfl]; exact e10
  have WG := fun (o : Option am_O) => w_go (L := L) (n := n) (a := (fs (bs + u) : Int)) (d := ((ws + 22 : Nat) : Int)) (r := r3) (o := o) hi2.2.1 (hi2.2.2.2 (bs + u)).2 mk1 (by decide) (w_enter (L := L) (n := n) q10 (by decide) ⟨by omega, by omega⟩)
  by_cases cf : fuel = 0
  · -- no step is left
    rw [if_pos (by omega)] at WG
    have D : am_D (d + 13) 17 111 [am_r (am_a 254), am_i (u : Int)] (zS L, g0) = pV L (am_up g0 254 99 1) := by
      rw [D_17_111, m_step, if_pos (by rw [e96, e97, cf]; rfl), p_xI, if_pos rfl]
    have fx : ∀ j, j ≠ 99 → am_up g0 254 99 1 254 j = g0 254 j := fun j hj => p_up_n _ _ _ _ _ _ (Or.inr hj)
    have cx : ∀ c, c ≠ 254 → am_up g0 254 99 1 c = g0 c := fun c hc => p_up_c _ _ _ _ _ hc
    have s17 : ∀ j, j ≠ 12 → j ≠ 14 → hS 1 h2 17 j = h2 17 j := fun j h1 h2 => by unfold hS; rw [p_up_n _ _ _ _ _ _ (Or.inr h2), p_up_n _ _ _ _ _ _ (Or.inr h1)]
    have sc : ∀ c, c ≠ 17 → hS 1 h2 c = h2 c := fun c hc => by unfold hS; rw [p_up_c _ _ _ _ _ hc, p_up_c _ _ _ _ _ hc]
    have e12 : hS 1 h2 17 12 = 1 := by unfold hS; rw [p_up_n _ _ _ _ _ _ (Or.inr (by decide)), p_up_s]
    have e14 : hS 1 h2 17 14 = 0 := by unfold hS; rw [p_up_s]
    have rr17 : ∀ j, rr (hS 1 h2) r3 17 j = hS 1 h2 17 j := fun j => by rw [rr_n _ _ (by decide)]
    have H := h4_stop (L := L) (n := n) (a := (fs (bs + u) : Int)) (d := ((ws + 22 : Nat) : Int)) (r := r3) (hi2.2.2.2 (bs + u)).2 e14
    rw [e12] at H
    refine ⟨1, rr (hS 1 h2) r3, _, _, all _ (WG _ H), D, LPx.refl, gz2, ⟨?_, R0.same (fun a ha => cx a (by omega)) (fun j hj => fx j (by omega)), fun j h1 h2 => by rw [rr_18]; exact z1 j h1 h2⟩, ⟨by rw [rr17]; exact e12, by rw [rr17]; exact e14, p_up_s _ _ _ _, by decide, ?_⟩, ⟨?_, ?_, ?_⟩, fun _ => ⟨0, ?_, by decide, ?_⟩, by rw [fx 95 (by decide), e95]; decide, ?_, (p_fr.refl g0).upf _ _ _ rfl, fun k => by rw [rr_18]; exact R4.2.2 k⟩
    · exact IOR.rr (IOR.eq I2 (fun j hj => s17 j (by omega) (by omega)) (sc 19 (by decide)) (sc 20 (by decide))) r3
    · rw [rr17, s17 13 (by decide) (by decide), f12 17 13 rfl rfl, e13, fx 100 (by decide), e100]
    · rw [rr17, s17 8 (by decide) (by decide), q8, fx 96 (by decide), e96]
    · rw [rr17, s17 9 (by decide) (by decide), q9, fx 97 (by decide), e97]
    · rw [rr17, s17 11 (by decide) (by decide), f12 17 11 rfl rfl, e11, fx 89 (by decide), e89]
    · rw [rr17, s17 10 (by decide) (by decide), q10]
    · rw [rr_n _ _ (by decide), sc 21 (by decide), f12.cell 21 rfl rfl, e21, fx 95 (by decide), e95]
      unfold wtop; rw [if_neg (by decide), fx 74 (by decide)]
    · have zz : p_fr ccC ccF h2 (hS 1 h2) := by unfold hS; exact ((p_fr.refl h2).upf _ _ _ rfl).upf _ _ _ rfl
      exact (f12.mono rfl rfl).trans (p_fr.mono (p_fr_rr (r := r3) zz) rfl rfl)
  · rw [if_neg (by omega), if_neg (by decide)] at WG
    have WG : ∀ o, H4 L n (hN h2 0) ((fs (bs + u) : Int), (fs (bs + u) : Int), ((ws + 22 : Nat) : Int), r3) o → H3 L n h2 ((fs (bs + u) : Int), (fs (bs + u) : Int), ((ws + 22 : Nat) : Int), r3) o := WG
    have hN13 : hN h2 0 13 = h2 13 := hN_c (by decide) (by decide)
    have hN16 : hN h2 0 16 = h2 16 := hN_c (by decide) (by decide)
    have hiN : HI (hN h2 0) lab fs := hi2.eq hN13 hN16 (hN_f (by decide) (by decide) (by decide))
    have cF : cd (hN h2 0) (fs (bs + u)) (wFn (fs (bs + u)) ([] : List Int).length ++ wLoc nl) := by
      have := (s2.1.eq (h' := h2) (f12.cell 13 rfl rfl) (f12.cell 16 rfl rfl)).eq hN13 hN16
      rw [s4] at this
      exact this
    obtain ⟨a5, d5, r5, Q5, X5, ⟨v0, -⟩, -⟩ := h_fun (L := L) (n := n) (a := (fs (bs + u) : Int)) (ret := ws + 22) (ab := 17000) (as := []) (r := r3) (G := gz2) hiN.1 hiN.2.1 cF s3 z0 (fun i v hi => (by cases hi)) z1 (by decide) s8 (by decide) (by omega) (by decide)
    obtain ⟨R5, go5⟩ := Q5 R4
    obtain ⟨g1, D, M1, B1, ⟨y96, y89, y317⟩, yf, yc, yfr⟩ := m_enter0 (L := L) (d := d) (u := u) (nl := nl) (k1 := k1) R0 (fun j hj => by rw [h311 j hj, gz2_n (by omega)]) e87 e88 e89 e98 e99 e96 (by rw [e96, e97]; omega) s1 p0 s7 s8 so s10
    have n8 : hN h2 0 17 8 = 1 := by unfold hN; rw [p_up_n _ _ _ _ _ _ (Or.inr (by decide)), p_up_n _ _ _ _ _ _ (Or.inr (by decide)), p_up_c _ _ _ _ _ (by decide), p_up_s, q8]; rfl
    have n10 : hN h2 0 17 10 = 1 := by unfold hN; rw [p_up_n _ _ _ _ _ _ (Or.inr (by decide)), p_up_s]; rfl
    have n11 : hN h2 0 17 11 = 1 := by unfold hN; rw [p_up_s, f12 17 11 rfl rfl, e11]; decide
    have y95 : g1 254 95 = 0 := by rw [yf 95 (by decide) (by decide) (by decide) (by decide)]; exact e95
    have wt0 : wtop g1 0 = g0 254 74 := by unfold wtop; rw [if_neg (by decide), yf 74 (by decide) (by decide) (by decide) (by decide)]
    have e317 : g1 317 0 = 0 := by rw [y317, e95]
    have U : UR ky lab fs h0 g0 at' P fr (fun k => (qp k).1) (ws + 22) N (hN h2 0) g1 r5 17000 k1 (u, [], List.replicate nl 0, none, [], 0) [] gz2 := by
      refine ⟨⟨hiN, ⟨X5, ⟨v0, rfl⟩, Nat.zero_le _, by dsimp only; rw [List.length_replicate]; exact s8⟩, I2.eq (fun j hj => hN_f (by omega) (by omega) (by omega)) (hN_c (by decide) (by decide)) (hN_c (by decide) (by decide))⟩, ⟨M1, B1⟩, ⟨⟨by rw [n8, y96], ?_, by rw [n10, M1.2.2.1.2.1]; rfl, by rw [n11, y89]⟩, ⟨by rw [y96]; decide, ?_, ?_⟩, ?_, ?_⟩, ⟨⟨?_, ⟨?_, ?_⟩, fun _ => e317, fun z => absurd rfl z, trivial⟩, ?_, fun j hj => ?_, fun _ => ?_⟩, ⟨⟨s11.1, s11.2.1, by rw [s11.2.2]; rfl, by decide⟩, trivial⟩, (f12.mono rfl rfl).trans ?_, yfr⟩
      · rw [hN_f (by decide) (by decide) (by decide), q9, yf 97 (by decide) (by decide) (by decide) (by decide), e97]
      · rw [y96, yf 97 (by decide) (by decide) (by decide) (by decide), e97]; omega
      · rw [yf 97 (by decide) (by decide) (by decide) (by decide), e97]; omega
      · rw [hN_f (by decide) (by decide) (by decide), f12 17 13 rfl rfl]; exact e13
      · rw [yf 100 (by decide) (by decide) (by decide) (by decide)]; exact e100
      · rw [s11.2.2]; trivial
      · show 0 ≤ g1 317 0; rw [e317]; decide
      · show g1 317 0 ≤ 30 * ((0 : Nat) : Int); rw [e317]; decide
      · rw [y95, s11.2.2]; show _ = g1 317 0 + ((0 : Nat) : Int); rw [e317]; rfl
      · have : j = 0 := by have : j ≤ 0 := hj; omega
        rw [this, hN_21.2 0 (by decide), f12.cell 21 rfl rfl, e21, e317, wt0]
      · rw [y95, wt0]
        show hN h2 0 21 (0 + 1) = _
        rw [hN_21.1, f12.cell 21 rfl rfl, e21]
      · unfold hN; exact ((((p_fr.refl h2).upf _ _ _ rfl).upc _ _ _ rfl).upf _ _ _ rfl).upf _ _ _ rfl
    have HB : ∀ (h' : am_H) (G : vG) (a2 d2 : Int) (r2 : Nat → Int), HI h' lab fs → h' 13 = h0 13 → h' 16 = h0 16 → IOR ky G h' → r2 0 = ((17001 : Nat) : Int) → (∀ k, 16 ≤ k → k < 17000 → r2 k = G.1 k) → hrg (((ws + 22 : Nat) : Int), a2, d2, r2) → ∃ hf, H3 L n h' (((ws + 22 : Nat) : Int), a2, d2, r2) (pI L 0 hf) ∧ hEnd ky h' 0 0 G hf ∧ ∀ k, rg16 (hf 18 k) := fun h' G a2 d2 r2 i1 i2 i3 i4 i5 i6 i7 => b_end i1 (b6.eq i2 i3) (b7.eq i2 i3) b8 i4 i5 i6 i7
    have R5' : hrg (((qp k1).1 : Int), a5, d5, r5) := by rw [s14]; exact R5
    obtain ⟨e, hf, gf, o1, o2, o3⟩ := u_main (L := L) (n := n) (d := d) ST (by omega) HB _ _ _ (hN h2 0) g1 r5 17000 k1 _ [] gz2 a5 d5 U R5' rfl rfl rfl
    rw [s14] at o1
    unfold CL at o1
    rw [if_pos rfl] at o1
    exact ⟨e, hf, g1, gf, all _ (WG _ (go5 _ o1)), D, o2, o3⟩
end
