/-! RUN, 30: both runs end alike -/
def mu (g0 : am_H) (N k : Nat) : Nat := if g0 277 k = 17 then 0 else N + 1 - k
section
variable {ky : List Int} {lab fs gv : Nat → Nat} {h0 g0 : am_H} {at' : Nat → Nat × List Nat} {P : Nat → Int} {fr : Nat → Prop} {qp : Nat → Nat × Nat} {w0 N bs : Nat} {L n d : Nat}
theorem mu_lt {k k' : Nat} (hk : k < N) (h : g0 277 k ≠ 17) (h' : k < k' ∨ g0 277 k' = 17) : mu g0 N k' < mu g0 N k := by
  unfold mu
  rw [if_neg h]
  by_cases z : g0 277 k' = 17
  · rw [if_pos z]; omega
  · rw [if_neg z]; omega
theorem u_main (ST : ∀ k, k < N → ItF lab fs gv h0 g0 at' P fr qp N bs k) (hw0 : w0 < 32768) (HB : ∀ (h' : am_H) (G : vG) (a2 d2 : Int) (r2 : Nat → Int), HI h' lab fs → h' 13 = h0 13 → h' 16 = h0 16 → IOR ky G h' → r2 0 = ((17001 : Nat) : Int) → (∀ k, 16 ≤ k → k < 17000 → r2 k = G.1 k) → hrg ((w0 : Int), a2, d2, r2) → ∃ hf, H3 L n h' ((w0 : Int), a2, d2, r2) (pI L 0 hf) ∧ hEnd ky h' 0 0 G hf ∧ ∀ k, rg16 (hf 18 k)) :
    ∀ (A B C : Nat) (h g : am_H) (r : Nat → Int) (ab k : Nat) (q : uF) (rs : List uF) (G : vG) (a dd : Int), UR ky lab fs h0 g0 at' P fr (fun k => (qp k).1) w0 N h g r ab k q rs G → hrg (((qp k).1 : Int), a, dd, r) → (g 254 97 - g 254 96).toNat = A → rs.length = B → mu g0 N k = C → GOAL ky L n d h0 g0 h g (qp k).2 (((qp k).1 : Int), a, dd, r) := by
  intro A
  induction A using Nat.strongRecOn with
  | ind A ihA =>
  intro B
  induction B using Nat.strongRecOn with
  | ind B ihB =>
  intro C
  induction C using Nat.strongRecOn with
  | ind C ihC =>
  intro h g r ab k q rs G a dd U R hAw hB hC
  obtain ⟨s, as, ls, th, st, rk⟩ := q
  obtain ⟨⟨hi, Cu, I⟩, ⟨M, Bb⟩, ⟨⟨u8, u9, u10, u11⟩, us, u13, u100⟩, ⟨W, u95, upl, frs⟩, ⟨⟨kN, k281, kst, k40⟩, ht⟩, f0, f1⟩ := id U
  obtain ⟨s', vs, hk5, e281, Y0, mk, ⟨a1, a2⟩, hnx, hfr, K⟩ := ST k kN
  have es : s' = s := by
    have k281 : g0 281 k = (s : Int) := k281
    rw [e281] at k281; exact Int.ofNat.inj k281
  subst es
  have kst : st.length = (at' k).1 := kst
  have hs : st.length ≤ 352 := by omega
  have hust := HT_ust (hb := fun k hk => (by obtain ⟨_, _, _, _, _, _, z, _⟩ := ST k hk; exact z.1)) ht
  have hu : ust rs + st.length ≤ 15000 := by omega
  have e13 : h 13 = h0 13 := f0.cell 13 rfl rfl
  have e16 : h 16 = h0 16 := f0.cell 16 rfl rfl
  have Y : LU h lab fs gv 1 (qp k) vs := Y0.eq e13 e16
  have x277 : g 277 = g0 277 := f1.cell 277 rfl rfl
  have x278 : g 278 = g0 278 := f1.cell 278 rfl rfl
  have x279 : g 279 = g0 279 := f1.cell 279 rfl rfl
  have x303 : g 303 = g0 303 := f1.cell 303 rfl rfl
  have x304 : g 304 = g0 304 := f1.cell 304 rfl rfl
  have x264 : g 264 = g0 264 := f1.cell 264 rfl rfl
  have x262 : g 262 = g0 262 := f1.cell 262 rfl rfl
  have x263 : g 263 = g0 263 := f1.cell 263 rfl rfl
  have x267 : g 267 = g0 267 := f1.cell 267 rfl rfl
  have x268 : g 268 = g0 268 := f1.cell 268 rfl rfl
  have x269 : g 269 = g0 269 := f1.cell 269 rfl rfl
  have x272 : g 272 = g0 272 := f1.cell 272 rfl rfl
  have x275 : g 275 = g0 275 := f1.cell 275 rfl rfl
  have x276 : g 276 = g0 276 := f1.cell 276 rfl rfl
  have x284 : g 284 = g0 284 := f1.cell 284 rfl rfl
  have x285 : g 285 = g0 285 := f1.cell 285 rfl rfl
  have x286 : g 286 = g0 286 := f1.cell 286 rfl rfl
  have x287 : g 287 = g0 287 := f1.cell 287 rfl rfl
  have x288 : g 288 = g0 288 := f1.cell 288 rfl rfl
  have x297 : g 297 = g0 297 := f1.cell 297 rfl rfl
  have xs : ∀ c, c = 264 ∨ c = 267 ∨ c = 268 ∨ c = 272 ∨ c = 275 ∨ c = 276 → g c = g0 c := fun c hc => by rcases hc with rfl | rfl | rfl | rfl | rfl | rfl <;> assumption
  have xl : ∀ v, ldN g s' v = ldN g0 s' v ∧ stN g s' v = stN g0 s' v := fun v => ldN_fr xs
  have ra : ∀ w ∈ as, rg16 w := AR.rg Cu.1.2.1 R.2.2
  have rl : ∀ w ∈ ls, rg16 w := AR.rg Cu.1.2.2.1 R.2.2
  have rt : ∀ w, th = some w → rg16 w := fun w hw => by rw [← Cu.1.2.2.2.2.1 w hw]; exact R.2.2 _
  have rst : ∀ w ∈ st, rg16 w := SK.rg Cu.1.2.2.2.1 R.2.2
  have g97 : g 254 97 = g0 254 97 := f1 254 97 rfl rfl
  -- the ways on
  have go1 : ∀ (k' : Nat) (h' g' : am_H) (a2 d2 : Int) (r2 : Nat → Int) (ab2 : Nat) (q' : uF) (G' : vG), (k < k' ∨ g0 277 k' = 17) → g0 277 k ≠ 17 → UR ky lab fs h0 g0 at' P fr (fun k => (qp k).1) w0 N h' g' r2 ab2 k' q' rs G' → g' 254 96 = g 254 96 → hrg (((qp k').1 : Int), a2, d2, r2) → GOAL ky L n d h0 g0 h' g' (qp k').2 (((qp k').1 : Int), a2, d2, r2) := by
    intro k' h' g' a2 d2 r2 ab2 q' G' hk' h17 U' e96 R'
    have g97' : g' 254 97 = g0 254 97 := U'.2.2.2.2.2.2 254 97 rfl rfl
    exact ihC (mu g0 N k') (by rw [← hC]; exact mu_lt kN h17 hk') h' g' r2 ab2 k' q' rs G' a2 d2 U' R' (by rw [g97', e96, ← g97]; exact hAw) hB rfl
  have go2 : ∀ (k' : Nat) (h' g' : am_H) (a2 d2 : Int) (r2 : Nat → Int) (ab2 : Nat) (q' : uF) (rs' : List uF) (G' : vG), UR ky lab fs h0 g0 at' P fr (fun k => (qp k).1) w0 N h' g' r2 ab2 k' q' rs' G' → g' 254 96 = g 254 96 + 1 → hrg (((qp k').1 : Int), a2, d2, r2) → GOAL ky L n d h0 g0 h' g' (qp k').2 (((qp k').1 : Int), a2, d2, r2) := by
    intro k' h' g' a2 d2 r2 ab2 q' rs' G' U' e96 R'
    have g97' : g' 254 97 = g0 254 97 := U'.2.2.2.2.2.2 254 97 rfl rfl
    have us' := U'.2.2.1.2.1
    refine ihA (g' 254 97 - g' 254 96).toNat ?_ _ _ h' g' r2 ab2 k' q' rs' G' a2 d2 U' R' rfl rfl rfl
    rw [← hAw]; omega
  -- an item of plain lines
  have sim : ∀ (x y : Nat), (∀ l ∈ vs, lin l) → JT ky L d g k s' rk as ls th st rs G vs → hmv at' k x y → hgts vs st.length = st.length - x + y → (∀ z, VI ky vs (as, ls, th, none, st, G) (.inr z) → fr k) → g0 277 k ≠ 11 → g0 277 k ≠ 12 → g0 277 k ≠ 16 → g0 277 k ≠ 17 → g0 277 k ≠ 18 → g0 277 k ≠ 20 → GOAL ky L n d h0 g0 h g (qp k).2 (((qp k).1 : Int), a, dd, r) := by
    intro x y hl J hm hh hv n11 n12 n16 n17 n18 n20
    obtain ⟨b1, b2, b3⟩ := hnx n18 n16
    exact u_simple U R hl Y b3 J hs b1 b2 ⟨by rw [hm.2, hh, kst], by rw [hm.2]⟩ (hfr n11 n17 n12 n20) hv a2 (fun h' g' a3 d3 r3 q' G' U' e96 R' => go1 (k + 1) h' g' a3 d3 r3 ab q' G' (Or.inl (Nat.lt_succ_self _)) n17 U' e96 R')
  have l1 : ∀ {o a b : Nat}, o ≤ 10 → ∀ l ∈ [(o, a, b)], lin l := fun ho l hl => by rw [List.mem_singleton] at hl; rw [hl]; exact Or.inl ho
  have two : 2 ≤ st.length → ∃ y x st', st = y :: x :: st' := by
    intro h2
    match st, h2 with
    | y :: x :: st', _ => exact ⟨y, x, st', rfl⟩
    | [_], h2 => rw [List.length_singleton] at h2; omega
    | [], h2 => rw [List.length_nil] at h2; omega
  have one : 1 ≤ st.length → ∃ x st', st = x :: st' := by
    intro h2
    match st, h2 with
    | x :: st', _ => exact ⟨x, st', rfl⟩
    | [], h2 => rw [List.length_nil] at h2; omega
  rcases K with ⟨e0, c1, c2, c3⟩ | ⟨e0, frk, c3, cl, pl, c4, c5, c6, c7, c8, c9⟩ | ⟨e0, frk, c1, c2, c3⟩ | ⟨e0, frk, c3, v, c4, c5, c6⟩ | ⟨e0, frk, c1, c3⟩ | ⟨e0, frk, c1, c3, c4⟩ | ⟨e0, frk, c1, c3⟩ | ⟨e0, frk, c1, c3⟩ | ⟨e0, frk, c, c1, c2, c4, c5, c6, c3⟩ | ⟨e0, frk, c, c1, c2, c4⟩ | ⟨e0, p, t, c1, c2, c3, c4, c5, c6⟩ | ⟨e0, c1, c2, c3, c4⟩ | ⟨e0, frk, c3, v, c4, c5, c6⟩ | ⟨e0, frk, c1, c3⟩ | ⟨e0, c3, x, y, t, c1, c2, c4, c5, c6, c7, c8, c9, c10, c11, c12⟩ | ⟨e0, y, t, c1, c2, c4, c5, c6, c7, c8, c9, c10, c11, c12⟩ | ⟨e0, p, t, tl, c1, c2, c3, c4, c5⟩ | ⟨e0, c1, c2, c3⟩ | ⟨e0, frk, c1, c3⟩ | ⟨e0, ⟨x, c1⟩, c2, c3⟩
  · -- numbers
    have hl : ∀ l ∈ vs, lin l := by
      rw [c2]
      split
      · intro l hl
        simp only [List.mem_cons, List.not_mem_nil, or_false] at hl
        rcases hl with rfl | rfl <;> exact Or.inl (by decide)
      · exact l1 (by decide)
    refine sim 0 1 hl (by rw [c2, ← x278]; exact ji_num M Bb hk5 hs hu (by rw [x277]; exact e0) (by rw [x278]; exact c1)) c3 (by rw [c2]; split <;> rfl) (fun z V => ?_) (by omega) (by omega) (by omega) (by omega) (by omega) (by omega)
    exfalso
    have V := V (fun _ => none)
    rw [c2] at V
    by_cases q : g0 278 k < 0
    · rw [if_pos q] at V
      have V : v_ps 360 st ((0 : Nat) : Int) (fun st => v_p1 st fun x st => none) = some (.inr z.1, z.2) := V
      rw [v_ps_ok (by omega)] at V; cases V
    · rw [if_neg q] at V
      have V : v_ps 360 st (((g0 278 k).toNat : Nat) : Int) (fun st => none) = some (.inr z.1, z.2) := V
      rw [v_ps_ok (by omega)] at V; cases V
  · -- strings
    refine sim 0 1 ?_ (by rw [c4]; exact ji_str M Bb hk5 hs hu (by rw [x277]; exact e0) c5 (by rw [x279]; exact c6) (by rw [x303]; exact c7) c8 (by rw [x304]; exact c9)) c3 ?_ (fun _ _ => frk) (by omega) (by omega) (by omega) (by omega) (by omega) (by omega)
    · rw [c4]
      intro l hl
      rcases List.mem_cons.1 hl with hl | hl
      · rw [hl]; exact Or.inl (Nat.zero_le _)
      · rcases List.mem_cons.1 hl with hl | hl
        · rw [hl]; exact Or.inr (Or.inr (Or.inr (Or.inr rfl)))
        · exact lin_ch cl l hl
    · rw [c4]
      show hgts (chN cl) (st.length + 1 - 1 + 1) = _
      rw [show st.length + 1 - 1 + 1 = st.length + 1 by omega, hgts_ch]; rfl
  · exact sim 0 1 (by rw [c1]; exact l1 (by decide)) (by rw [c1]; exact ji_this M Bb hk5 hs hu k40 rt (by rw [x277]; exact e0) (by rw [x264]; exact c2)) c3 (by rw [c1]; rfl) (fun _ _ => frk) (by omega) (by omega) (by omega) (by omega) (by omega) (by omega)
  · exact sim 0 1 (by rw [c6]; exact (lin_ld g0 s' v).1) (by rw [c6, ← (xl v).1]; exact ji_var M Bb hk5 hs hu k40 ra rl rt (by rw [x277]; exact e0) (by rw [x278]; exact c4) (c5.fr xs)) c3 (by rw [c6, (lin_ld g0 s' v).2.2.1]; rfl) (fun _ _ => frk) (by omega) (by omega) (by omega) (by omega) (by omega) (by omega)
  · obtain ⟨y, x, st', rfl⟩ := two (by rw [kst]; exact c3.1)
    rw [List.length_cons, List.length_cons] at hs hu
    refine sim 2 1 ?_ (by rw [c1]; exact ji_idx M Bb hk5 (by omega) (by omega) (rst x (by simp)) (rst y (by simp)) (by rw [x277]; exact e0)) c3 (by rw [c1]; rfl) (fun _ _ => frk) (by omega) (by omega) (by omega) (by omega) (by omega) (by omega)
    rw [c1]
    intro l hl
    simp only [List.mem_cons, List.not_mem_nil, or_false] at hl
    rcases hl with rfl | rfl
    · exact Or.inl (by decide)
    · exact Or.inr (Or.inl rfl)
  · obtain ⟨y, x, st', rfl⟩ := two (by rw [kst]; exact c3.1)
    rw [List.length_cons, List.length_cons] at hs hu
    exact sim 2 1 (by rw [c1]; exact (lin_op _).1) (by rw [c1, ← x278]; exact ji_sign M Bb hk5 (by omega) (by omega) (rst x (by simp)) (rst y (by simp)) (by rw [x277]; exact e0) (by rw [x278]; exact c4)) c3 (by rw [c1]; exact (lin_op _).2 st'.length) (fun _ _ => frk) (by omega) (by omega) (by omega) (by omega) (by omega) (by omega)
  · obtain ⟨x, st', rfl⟩ := one (by rw [kst]; exact c3.1)
    rw [List.length_cons] at hs hu
    exact sim 1 1 (by rw [c1]; exact l1 (by decide)) (by rw [c1]; exact ji_neg M Bb hk5 (by omega) (by omega) (rst x (by simp)) (by rw [x277]; exact e0)) c3 (by rw [c1]; rfl) (fun _ _ => frk) (by omega) (by omega) (by omega) (by omega) (by omega) (by omega)
  · obtain ⟨x, st', rfl⟩ := one (by rw [kst]; exact c3.1)
    rw [List.length_cons] at hs hu
    exact sim 1 1 (by rw [c1]; exact l1 (by decide)) (by rw [c1]; exact ji_not M Bb hk5 (by omega) (by omega) (rst x (by simp)) (by rw [x277]; exact e0)) c3 (by rw [c1]; rfl) (fun _ _ => frk) (by omega) (by omega) (by omega) (by omega) (by omega) (by omega)
  · -- an object
    have eo : obN g s' c = obN g0 s' c := by unfold obN; rw [x285, x286, (xl _).1]
    refine sim 0 _ ?_ (by rw [c6, ← eo]; exact ji_obj M Bb hk5 hs hu k40 ra rl rt (by rw [x277]; exact e0) (by rw [x278]; exact c1) c2 (by rw [x285, x286]; exact fun z => ⟨(c4 z).1, (c4 z).2.fr xs⟩) (by rw [x285, x264]; exact c5)) c3 ?_ (fun _ _ => frk) (by omega) (by omega) (by omega) (by omega) (by omega) (by omega)
    · rw [c6]; unfold obN
      split
      · exact (lin_ld g0 s' _).1
      · split
        · exact l1 (by decide)
        · intro l hl; cases hl
    · rw [c6]; unfold obN
      by_cases z1 : g0 285 c = 1
      · rw [if_pos z1, if_pos (Or.inl z1), (lin_ld g0 s' _).2.2.1]; rfl
      · rw [if_neg z1]
        by_cases z2 : g0 285 c = 2
        · rw [if_pos z2, if_pos (Or.inr z2)]; rfl
        · rw [if_neg z2, if_neg (by omega)]; rfl
  · -- calls
    rcases c4 with ⟨ci, li, u, nn, d1, d2, d3, d4, d5, d6, d7, d8⟩ | ⟨u, d1, d2, d3, d4, d5⟩
    · refine sim nn 1 ?_ (by rw [d7]; exact ji_sys M Bb hk5 hs hu rst (by rw [x277]; exact e0) (by rw [x278]; exact c1) c2 (by rw [x287]; exact d1) d2 (by rw [x288, x297]; exact d3) (by rw [x288]; exact d4) (by rw [x284, x285]; exact d5) (by rw [x284]; exact d6) (by rw [kst]; exact d8.1)) d8 (by rw [d7]; rfl) (fun _ _ => frk) (by omega) (by omega) (by omega) (by omega) (by omega) (by omega)
      rw [d7]
      intro l hl
      rw [List.mem_singleton] at hl; rw [hl]; exact Or.inr (Or.inr (Or.inr (Or.inr rfl)))
    · obtain ⟨m', nl, k1, ⟨s1, s2, s3⟩, s4, ⟨s5, s6, s7, s8⟩, s9, s10, s11, s12, s13, s14⟩ := d3
      obtain ⟨b1, b2, b3⟩ := hnx (by omega) (by omega)
      rw [d4] at Y b3
      have hdE : hdN g u = hdN g0 u := by unfold hdN; rw [x264, x263, x262]
      have s2' : lat h lab fs gv 1 (fs (bs + u), 0) (14, bs + u, nl) := by
        obtain ⟨y1, y2, y3⟩ := s2
        exact ⟨y1.eq e13 e16, by rw [e16]; exact y2, y3⟩
      exact u_call (wp := fun k => (qp k).1) (c := c) (u := u) (m := gv (bs + u)) (m' := m') (nl := nl) (k1 := k1) (bs := bs) (q2 := qp k1) U R Y (by rw [x277]; exact e0) hk5 (by rw [x278]; exact c1) c2 (by rw [x287]; exact d1) (by rw [x288]; exact d2) s1 s2' s3 rfl (by rw [x267]; exact s5) s6 (by rw [x268]; exact s7) s8 (by rw [x264]; exact s9) (by rw [x264]; exact s4) (by rw [kst]; exact d5.1) (by rw [x269]; exact s10) (by rw [x264, x263]; exact fun z => (s12 z).1) (by rw [x264, x263, x262]; exact fun z => (s12 z).2) (by rw [hdE]; exact s13.eq e13 e16) (by rw [hdE]; exact s14) b1 b2 e0 d5.2 s11 (by show (qp (k + 1)).1 = _; rw [b3]; rfl) frk a2 hs hu (fun h' g' a3 d3 r3 ab2 q' rs' G' U' e96 R' => go2 k1 h' g' a3 d3 r3 ab2 q' rs' G' U' e96 R')
  · -- a statement begins
    obtain ⟨b1, b2, b3⟩ := hnx (by omega) (by omega)
    rw [c1] at Y b3
    have e22 : (qp (k + 1)).2 = p + 3 := by rw [b3]; rfl
    have mk1 : h 16 (qp (k + 1)).1 = ((p + 3 : Nat) : Int) := by
      obtain ⟨_, _, _, _, _, z, _⟩ := ST (k + 1) b1
      rw [e16, ← e22]; exact z (by omega)
    exact u_begin (q2 := qp (k + 1)) U R Y b3 mk1 c2 (by rw [x277]; exact e0) hk5 b1 b2 (by rw [x303]; exact c3) c4 c5 c6 (fun h' g' a3 U' e96 R' => go2 (k + 1) h' g' a3 dd r ab _ rs G U' e96 R')
  · obtain ⟨b1, b2, b3⟩ := hnx (by omega) (by omega)
    rw [c1] at b3
    have b3 : qp (k + 1) = qp k := b3
    refine u_done U R (by rw [x277]; exact e0) hk5 b1 b2 ⟨c2, c3⟩ c4 a2 (fun g' U' e96 => ?_)
    have := go1 (k + 1) h g' a dd r ab _ G (Or.inl (Nat.lt_succ_self _)) (by omega) U' e96 (by rw [b3]; exact R)
    rw [b3] at this; exact this
  · obtain ⟨x, st', rfl⟩ := one (by rw [kst]; exact c3.1)
    rw [List.length_cons] at hs hu
    exact sim 1 0 (by rw [c6]; exact (lin_ld g0 s' v).2.1) (by rw [c6, ← (xl v).2]; exact ji_store M Bb hk5 (by omega) (by omega) k40 (rst x (by simp)) rt (by rw [x277]; exact e0) (by rw [x278]; exact c4) (c5.fr xs)) c3 (by rw [c6, List.length_cons, (lin_ld g0 s' v).2.2.2]; rfl) (fun _ _ => frk) (by omega) (by omega) (by omega) (by omega) (by omega) (by omega)
  · obtain ⟨y, x, st', rfl⟩ := two (by rw [kst]; exact c3.1)
    rw [List.length_cons, List.length_cons] at hs hu
    refine sim 2 0 ?_ (by rw [c1]; exact ji_storeAt M Bb hk5 (by omega) (rst x (by simp)) (rst y (by simp)) (by rw [x277]; exact e0)) c3 (by rw [c1]; rfl) (fun _ _ => frk) (by omega) (by omega) (by omega) (by omega) (by omega) (by omega)
    rw [c1]
    intro l hl
    simp only [List.mem_cons, List.not_mem_nil, or_false] at hl
    rcases hl with rfl | rfl
    · exact Or.inl (by decide)
    · exact Or.inr (Or.inr (Or.inl rfl))
  · -- where the value is 0
    obtain ⟨v, st', rfl⟩ := one (by rw [kst]; exact c3.1)
    obtain ⟨b1, b2, b3⟩ := hnx (by omega) (by omega)
    rw [c1] at Y b3
    rw [List.length_cons] at hs hu kst
    exact u_false (q2 := qp (k + 1)) (q3 := qp (t + 1)) U R Y b3 (by rw [x277]; exact e0) hk5 (by omega) (by rw [x278]; exact c2) c4 (by rw [x277]; exact c5) b1 b2 c6 c7 c8 c9 (by rw [c3.2, ← kst]; rfl) (by rw [c10, ← kst]; rfl) (hfr (by omega) (by omega) (by omega) (by omega)) c11 (fun g' a3 d3 r3 U' e96 R' => go1 (k + 1) h g' a3 d3 r3 ab _ G (Or.inl (Nat.lt_succ_self _)) (by omega) U' e96 R') (fun g' a3 d3 r3 U' e96 R' => go1 (t + 1) h g' a3 d3 r3 ab _ G (Or.inl c12) (by omega) U' e96 R')
  · -- jumps
    rw [c1] at Y
    exact u_jump (q2 := qp (t + 1)) U R Y (by rw [x277]; exact e0) hk5 (by rw [x278]; exact c2) c4 (by rw [x277]; exact c5) c6 c7 c8 c9 c10 c11 (fun g' a3 U' e96 R' => go1 (t + 1) h g' a3 dd r ab _ G c12 (by omega) U' e96 R')
  · -- a loop asks
    obtain ⟨b1, b2, b3⟩ := hnx (by omega) (by omega)
    rw [c1] at Y b3
    have e22 : (qp (k + 1)).2 = p + 3 := by rw [b3]; rfl
    have mk1 : h 16 (qp (k + 1)).1 = ((p + 3 : Nat) : Int) := by
      obtain ⟨_, _, _, _, _, z, _⟩ := ST (k + 1) b1
      rw [e16, ← e22]; exact z (by omega)
    exact u_ask (q2 := qp (k + 1)) U R Y b3 mk1 c2 (by rw [x277]; exact e0) hk5 b1 b2 c3 ⟨c4, c5⟩ a2 (fun h' g' a3 U' e96 R' => go2 (k + 1) h' g' a3 dd r ab _ rs G U' e96 R')
  · -- returns
    rw [c1] at Y
    have pz : ∀ rk, rk < N → 1 ≤ rk → g0 277 (rk - 1) = 10 → (qp rk).1 < 32768 ∧ (qp rk).2 = 0 := by
      intro rk h1 h2 h3
      obtain ⟨sx, vx, z1, z2, z3, z4, z5, z6, z7, z8⟩ := ST (rk - 1) (by omega)
      obtain ⟨y1, y2, y3⟩ := z6 (by omega) (by omega)
      rw [show rk - 1 + 1 = rk by omega] at y3
      have vv : ∃ u m : Nat, vx = [(15, u, m)] := by
        unfold KD at z8
        rcases z8 with z8 | z8 | z8 | z8 | z8 | z8 | z8 | z8 | z8 | z8 | z8 | z8 | z8 | z8 | z8 | z8 | z8 | z8 | z8 | z8 <;> first | (exfalso; have := z8.1; omega) | skip
        obtain ⟨-, -, c, -, -, z | z⟩ := z8
        · obtain ⟨ci, li, u, nn, -, -, -, -, -, -, z, -⟩ := z; exact ⟨u, nn, z⟩
        · obtain ⟨u, -, -, -, z, -⟩ := z; exact ⟨_, _, z⟩
      obtain ⟨u, m, rfl⟩ := vv
      rw [y3]
      exact ⟨z3.2.2.1, rfl⟩
    cases rs with
    | nil => exact u_ret0 U R Y c2 (by rw [x277]; exact e0) hk5 c3 hw0 (fun h' a3 d3 r3 i1 i2 i3 i4 i5 i6 i7 => HB h' G a3 d3 r3 i1 (i2.trans e13) (i3.trans e16) i4 i5 i6 i7)
    | cons f rs =>
      refine u_ret (wp := fun k => (qp k).1) U R Y c2 (by rw [x277]; exact e0) hk5 (by omega) c3 rst a2 (fun rk h1 h2 h3 => (pz rk h1 h2 h3).1) (fun h' g' a3 d3 r3 ab2 q' U' e96 p1 p2 R' => ?_)
      have g97' : g' 254 97 = g0 254 97 := U'.2.2.2.2.2.2 254 97 rfl rfl
      have rkN : rk < N := U'.2.2.2.2.1.1.1
      have := ihB rs.length (by rw [← hB, List.length_cons]; omega) _ h' g' r3 ab2 rk q' rs G a3 d3 U' R' (by rw [g97', e96, ← g97]; exact hAw) rfl rfl
      rw [(pz rk rkN p1 p2).2] at this
      exact this
  · obtain ⟨x, st', rfl⟩ := one (by rw [kst]; exact c3.1)
    rw [List.length_cons] at hs hu
    exact sim 1 0 (by rw [c1]; exact l1 (by decide)) (by rw [c1]; exact ji_drop M Bb hk5 (by omega) (by rw [x277]; exact e0)) c3 (by rw [c1]; rfl) (fun _ _ => frk) (by omega) (by omega) (by omega) (by omega) (by omega) (by omega)
  · obtain ⟨b1, b2, b3⟩ := hnx (by omega) (by omega)
    rw [c1] at Y b3
    exact u_label (q2 := qp (k + 1)) U R Y b3 (by rw [x277]; exact e0) hk5 b1 b2 c2 c3 (fun g' a3 U' e96 R' => go1 (k + 1) h g' a3 dd r ab _ G (Or.inl (Nat.lt_succ_self _)) (by omega) U' e96 R')
end
