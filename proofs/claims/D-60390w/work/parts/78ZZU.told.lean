/-! PURE LAYER, 126: the commands that the component tells are those of the model's items -/
/-- an object's command -/
def oL (V : Nat → Int) (S : am_H) (a : Nat) : List (Int × Int × Int) := if S 282 a = -1 then [(0, 6, 0)] else if m_var V S (S 289 a) (S 282 a).toNat = -1 then [] else [(0, ce_lseg (kdv S (m_var V S (S 289 a) (S 282 a).toNat).toNat), nov S (m_var V S (S 289 a) (S 282 a).toNat).toNat)]
/-- the commands of an item -/
def lS (K P V sc ss : Nat → Int) (cs : Nat → Nat) (b21 : Nat) (c0 S : am_H) (k : Nat) : List (Int × Int × Int) :=
  match (S 277 k).toNat with
  | 0 => if S 278 k < 0 then [(0, 0, 0), (7, 0, 0)] else [(0, 0, S 278 k)]
  | 1 => (0, 0, V (S 280 k).toNat) :: (15, c0 222 (sysS c0 30 31).toNat, 1) :: chE c0 (sysS c0 30 32) (P (S 280 k).toNat + 1).toNat true (V (S 280 k).toNat).toNat 0
  | 3 => [(0, 6, 0)]
  | 4 => [(0, ce_lseg (kdv S (m_var V S (S 281 k) (S 280 k).toNat).toNat), nov S (m_var V S (S 281 k) (S 280 k).toNat).toNat)]
  | 5 => [(2, 0, 0), (1, 6, 1), (0, 5, 0)]
  | 6 => opE c0 (S 278 k) true
  | 7 => [(4, 0, 0)]
  | 8 => [(7, 0, 0)]
  | 9 => oL V S (S 278 k).toNat
  | 10 => [(15, c0 222 (sm b21 cs (m_kc K V sc S (S 278 k).toNat) (m_sof V ss S (m_kc K V sc S (S 278 k).toNat) (S 283 (S 278 k).toNat).toNat)).toNat, if 0 < m_ko V S (S 278 k).toNat then S 284 (S 278 k).toNat + 1 else S 284 (S 278 k).toNat)]
  | 13 => [(1, ce_lseg (kdv S (m_var V S (S 281 k) (S 280 k).toNat).toNat), nov S (m_var V S (S 281 k) (S 280 k).toNat).toNat)]
  | 14 => [(1, 7, 0), (1, 6, 1), (0, 7, 0), (1, 5, 0)]
  | 15 => [(0, 0, 0), (8, 0, 0), (13, S 279 k, 0)]
  | 16 => [(12, S 279 k, 0)]
  | 18 => [(16, 0, 0)]
  | 19 => [(1, 7, 0)]
  | 20 => [(11, S 278 k, 0)]
  | _ => []
/-- the commands ahead of a sub's items -/
def lH (b21 : Nat) (c0 S : am_H) (s : Nat) : List (Int × Int × Int) := (14, c0 222 (b21 + s), S 268 s) :: (if S 264 s = 3 then [(0, 1, 0), (1, 6, 0)] else if S 264 s = 1 then [(0, 0, if S 262 (S 263 s).toNat ≤ 1 then 1 else S 262 (S 263 s).toNat), (15, c0 222 (sysS c0 28 29).toNat, 1), (1, 6, 0)] else [])
def rgn {α : Type} (f : Nat → List α) (a : Nat) : Nat → List α
  | 0 => []
  | m + 1 => rgn f a m ++ f (a + m)
theorem rgn_add {α : Type} (f : Nat → List α) (a m : Nat) : ∀ n, rgn f a (m + n) = rgn f a m ++ rgn f (a + m) n
  | 0 => by show rgn f a m = rgn f a m ++ []; rw [List.append_nil]
  | n + 1 => by
    show rgn f a (m + n) ++ f (a + (m + n)) = rgn f a m ++ (rgn f (a + m) n ++ f (a + m + n))
    rw [rgn_add f a m n, List.append_assoc, show a + (m + n) = a + m + n by omega]
/-- all commands of the first subs, up to an item -/
def tU {α : Type} (hd it : Nat → List α) (fi : Nat → Int) : Nat → Nat → List α
  | 0, _ => []
  | s + 1, cnt => tU hd it fi s (fi s).toNat ++ hd s ++ rgn it (fi s).toNat (cnt - (fi s).toNat)
/-- calls that are open, in the tables of the end -/
def rqS (S : am_H) (sub : Int) : List Int → List (Int × Int × Nat) → Prop
  | [], [] => True
  | c :: cs, q :: qs => (0 ≤ c ∧ c < S 254 39 ∧ S 282 c.toNat = (if q.1 = q.2.1 then -1 else q.1) ∧ S 283 c.toNat = q.2.1 ∧ S 289 c.toNat = sub) ∧ rqS S sub cs qs
  | _, _ => False
section
variable {S c0 : am_H} {K P V sc ss : Nat → Int} {cs : Nat → Nat} {b21 b15 : Nat} {e : gx_V} {p p' : pr_S} {s s' : mi_S}
theorem lS_0 {k : Nat} (h : S 277 k = 0) : lS K P V sc ss cs b21 c0 S k = if S 278 k < 0 then [(0, 0, 0), (7, 0, 0)] else [(0, 0, S 278 k)] := by unfold lS; rw [h]; rfl
theorem lS_1 {k : Nat} (h : S 277 k = 1) : lS K P V sc ss cs b21 c0 S k = (0, 0, V (S 280 k).toNat) :: (15, c0 222 (sysS c0 30 31).toNat, 1) :: chE c0 (sysS c0 30 32) (P (S 280 k).toNat + 1).toNat true (V (S 280 k).toNat).toNat 0 := by unfold lS; rw [h]; rfl
theorem lS_3 {k : Nat} (h : S 277 k = 3) : lS K P V sc ss cs b21 c0 S k = [(0, 6, 0)] := by unfold lS; rw [h]; rfl
theorem lS_4 {k : Nat} (h : S 277 k = 4) : lS K P V sc ss cs b21 c0 S k = [(0, ce_lseg (kdv S (m_var V S (S 281 k) (S 280 k).toNat).toNat), nov S (m_var V S (S 281 k) (S 280 k).toNat).toNat)] := by unfold lS; rw [h]; rfl
theorem lS_5 {k : Nat} (h : S 277 k = 5) : lS K P V sc ss cs b21 c0 S k = [(2, 0, 0), (1, 6, 1), (0, 5, 0)] := by unfold lS; rw [h]; rfl
theorem lS_6 {k : Nat} (h : S 277 k = 6) : lS K P V sc ss cs b21 c0 S k = opE c0 (S 278 k) true := by unfold lS; rw [h]; rfl
theorem lS_7 {k : Nat} (h : S 277 k = 7) : lS K P V sc ss cs b21 c0 S k = [(4, 0, 0)] := by unfold lS; rw [h]; rfl
theorem lS_8 {k : Nat} (h : S 277 k = 8) : lS K P V sc ss cs b21 c0 S k = [(7, 0, 0)] := by unfold lS; rw [h]; rfl
theorem lS_9 {k : Nat} (h : S 277 k = 9) : lS K P V sc ss cs b21 c0 S k = oL V S (S 278 k).toNat := by unfold lS; rw [h]; rfl
theorem lS_10 {k : Nat} (h : S 277 k = 10) : lS K P V sc ss cs b21 c0 S k = [(15, c0 222 (sm b21 cs (m_kc K V sc S (S 278 k).toNat) (m_sof V ss S (m_kc K V sc S (S 278 k).toNat) (S 283 (S 278 k).toNat).toNat)).toNat, if 0 < m_ko V S (S 278 k).toNat then S 284 (S 278 k).toNat + 1 else S 284 (S 278 k).toNat)] := by unfold lS; rw [h]; rfl
theorem lS_11 {k : Nat} (h : S 277 k = 11) : lS K P V sc ss cs b21 c0 S k = [] := by unfold lS; rw [h]; rfl
theorem lS_12 {k : Nat} (h : S 277 k = 12) : lS K P V sc ss cs b21 c0 S k = [] := by unfold lS; rw [h]; rfl
theorem lS_13 {k : Nat} (h : S 277 k = 13) : lS K P V sc ss cs b21 c0 S k = [(1, ce_lseg (kdv S (m_var V S (S 281 k) (S 280 k).toNat).toNat), nov S (m_var V S (S 281 k) (S 280 k).toNat).toNat)] := by unfold lS; rw [h]; rfl
theorem lS_14 {k : Nat} (h : S 277 k = 14) : lS K P V sc ss cs b21 c0 S k = [(1, 7, 0), (1, 6, 1), (0, 7, 0), (1, 5, 0)] := by unfold lS; rw [h]; rfl
theorem lS_15 {k : Nat} (h : S 277 k = 15) : lS K P V sc ss cs b21 c0 S k = [(0, 0, 0), (8, 0, 0), (13, S 279 k, 0)] := by unfold lS; rw [h]; rfl
theorem lS_16 {k : Nat} (h : S 277 k = 16) : lS K P V sc ss cs b21 c0 S k = [(12, S 279 k, 0)] := by unfold lS; rw [h]; rfl
theorem lS_17 {k : Nat} (h : S 277 k = 17) : lS K P V sc ss cs b21 c0 S k = [] := by unfold lS; rw [h]; rfl
theorem lS_18 {k : Nat} (h : S 277 k = 18) : lS K P V sc ss cs b21 c0 S k = [(16, 0, 0)] := by unfold lS; rw [h]; rfl
theorem lS_19 {k : Nat} (h : S 277 k = 19) : lS K P V sc ss cs b21 c0 S k = [(1, 7, 0)] := by unfold lS; rw [h]; rfl
theorem lS_20 {k : Nat} (h : S 277 k = 20) : lS K P V sc ss cs b21 c0 S k = [(11, S 278 k, 0)] := by unfold lS; rw [h]; rfl
theorem mi_put_lo (k a b t : Int) (g : am_H) {j : Nat} (hj : j ≠ (g 254 33).toNat) (x : Nat) (hx : 277 ≤ x ∧ x ≤ 281) : mi_put k a b t g x j = g x j := by
  unfold mi_put
  rw [p_up_c _ _ _ _ _ (by omega), p_up_n _ _ _ _ _ _ (Or.inr hj), p_up_n _ _ _ _ _ _ (Or.inr hj), p_up_n _ _ _ _ _ _ (Or.inr hj), p_up_n _ _ _ _ _ _ (Or.inr hj), p_up_n _ _ _ _ _ _ (Or.inr hj)]
theorem mi_blk_c2 (k : Nat) (a b c e : Int) (g : am_H) (x : Nat) (hx : 277 ≤ x ∧ x ≤ 281) : mi_blk k a b c e g x = g x := by
  unfold mi_blk
  rw [p_up_c _ _ _ _ _ (by omega), p_up_c _ _ _ _ _ (by omega), p_up_c _ _ _ _ _ (by omega), p_up_c _ _ _ _ _ (by omega), p_up_c _ _ _ _ _ (by omega)]
/-- what an event within a body tells -/
theorem lE_ev (he : e.1 ≤ 34) (hp : pr pw K V e p = .inr p') (hm : mi V e s = .inr s') (Rv : rv K p s) (Rm : rm p s) (Rm' : rm p' s') (M : mx s'.1 S) (Y : my s'.1 S) {st : List (Int × Int × Int × Int)} (B : bw S (s.1 254 33) p.2.1 s.2.2.2.1 st) (RQ : rqS S ((p.1 3 : Int) - 1) s.2.2.2.2 p.2.2.1) (O : po K p) (HK : ∀ k : Nat, (k : Int) < S 254 39 → pr_cs K V (S 283 k).toNat (S 284 k)) (hV : ∀ i, i < 1000 → K i = 3 → 0 ≤ V i) (l t : Int) (ht : e.1 = 24 ∨ e.1 = 30 → t = s.1 254 50) :
    (oE K P V sc ss cs b21 b15 S c0 e p l t st).2.1 = rgn (lS K P V sc ss cs b21 c0 S) (s.1 254 33).toNat (pw 0 e.1) ∧ rqS S ((p'.1 3 : Int) - 1) s'.2.2.2.2 p'.2.2.1 := by
  have p9 := pr_body9 he hp
  have e3 : p'.1 3 = p.1 3 := pz_ev he hp 3 (by decide)
  have h33 : 0 ≤ s.1 254 33 := Rv.1.2.2.2.1.1
  have c33 : s'.1 254 33 = s.1 254 33 + (pw 0 e.1 : Int) := by
    have a := Rm.1
    have b := Rm'.1
    have w := pr_wt hp 0
    omega
  obtain ⟨g, ty, so, bs, oc⟩ := s
  obtain ⟨n, x, y, z⟩ := e
  dsimp only at h33 c33 B RQ ht he
  obtain ⟨N, hN⟩ : ∃ N : Nat, g 254 33 = (N : Int) := ⟨(g 254 33).toNat, by omega⟩
  have iN : (g 254 33).toNat = N := by omega
  have g17 : g 254 17 = (p.1 3 : Int) := Rv.2.1.2.1
  -- rows of the end, from rows behind this event
  have row : ∀ (j : Nat) (k a b tt u : Int), N ≤ j → j < N + pw 0 n → s'.1 277 j = k → s'.1 278 j = a → s'.1 279 j = b → s'.1 280 j = tt → s'.1 281 j = u → S 277 j = k ∧ (k ≠ 15 → k ≠ 16 → S 278 j = a) ∧ S 279 j = b ∧ S 280 j = tt ∧ S 281 j = u := by
    intro j k a b tt u j1 j2 r1 r2 r3 r4 r5
    have lt : (j : Int) < s'.1 254 33 := by omega
    have y := Y.2 j lt
    refine ⟨by rw [M.2 277 33 rfl j lt, r1], fun z1 z2 => ?_, by rw [y.1, r3], by rw [M.2 280 33 rfl j lt, r4], by rw [M.2 281 33 rfl j lt, r5]⟩
    rw [y.2 (by rw [r1]; exact z1) (by rw [r1]; exact z2), r2]
  -- one item
  have one : ∀ (k a b tt : Int) (g0 : am_H), g0 254 33 = g 254 33 → g0 254 17 = g 254 17 → (∀ c, 277 ≤ c → c ≤ 281 → s'.1 c = mi_put k a b tt g0 c) → pw 0 n = 1 → S 277 N = k ∧ (k ≠ 15 → k ≠ 16 → S 278 N = a) ∧ S 279 N = b ∧ S 280 N = tt ∧ S 281 N = (p.1 3 : Int) - 1 := by
    intro k a b tt g0 e0 e1 es hw
    obtain ⟨w1, w2, w3, w4, w5⟩ := mi_put_277 k a b tt g0
    rw [e0, iN] at w1 w2 w3 w4 w5
    refine row N k a b tt _ (Nat.le_refl _) (by omega) (by rw [es 277 (by omega) (by omega)]; exact w1) (by rw [es 278 (by omega) (by omega)]; exact w4) (by rw [es 279 (by omega) (by omega)]; exact w5) (by rw [es 280 (by omega) (by omega)]; exact w2) (by rw [es 281 (by omega) (by omega), w3, e1, g17])
  have rq0 : s'.2.2.2.2 = oc → p'.2.2.1 = p.2.2.1 → rqS S ((p'.1 3 : Int) - 1) s'.2.2.2.2 p'.2.2.1 := fun a b => by rw [e3, a, b]; exact RQ
  -- a simple item
  have simp1 : ∀ (k a b tt : Int), mi V (n, x, y, z) (g, ty, so, bs, oc) = mi_h (g, ty, so, bs, oc) (mi_add k a b tt g) → pw 0 n = 1 → p'.2.2.1 = p.2.2.1 → (S 277 N = k ∧ (k ≠ 15 → k ≠ 16 → S 278 N = a) ∧ S 279 N = b ∧ S 280 N = tt ∧ S 281 N = (p.1 3 : Int) - 1) ∧ rqS S ((p'.1 3 : Int) - 1) s'.2.2.2.2 p'.2.2.1 := by
    intro k a b tt em hw hq
    rw [em] at hm
    obtain ⟨g1, w1, w2⟩ := mi_h_in hm
    have eg := mi_add_in w1
    refine ⟨one k a b tt g rfl rfl (fun c _ _ => by rw [w2, eg]) hw, rq0 (by rw [w2]) hq⟩
  have rg1 : ∀ {L1 : List (Int × Int × Int)}, L1 = lS K P V sc ss cs b21 c0 S N → L1 = rgn (lS K P V sc ss cs b21 c0 S) N 1 := fun h => by
    show _ = [] ++ lS K P V sc ss cs b21 c0 S (N + 0)
    rw [List.nil_append]; exact h
  have rg2 : ∀ {L1 : List (Int × Int × Int)}, L1 = lS K P V sc ss cs b21 c0 S N ++ lS K P V sc ss cs b21 c0 S (N + 1) → L1 = rgn (lS K P V sc ss cs b21 c0 S) N 2 := fun h => by
    show _ = ([] ++ lS K P V sc ss cs b21 c0 S (N + 0)) ++ lS K P V sc ss cs b21 c0 S (N + 1)
    rw [List.nil_append]; exact h
  -- two items
  have two : ∀ (k a b tt k2 a2 b2 t2 : Int) (g0 x1 x2 : am_H), g0 254 33 = g 254 33 → True → x1 254 33 = g 254 33 + 1 → (∀ c, 277 ≤ c → c ≤ 279 → ∀ j, j = N → x1 c j = mi_put k a b tt g0 c j) → (∀ c, 277 ≤ c → c ≤ 279 → ∀ j, j = N ∨ j = N + 1 → x2 c j = mi_put k2 a2 b2 t2 x1 c j) → (∀ c, 277 ≤ c → c ≤ 279 → ∀ j, j = N ∨ j = N + 1 → s'.1 c j = x2 c j) → pw 0 n = 2 → S 277 N = k ∧ S 279 N = b ∧ S 277 (N + 1) = k2 ∧ (k2 ≠ 15 → k2 ≠ 16 → S 278 (N + 1) = a2) ∧ (k ≠ 15 → k ≠ 16 → S 278 N = a) := by
    intro k a b tt k2 a2 b2 t2 g0 x1 x2 e0 _ e1 c1 c2 c3 hw
    obtain ⟨w1, w2, w3, w4, w5⟩ := mi_put_277 k a b tt g0
    rw [e0, iN] at w1 w4 w5
    obtain ⟨v1, v2, v3, v4, v5⟩ := mi_put_277 k2 a2 b2 t2 x1
    have iN1 : (x1 254 33).toNat = N + 1 := by omega
    rw [iN1] at v1 v4 v5
    have lo : ∀ c, 277 ≤ c → c ≤ 279 → s'.1 c N = mi_put k a b tt g0 c N := fun c h1 h2 => by
      rw [c3 c h1 h2 N (Or.inl rfl), c2 c h1 h2 N (Or.inl rfl), mi_put_lo _ _ _ _ _ (by omega) c (by omega), c1 c h1 h2 N rfl]
    have hi : ∀ c, 277 ≤ c → c ≤ 279 → s'.1 c (N + 1) = mi_put k2 a2 b2 t2 x1 c (N + 1) := fun c h1 h2 => by
      rw [c3 c h1 h2 (N + 1) (Or.inr rfl), c2 c h1 h2 (N + 1) (Or.inr rfl)]
    obtain ⟨r1, r2, r3, -⟩ := row N k a b (s'.1 280 N) (s'.1 281 N) (Nat.le_refl _) (by omega) (by rw [lo 277 (by omega) (by omega)]; exact w1) (by rw [lo 278 (by omega) (by omega)]; exact w4) (by rw [lo 279 (by omega) (by omega)]; exact w5) rfl rfl
    obtain ⟨q1, q2, q3, -⟩ := row (N + 1) k2 a2 b2 (s'.1 280 (N + 1)) (s'.1 281 (N + 1)) (by omega) (by omega) (by rw [hi 277 (by omega) (by omega)]; exact v1) (by rw [hi 278 (by omega) (by omega)]; exact v4) (by rw [hi 279 (by omega) (by omega)]; exact v5) rfl rfl
    exact ⟨r1, r3, q1, q2, r2⟩
  have rfl' : True := trivial
  -- two plain items
  have simp2 : ∀ (k a b tt k2 a2 b2 t2 : Int), mi V (n, x, y, z) (g, ty, so, bs, oc) = mi_h (g, ty, so, bs, oc) (gx_b (mi_add k a b tt g) (mi_add k2 a2 b2 t2)) → pw 0 n = 2 → p'.2.2.1 = p.2.2.1 → (S 277 N = k ∧ (k ≠ 15 → k ≠ 16 → S 278 N = a) ∧ S 279 N = b ∧ S 280 N = tt ∧ S 281 N = (p.1 3 : Int) - 1) ∧ S 277 (N + 1) = k2 ∧ rqS S ((p'.1 3 : Int) - 1) s'.2.2.2.2 p'.2.2.1 := by
    intro k a b tt k2 a2 b2 t2 em hw hq
    rw [em] at hm
    obtain ⟨g1, w1, w2⟩ := mi_h_in hm
    obtain ⟨g2, w3, w4⟩ := gx_b_ok w1
    have eg2 := mi_add_in w3
    have eg := mi_add_in w4
    obtain ⟨v1, v2, v3, v4, v5⟩ := mi_put_277 k a b tt g
    rw [iN] at v1 v2 v3 v4 v5
    have i2 : (g2 254 33).toNat = N + 1 := by rw [eg2, mi_put_33]; omega
    have lo : ∀ c, 277 ≤ c → c ≤ 281 → s'.1 c N = mi_put k a b tt g c N := fun c h1 h2 => by
      rw [w2]; dsimp only; rw [eg, mi_put_lo _ _ _ _ _ (by omega) c (by omega), eg2]
    refine ⟨row N k a b tt _ (Nat.le_refl _) (by omega) (by rw [lo 277 (by omega) (by omega)]; exact v1) (by rw [lo 278 (by omega) (by omega)]; exact v4) (by rw [lo 279 (by omega) (by omega)]; exact v5) (by rw [lo 280 (by omega) (by omega)]; exact v2) (by rw [lo 281 (by omega) (by omega), v3, g17]), ?_, rq0 (by rw [w2]) hq⟩
    obtain ⟨u1, u2, u3, u4, u5⟩ := mi_put_277 k2 a2 b2 t2 g2
    rw [i2] at u1
    exact (row (N + 1) k2 _ _ _ _ (by omega) (by omega) (by rw [w2]; dsimp only; rw [eg]; exact u1) rfl rfl rfl rfl).1
  have lk : ∀ (k : Int) (m : Nat), S 277 N = k → k = (m : Int) → (S 277 N).toNat = m := fun k m h1 h2 => by rw [h1, h2, Int.toNat_natCast]
  show (oE K P V sc ss cs b21 b15 S c0 (n, x, y, z) p l t st).2.1 = rgn (lS K P V sc ss cs b21 c0 S) (g 254 33).toNat (pw 0 n) ∧ _
  rw [iN]
  by_cases h12 : n = 12
  · subst h12
    cases hq : p.2.2.1 with
    | nil => unfold pr at hp; dsimp only at hp; rw [hq] at hp; cases hp
    | cons q lq =>
      unfold pr at hp; dsimp only at hp; rw [hq] at hp
      obtain ⟨hc, -, hp'⟩ := pr_q_in hp
      rw [hq] at RQ
      cases oc with
      | nil => exact RQ.elim
      | cons c lc =>
        obtain ⟨⟨r0, r0', r1, r2, r3⟩, r4⟩ := RQ
        obtain ⟨g1, w1, w2⟩ := gx_b_ok (show gx_b (mi_add 10 c 0 0 (am_up g 284 c.toNat z)) (fun g1 => (.inr (g1, ty, so, bs, lc) : gx_R mi_S)) = .inr s' from hm)
        cases w2
        obtain ⟨o1, o2, -⟩ := one 10 c 0 0 (am_up g 284 c.toNat z) (p_up_n _ _ _ _ _ _ (Or.inl (by decide))) (p_up_n _ _ _ _ _ _ (Or.inl (by decide))) (fun d _ _ => by rw [mi_add_in w1]) rfl
        have o2 := o2 (by decide) (by decide)
        refine ⟨rg1 ?_, by rw [e3, hp']; exact r4⟩
        have ex : q.1 = x := hc.2.1
        have ey : q.2.1 = y := hc.2.2.1
        obtain ⟨po1, -, -, po4, -, -, po7⟩ := O q (by rw [hq]; exact List.mem_cons_self)
        rw [ex] at po1
        rw [ey] at po4
        rw [ex, ey] at r1 po7
        rw [ey] at r2
        have cs1 : S 284 c.toNat = z := by
          have a := HK c.toNat (by omega) K (fun _ _ _ => rfl)
          have b := hc.2.2.2.2.2.1 K (fun _ _ _ => rfl)
          rw [r2] at a
          unfold pr_c at a b
          rw [b] at a
          exact (Option.some.inj a).symm
        have exy : x = y ↔ x.toNat = y.toNat := by omega
        have ekc : m_kc K V sc S c.toNat = kcE K V sc S ((p.1 3 : Int) - 1) x.toNat y.toNat := by
          unfold m_kc kcE
          rw [r1, r3]
          by_cases d : x = y
          · rw [if_pos d, if_pos rfl, if_pos (exy.1 d)]
          · rw [if_neg d, if_neg (show ¬ x = -1 by omega), if_neg (fun z => d (exy.2 z))]
        have eko : (0 < m_ko V S c.toNat) ↔ (x.toNat = y.toNat ∨ m_var V S ((p.1 3 : Int) - 1) x.toNat ≠ -1) := by
          unfold m_ko
          rw [r1, r3]
          by_cases d : x = y
          · rw [if_pos d, if_pos rfl]; exact ⟨fun _ => Or.inl (exy.1 d), fun _ => by decide⟩
          · rw [if_neg d, if_neg (show ¬ x = -1 by omega)]
            by_cases d2 : m_var V S ((p.1 3 : Int) - 1) x.toNat = -1
            · rw [if_pos d2]; exact ⟨fun z => by omega, fun z => by omega⟩
            · rw [if_neg d2]; exact ⟨fun _ => Or.inr d2, fun _ => by decide⟩
        rw [lS_10 o1, o2, ekc, r2, cs1]
        show [(15, c0 222 (sm b21 cs (kcE K V sc S ((p.1 3 : Int) - 1) x.toNat y.toNat) (m_sof V ss S (kcE K V sc S ((p.1 3 : Int) - 1) x.toNat y.toNat) y.toNat)).toNat, if x.toNat = y.toNat ∨ m_var V S ((p.1 3 : Int) - 1) x.toNat ≠ -1 then z + 1 else z)] = _
        by_cases d : 0 < m_ko V S c.toNat
        · rw [if_pos d, if_pos (eko.1 d)]
        · rw [if_neg d, if_neg (fun z => d (eko.2 z))]
  unfold pr at hp
  split at hp
  all_goals first
    | (cases hp; done)
    | (rename_i hn; have hn : n = _ := hn; subst hn; exfalso; revert he; decide)
    | (rename_i hn; have hn : n = _ := hn; subst hn; exfalso; revert h12; decide)
    | (rename_i hn; have hn : n = _ := hn; subst hn)
    | skip
  all_goals (obtain ⟨hc, -, hp'⟩ := pr_q_in hp)
  · -- 1
    obtain ⟨⟨o1, o2, -⟩, rq⟩ := simp1 0 x 0 0 rfl rfl (by rw [hp'])
    refine ⟨rg1 ?_, rq⟩
    rw [lS_0 o1, o2 (by decide) (by decide), if_neg]
    · rfl
    · rcases hc.2.2 with w | ⟨i, i1, i2, i3⟩
      · have w : x = 0 := w
        omega
      · have i3 : V i = x := i3
        have := hV i i1 i2
        omega
  · -- 2
    obtain ⟨⟨o1, o2, -⟩, rq⟩ := simp1 0 (-1) 0 0 rfl rfl (by rw [hp'])
    refine ⟨rg1 ?_, rq⟩
    rw [lS_0 o1, o2 (by decide) (by decide), if_pos (by decide)]; rfl
  · -- 3
    obtain ⟨⟨o1, o2, -⟩, rq⟩ := simp1 0 0 0 0 rfl rfl (by rw [hp'])
    refine ⟨rg1 ?_, rq⟩
    rw [lS_0 o1, o2 (by decide) (by decide), if_neg (by decide)]; rfl
  · -- 4
    obtain ⟨⟨o1, o2, -⟩, rq⟩ := simp1 3 0 0 x rfl rfl (by rw [hp'])
    exact ⟨rg1 (by rw [lS_3 o1]; rfl), rq⟩
  · -- 5
    obtain ⟨⟨o1, o2, o3, o4, o5⟩, rq⟩ := simp1 1 0 0 x rfl rfl (by rw [hp'])
    exact ⟨rg1 (by rw [lS_1 o1, o4]; rfl), rq⟩
  · -- 6
    obtain ⟨⟨o1, o2, o3, o4, o5⟩, rq⟩ := simp1 4 0 0 x rfl rfl (by rw [hp'])
    exact ⟨rg1 (by rw [lS_4 o1, o4, o5]; rfl), rq⟩
  · -- 7
    obtain ⟨⟨o1, o2, o3, o4, o5⟩, rq⟩ := simp1 5 0 0 0 rfl rfl (by rw [hp'])
    exact ⟨rg1 (by rw [lS_5 o1]; rfl), rq⟩
  · -- 8
    obtain ⟨⟨o1, o2, o3, o4, o5⟩, rq⟩ := simp1 6 x 0 0 rfl rfl (by rw [hp'])
    exact ⟨rg1 (by rw [lS_6 o1, o2 (by decide) (by decide)]; rfl), rq⟩
  · -- 9
    obtain ⟨⟨o1, o2, o3, o4, o5⟩, rq⟩ := simp1 7 0 0 0 rfl rfl (by rw [hp'])
    exact ⟨rg1 (by rw [lS_7 o1]; rfl), rq⟩
  · -- 10
    obtain ⟨⟨o1, o2, o3, o4, o5⟩, rq⟩ := simp1 8 0 0 0 rfl rfl (by rw [hp'])
    exact ⟨rg1 (by rw [lS_8 o1]; rfl), rq⟩
  · -- 11
    have x0 : 0 ≤ x := hc.2.1.1
    have y0 : 0 ≤ y := hc.2.2.1.1
    have hz : z = 1 ∧ y = x + 2 ∨ z = 0 ∧ y = x := hc.2.2.2.1
    have p39 : 0 ≤ g 254 39 := Rv.1.2.2.2.2.1
    have hm := ce_q_in (show ce_q (g 254 39 < 990) (gx_b (mi_add 9 (g 254 39) 0 0 (mi_call (if z = 1 then x else -1) y g)) fun g1 => (.inr (g1, ty, so, bs, g 254 39 :: oc) : gx_R mi_S)) = .inr s' from hm)
    obtain ⟨g1, w1, w2⟩ := gx_b_ok hm
    cases w2
    have eg := mi_add_in w1
    have f39 : ∀ c, c ≠ 39 → mi_call (if z = 1 then x else -1) y g 254 c = g 254 c := fun c hc => by
      unfold mi_call
      rw [p_up_c _ _ _ _ _ (by decide), p_up_c _ _ _ _ _ (by decide), p_up_c _ _ _ _ _ (by decide), p_up_c _ _ _ _ _ (by decide), p_up_n _ _ _ _ _ _ (Or.inr hc)]
    obtain ⟨o1, o2, -⟩ := one 9 (g 254 39) 0 0 _ (f39 33 (by decide)) (f39 17 (by decide)) (fun d _ _ => by rw [eg]) rfl
    have o2 := o2 (by decide) (by decide)
    have e39 : g1 254 39 = g 254 39 + 1 := by
      rw [eg, mi_put_f _ _ _ _ _ _ (by decide)]
      unfold mi_call
      rw [p_up_c _ _ _ _ _ (by decide), p_up_c _ _ _ _ _ (by decide), p_up_c _ _ _ _ _ (by decide), p_up_c _ _ _ _ _ (by decide), p_up_s]
    have lt : ((g 254 39).toNat : Int) < g1 254 39 := by omega
    have r282 : S 282 (g 254 39).toNat = if z = 1 then x else -1 := by
      rw [M.2 282 39 rfl _ lt]; dsimp only; rw [eg, mi_put_c _ _ _ _ _ _ (by decide)]
      unfold mi_call
      rw [p_up_c _ _ _ _ _ (by decide), p_up_c _ _ _ _ _ (by decide), p_up_c _ _ _ _ _ (by decide), p_up_s]
    have r283 : S 283 (g 254 39).toNat = y := by
      rw [M.2 283 39 rfl _ lt]; dsimp only; rw [eg, mi_put_c _ _ _ _ _ _ (by decide)]
      unfold mi_call
      rw [p_up_c _ _ _ _ _ (by decide), p_up_c _ _ _ _ _ (by decide), p_up_s]
    have r289 : S 289 (g 254 39).toNat = (p.1 3 : Int) - 1 := by
      rw [M.2 289 39 rfl _ lt]; dsimp only; rw [eg, mi_put_c _ _ _ _ _ _ (by decide)]
      unfold mi_call
      rw [p_up_s, g17]
    have kh := M.1 39 (by unfold mx_k; omega)
    dsimp only at kh
    refine ⟨rg1 ?_, ?_⟩
    · rw [lS_9 o1, o2]
      unfold oL
      rw [r282, r289]
      show (if x.toNat = y.toNat then ([(0, 4, 0)], [(0, 6, 0)], st, l, t) else if m_var V S ((p.1 3 : Int) - 1) x.toNat = -1 then ([], [], st, l, t) else (ldk (kdv S (m_var V S ((p.1 3 : Int) - 1) x.toNat).toNat) (plv b15 S (m_var V S ((p.1 3 : Int) - 1) x.toNat).toNat), [(0, ce_lseg (kdv S (m_var V S ((p.1 3 : Int) - 1) x.toNat).toNat), nov S (m_var V S ((p.1 3 : Int) - 1) x.toNat).toNat)], st, l, t) : List (Int × Int × Int) × List (Int × Int × Int) × List (Int × Int × Int × Int) × Int × Int).2.1 = _
      rcases hz with ⟨z1, z2⟩ | ⟨z1, z2⟩
      · rw [if_neg (c := x.toNat = y.toNat) (by omega), if_pos z1, if_neg (c := x = -1) (by omega)]
        by_cases d : m_var V S ((p.1 3 : Int) - 1) x.toNat = -1
        · rw [if_pos d, if_pos d]
        · rw [if_neg d, if_neg d]
      · rw [if_pos (c := x.toNat = y.toNat) (by omega), if_neg (c := z = 1) (by omega), if_pos rfl]
    · rw [e3, hp']
      refine ⟨⟨p39, by omega, ?_, r283, r289⟩, RQ⟩
      dsimp only
      rw [r282]
      rcases hz with ⟨z1, z2⟩ | ⟨z1, z2⟩
      · rw [if_pos z1, if_neg (by omega)]
      · rw [if_neg (by omega), if_pos (by omega)]
  · -- 20
    obtain ⟨⟨o1, o2, o3, o4, o5⟩, rq⟩ := simp1 11 0 0 x rfl rfl (by rw [hp'])
    exact ⟨rg1 (by rw [lS_11 o1]; rfl), rq⟩
  · -- 21
    cases hm
    exact ⟨rfl, rq0 rfl (by rw [hp'])⟩
  · -- 22
    obtain ⟨⟨o1, o2, o3, o4, o5⟩, u1, rq⟩ := simp2 13 0 0 x 12 0 0 0 rfl rfl (by rw [hp'])
    exact ⟨rg2 (by rw [lS_13 o1, o4, o5, lS_12 u1]; rfl), rq⟩
  · -- 23
    obtain ⟨⟨o1, o2, o3, o4, o5⟩, u1, rq⟩ := simp2 14 0 0 0 12 0 0 0 rfl rfl (by rw [hp'])
    exact ⟨rg2 (by rw [lS_14 o1, lS_12 u1]; rfl), rq⟩
  · -- 24
    have hm := ce_q_in (show ce_q (0 ≤ g 254 50 ∧ g 254 50 < 99990) (.inr (am_up g 254 50 (g 254 50 + 2), ty, so, (1, g 254 50, 0, g 254 33) :: bs, oc) : gx_R mi_S) = .inr s' from hm)
    cases hm
    exact ⟨rfl, rq0 rfl (by rw [hp'])⟩
  · -- 25
    obtain ⟨q, lb, r, lr, b1, b2, b3, b4, B2⟩ := B.hd hc.2.2.1
    subst b1 b2
    have hm := ce_q_in (show ce_q (lb.length < 40) (gx_b (mi_add 15 0 q.2.1 0 g) fun g1 => (.inr (mi_blk lb.length 1 q.2.1 (g 254 33) q.2.2.2 g1, ty, so, (1, q.2.1, g 254 33, q.2.2.2) :: lb, oc) : gx_R mi_S)) = .inr s' from hm)
    obtain ⟨g1, w1, w2⟩ := gx_b_ok hm
    cases w2
    obtain ⟨o1, o2, o3, -⟩ := one 15 0 q.2.1 0 g rfl rfl (fun d d1 d2 => by dsimp only; rw [mi_blk_c2 _ _ _ _ _ _ _ (by omega), mi_add_in w1]) rfl
    refine ⟨rg1 ?_, rq0 rfl (by rw [hp'])⟩
    rw [lS_15 o1, o3, b4.1]
    rfl
  · -- 26
    obtain ⟨q, lb, r, lr, b1, b2, b3, b4, B2⟩ := B.hd hc.2.2.1
    have hole : 0 ≤ q.2.2.1 ∧ q.2.2.1 < g 254 33 := by
      rw [b1, b2, b3] at B
      have := B.1.2.2.1 (Or.inl rfl)
      exact ⟨this.1, this.2.1⟩
    subst b1 b2
    obtain ⟨g1, w1, w2⟩ := gx_b_ok (show gx_b (mi_add 16 0 (q.2.1 + 1) 0 (am_up g 254 55 (lb.length : Int))) (fun g1 => gx_b (mi_add 20 q.2.1 0 0 g1) fun g2 => (.inr (mi_blk lb.length 2 q.2.1 (g 254 33) 0 (am_up g2 278 q.2.2.1.toNat (g1 254 33)), ty, so, (2, q.2.1, g 254 33, 0) :: lb, oc) : gx_R mi_S)) = .inr s' from hm)
    obtain ⟨g2, w3, w4⟩ := gx_b_ok w2
    cases w4
    have c0' : am_up g 254 55 (lb.length : Int) 254 33 = g 254 33 := p_up_n _ _ _ _ _ _ (Or.inr (by decide))
    obtain ⟨o1, o3, u1, u2, -⟩ := two 16 0 (q.2.1 + 1) 0 20 q.2.1 0 0 (am_up g 254 55 (lb.length : Int)) g1 (mi_put 20 q.2.1 0 0 g1) c0' rfl' (by rw [mi_add_in w1, mi_put_33, c0']) (fun d d1 d2 j hj => by rw [mi_add_in w1]) (fun d d1 d2 j hj => rfl) (fun d d1 d2 j hj => by
      dsimp only
      rw [mi_blk_c2 _ _ _ _ _ _ _ (by omega), p_up_n _ _ _ _ _ _ (Or.inr (by omega)), mi_add_in w3]) rfl
    refine ⟨rg2 ?_, rq0 rfl (by rw [hp'])⟩
    rw [lS_16 o1, o3, lS_20 u1, u2 (by decide) (by decide), b4.1]
    rfl
  · -- 27
    obtain ⟨q, lb, r, lr, b1, b2, b3, b4, B2⟩ := B.hd hc.2.2.1
    have hole : 0 ≤ q.2.2.1 ∧ q.2.2.1 < g 254 33 := by
      rw [b1, b2, b3] at B
      have := B.1.2.2.1 (Or.inl rfl)
      exact ⟨this.1, this.2.1⟩
    subst b1 b2
    obtain ⟨g1, w1, w2⟩ := gx_b_ok (show gx_b (mi_add 20 q.2.1 0 0 (am_up g 254 55 (lb.length : Int))) (fun g1 => gx_b (mi_add 12 0 0 0 (am_up g1 278 q.2.2.1.toNat (g 254 33))) fun g2 => (.inr (g2, ty, so, lb, oc) : gx_R mi_S)) = .inr s' from hm)
    obtain ⟨g2, w3, w4⟩ := gx_b_ok w2
    cases w4
    have c0' : am_up g 254 55 (lb.length : Int) 254 33 = g 254 33 := p_up_n _ _ _ _ _ _ (Or.inr (by decide))
    obtain ⟨o1, o3, u1, u2, o2⟩ := two 20 q.2.1 0 0 12 0 0 0 (am_up g 254 55 (lb.length : Int)) (am_up g1 278 q.2.2.1.toNat (g 254 33)) g2 c0' rfl' (by rw [p_up_c _ _ _ _ _ (by decide), mi_add_in w1, mi_put_33, c0']) (fun d d1 d2 j hj => by rw [mi_add_in w1, p_up_n _ _ _ _ _ _ (Or.inr (by omega))]) (fun d d1 d2 j hj => by rw [mi_add_in w3]) (fun d d1 d2 j hj => rfl) rfl
    refine ⟨rg2 ?_, rq0 rfl (by rw [hp'])⟩
    rw [lS_20 o1, o2 (by decide) (by decide), lS_12 u1, b4.1]
    rfl
  · -- 28
    obtain ⟨q, lb, r, lr, b1, b2, b3, b4, B2⟩ := B.hd hc.2.2.1
    have hole : 0 ≤ q.2.2.1 ∧ q.2.2.1 < g 254 33 := by
      rw [b1, b2, b3] at B
      have := B.1.2.2.2 rfl
      exact ⟨this.1, this.2.1⟩
    subst b1 b2
    obtain ⟨g1, w1, w2⟩ := gx_b_ok (show gx_b (mi_add 20 (q.2.1 + 1) 0 0 (am_up g 254 55 (lb.length : Int))) (fun g1 => gx_b (mi_add 12 0 0 0 (am_up g1 278 q.2.2.1.toNat (g 254 33))) fun g2 => (.inr (g2, ty, so, lb, oc) : gx_R mi_S)) = .inr s' from hm)
    obtain ⟨g2, w3, w4⟩ := gx_b_ok w2
    cases w4
    have c0' : am_up g 254 55 (lb.length : Int) 254 33 = g 254 33 := p_up_n _ _ _ _ _ _ (Or.inr (by decide))
    obtain ⟨o1, o3, u1, u2, o2⟩ := two 20 (q.2.1 + 1) 0 0 12 0 0 0 (am_up g 254 55 (lb.length : Int)) (am_up g1 278 q.2.2.1.toNat (g 254 33)) g2 c0' rfl' (by rw [p_up_c _ _ _ _ _ (by decide), mi_add_in w1, mi_put_33, c0']) (fun d d1 d2 j hj => by rw [mi_add_in w1, p_up_n _ _ _ _ _ _ (Or.inr (by omega))]) (fun d d1 d2 j hj => by rw [mi_add_in w3]) (fun d d1 d2 j hj => rfl) rfl
    refine ⟨rg2 ?_, rq0 rfl (by rw [hp'])⟩
    rw [lS_20 o1, o2 (by decide) (by decide), lS_12 u1, b4.1]
    rfl
  · -- 30
    have hm := ce_q_in (show ce_q (0 ≤ g 254 50 ∧ g 254 50 < 99990) (gx_b (mi_add 20 (g 254 50) 0 0 (am_up g 254 50 (g 254 50 + 2))) fun g1 => gx_b (mi_add 17 0 0 0 g1) fun g2 => (.inr (g2, ty, so, (3, g 254 50, 0, g 254 33) :: bs, oc) : gx_R mi_S)) = .inr s' from hm)
    obtain ⟨g1, w1, w2⟩ := gx_b_ok hm
    obtain ⟨g2, w3, w4⟩ := gx_b_ok w2
    cases w4
    have c0' : am_up g 254 50 (g 254 50 + 2) 254 33 = g 254 33 := p_up_n _ _ _ _ _ _ (Or.inr (by decide))
    obtain ⟨o1, o3, u1, u2, o2⟩ := two 20 (g 254 50) 0 0 17 0 0 0 (am_up g 254 50 (g 254 50 + 2)) g1 g2 c0' rfl' (by rw [mi_add_in w1, mi_put_33, c0']) (fun d d1 d2 j hj => by rw [mi_add_in w1]) (fun d d1 d2 j hj => by rw [mi_add_in w3]) (fun d d1 d2 j hj => rfl) rfl
    refine ⟨rg2 ?_, rq0 rfl (by rw [hp'])⟩
    rw [lS_20 o1, o2 (by decide) (by decide), lS_17 u1, ← ht (Or.inr rfl)]
    rfl
  · -- 31
    obtain ⟨q, lb, r, lr, b1, b2, b3, b4, B2⟩ := B.hd hc.2.2.1
    subst b1 b2
    have hm := ce_q_in (show ce_q (lb.length < 40) (gx_b (mi_add 15 0 (q.2.1 + 1) 0 g) fun g1 => (.inr (mi_blk lb.length 3 q.2.1 (g 254 33) q.2.2.2 g1, ty, so, (3, q.2.1, g 254 33, q.2.2.2) :: lb, oc) : gx_R mi_S)) = .inr s' from hm)
    obtain ⟨g1, w1, w2⟩ := gx_b_ok hm
    cases w2
    obtain ⟨o1, o2, o3, -⟩ := one 15 0 (q.2.1 + 1) 0 g rfl rfl (fun d d1 d2 => by dsimp only; rw [mi_blk_c2 _ _ _ _ _ _ _ (by omega), mi_add_in w1]) rfl
    refine ⟨rg1 ?_, rq0 rfl (by rw [hp'])⟩
    rw [lS_15 o1, o3, b4.1]
    rfl
  · -- 32
    obtain ⟨q, lb, r, lr, b1, b2, b3, b4, B2⟩ := B.hd hc.2.2.1
    have hole : 0 ≤ q.2.2.1 ∧ q.2.2.1 < g 254 33 := by
      rw [b1, b2, b3] at B
      have := B.1.2.2.1 (Or.inr rfl)
      exact ⟨this.1, this.2.1⟩
    subst b1 b2
    obtain ⟨g1, w1, w2⟩ := gx_b_ok (show gx_b (mi_add 16 q.2.2.2 q.2.1 0 (am_up g 254 55 (lb.length : Int))) (fun g1 => gx_b (mi_add 20 (q.2.1 + 1) 0 0 g1) fun g2 => gx_b (mi_add 12 0 0 0 (am_up g2 278 q.2.2.1.toNat (g1 254 33))) fun g3 => (.inr (g3, ty, so, lb, oc) : gx_R mi_S)) = .inr s' from hm)
    obtain ⟨g2, w3, w4⟩ := gx_b_ok w2
    obtain ⟨g3, w5, w6⟩ := gx_b_ok w4
    cases w6
    have c0' : am_up g 254 55 (lb.length : Int) 254 33 = g 254 33 := p_up_n _ _ _ _ _ _ (Or.inr (by decide))
    have i1 : (g1 254 33).toNat = N + 1 := by rw [mi_add_in w1, mi_put_33, c0']; omega
    have i2 : (g2 254 33).toNat = N + 2 := by rw [mi_add_in w3, mi_put_33]; omega
    have i2' : (am_up g2 278 q.2.2.1.toNat (g1 254 33) 254 33).toNat = N + 2 := by rw [p_up_c _ _ _ _ _ (by decide)]; exact i2
    obtain ⟨x1, x2, x3, x4, x5⟩ := mi_put_277 16 q.2.2.2 q.2.1 0 (am_up g 254 55 (lb.length : Int))
    rw [c0', iN] at x1 x5
    obtain ⟨y1, y2, y3, y4, y5⟩ := mi_put_277 20 (q.2.1 + 1) 0 0 g1
    rw [i1] at y1 y4
    obtain ⟨v1, v2, v3, v4, v5⟩ := mi_put_277 12 0 0 0 (am_up g2 278 q.2.2.1.toNat (g1 254 33))
    rw [i2'] at v1
    have hN : ∀ c, 277 ≤ c → c ≤ 281 → ∀ j, j = N ∨ j = N + 1 → g3 c j = g2 c j := fun c h1 h2 j hj => by
      rw [mi_add_in w5, mi_put_lo _ _ _ _ _ (by rw [i2']; omega) c (by omega)]
      exact p_up_n _ _ _ _ _ _ (Or.inr (by omega))
    have a1 : g3 277 N = 16 := by rw [hN 277 (by omega) (by omega) N (Or.inl rfl), mi_add_in w3, mi_put_lo _ _ _ _ _ (by rw [i1]; omega) 277 (by omega), mi_add_in w1]; exact x1
    have a2 : g3 279 N = q.2.1 := by rw [hN 279 (by omega) (by omega) N (Or.inl rfl), mi_add_in w3, mi_put_lo _ _ _ _ _ (by rw [i1]; omega) 279 (by omega), mi_add_in w1]; exact x5
    have a3 : g3 277 (N + 1) = 20 := by rw [hN 277 (by omega) (by omega) (N + 1) (Or.inr rfl), mi_add_in w3]; exact y1
    have a4 : g3 278 (N + 1) = q.2.1 + 1 := by rw [hN 278 (by omega) (by omega) (N + 1) (Or.inr rfl), mi_add_in w3]; exact y4
    have a5 : g3 277 (N + 2) = 12 := by rw [mi_add_in w5]; exact v1
    have w32 : pw 0 32 = 3 := rfl
    obtain ⟨r1, -, r3, -⟩ := row N 16 (g3 278 N) q.2.1 (g3 280 N) (g3 281 N) (Nat.le_refl _) (by omega) a1 rfl a2 rfl rfl
    obtain ⟨t1, t2, -⟩ := row (N + 1) 20 (q.2.1 + 1) (g3 279 (N + 1)) (g3 280 (N + 1)) (g3 281 (N + 1)) (by omega) (by omega) a3 a4 rfl rfl rfl
    obtain ⟨u1, -⟩ := row (N + 2) 12 (g3 278 (N + 2)) (g3 279 (N + 2)) (g3 280 (N + 2)) (g3 281 (N + 2)) (by omega) (by omega) a5 rfl rfl rfl rfl
    refine ⟨?_, rq0 rfl (by rw [hp'])⟩
    show _ = (([] ++ lS K P V sc ss cs b21 c0 S (N + 0)) ++ lS K P V sc ss cs b21 c0 S (N + 1)) ++ lS K P V sc ss cs b21 c0 S (N + 2)
    rw [Nat.add_zero, lS_16 r1, r3, lS_20 t1, t2 (by decide) (by decide), lS_12 u1, b4.1]
    rfl
  · -- 33
    obtain ⟨⟨o1, o2, o3, o4, o5⟩, rq⟩ := simp1 18 0 0 0 rfl rfl (by rw [hp'])
    exact ⟨rg1 (by rw [lS_18 o1]; rfl), rq⟩
  · -- 34
    obtain ⟨⟨o1, o2, o3, o4, o5⟩, u1, rq⟩ := simp2 19 0 0 0 12 0 0 0 rfl rfl (by rw [hp'])
    exact ⟨rg2 (by rw [lS_19 o1, lS_12 u1]; rfl), rq⟩
end
