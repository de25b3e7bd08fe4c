/-! PURE LAYER, 105: pieces of the second reading's emission -/
section
variable {vs ls : List (Int × Int × Int)} {g g' : am_H} {x : Int}
theorem AP.kd (A : AP vs ls g g') : ce_vs g' x = ce_vs g x ∧ ce_vc g' x = ce_vc g x ∧ ce_kd g' x = ce_kd g x ∧ ce_pl g' x = ce_pl g x ∧ ce_no g' x = ce_no g x ∧ ce_ty g' x = ce_ty g x := by
  have f : ∀ a, 212 ≤ a → a ≤ 234 → g' a = g a := fun a h1 h2 => A.fr a (by omega) (by omega) (by omega)
  have e1 : ce_vs g' x = ce_vs g x := by unfold ce_vs; rw [f 229 (by decide) (by decide), f 230 (by decide) (by decide)]
  have e2 : ce_vc g' x = ce_vc g x := by unfold ce_vc; rw [f 223 (by decide) (by decide), f 224 (by decide) (by decide)]
  refine ⟨e1, e2, ?_, ?_, ?_, ?_⟩
  · unfold ce_kd; rw [e1, e2, f 231 (by decide) (by decide), f 225 (by decide) (by decide)]
  · unfold ce_pl; rw [e1, e2, f 232 (by decide) (by decide), f 226 (by decide) (by decide)]
  · unfold ce_no; rw [e1, e2, f 234 (by decide) (by decide), f 228 (by decide) (by decide)]
  · unfold ce_ty; rw [e1, e2, f 233 (by decide) (by decide), f 227 (by decide) (by decide)]
theorem AP.vr (A : AP vs ls g g') : ce_var g' x ↔ ce_var g x := by unfold ce_var; rw [A.kd.1, A.kd.2.1]
theorem AP.tab (A : AP vs ls g g') : ce_cls g' x = ce_cls g x ∧ (∀ o, ce_sub g' o x = ce_sub g o x) ∧ (∀ sy, ce_cof sy g' x = ce_cof sy g x) ∧ (∀ sy o, ce_sof sy g' o x = ce_sof sy g o x) := by
  have f : ∀ a, 212 ≤ a → a ≤ 234 → g' a = g a := fun a h1 h2 => A.fr a (by omega) (by omega) (by omega)
  have f5 := A.fr 5 (by decide) (by decide) (by decide)
  have f6 := A.fr 6 (by decide) (by decide) (by decide)
  have e1 : ce_cls g' x = ce_cls g x := by unfold ce_cls; rw [f 213 (by decide) (by decide), f 214 (by decide) (by decide)]
  have e2 : ∀ o, ce_sub g' o x = ce_sub g o x := fun o => by unfold ce_sub; rw [f 217 (by decide) (by decide), f 218 (by decide) (by decide), f 219 (by decide) (by decide)]
  refine ⟨e1, e2, fun sy => ?_, fun sy o => ?_⟩
  · unfold ce_cof ce_own ce_hid; rw [e1, f 213 (by decide) (by decide), f 214 (by decide) (by decide), f 212 (by decide) (by decide), f5, f6]
  · unfold ce_sof ce_hid; rw [e2, f 212 (by decide) (by decide), f5, f6]
/-- the owner's pointers are looked at -/
theorem EM.get (hc : cap g 1 0) (h13 : 0 ≤ g 212 13 ∧ g 212 13 < 24) (hk : g 215 (g 212 13).toNat = 1) : EM [(17, 1, 0)] [] g (ce_get true g) := by
  unfold ce_get ce_q ce_ckd
  rw [if_pos h13, hk, if_neg (by decide)]
  exact EM.v1 hc
theorem EM.set (hc : cap g 1 0) (h13 : 0 ≤ g 212 13 ∧ g 212 13 < 24) (hk : g 215 (g 212 13).toNat = 1) : EM [(18, 1, 0)] [] g (ce_set true g) := by
  unfold ce_set ce_q ce_ckd
  rw [if_pos h13, hk, if_neg (by decide)]
  exact EM.v1 hc
/-- lines of a variable's reading and writing: kind, place -/
def ldk (k pl : Int) : List (Int × Int × Int) := if k = 4 then [(19, pl, 0), (17, 1, 0)] else [(0, ce_seg k, pl)]
def stk (k pl : Int) : List (Int × Int × Int) := if k = 4 then [(1, 5, 0), (19, pl, 0), (18, 1, 0)] else [(1, ce_seg k, pl)]
theorem EM.load {wh : Int} (hc : cap g 2 1) (hv : ce_var g x) (h6 : g 212 14 ≠ 2 ∨ ce_kd g x ≠ 4) (h13 : 0 ≤ g 212 13 ∧ g 212 13 < 24) (hk : g 215 (g 212 13).toNat = 1) : EM (ldk (ce_kd g x) (ce_pl g x)) [(0, ce_lseg (ce_kd g x), ce_no g x)] g (ce_load true false x wh g) := by
  unfold ce_load ce_chk
  rw [if_neg (fun z => z.2 hv), if_neg (by decide), if_neg (fun z => z.2 h6)]
  unfold ce_tvar
  rw [if_pos ⟨rfl, rfl⟩]
  refine EM.l (n := 2) (m := 0) hc (fun g1 A hc1 => ?_)
  rw [A.kd.2.2.1, A.kd.2.2.2.1]
  have e212 := A.fr 212 (by decide) (by decide) (by decide)
  have e215 := A.fr 215 (by decide) (by decide) (by decide)
  unfold ldk
  by_cases c : ce_kd g x = 4
  · rw [if_pos c, if_pos c]
    refine EM.v (n := 1) (m := 0) hc1 (fun g2 B hc2 => EM.get hc2 ?_ ?_)
    · rw [B.fr 212 (by decide) (by decide) (by decide), e212]; exact h13
    · rw [B.fr 212 (by decide) (by decide) (by decide), B.fr 215 (by decide) (by decide) (by decide), e212, e215]; exact hk
  · rw [if_neg c, if_neg c]
    exact EM.v1 (hc1.le (by omega) (by omega))
theorem EM.store (hc : cap g 3 0) (h13 : 0 ≤ g 212 13 ∧ g 212 13 < 24) (hk : g 215 (g 212 13).toNat = 1) : EM (stk (ce_kd g x) (ce_pl g x)) [] g (ce_store true x g) := by
  unfold ce_store
  rw [if_neg (by decide)]
  unfold stk
  by_cases c : ce_kd g x = 4
  · rw [if_pos c, if_pos c]
    refine EM.v (n := 2) (m := 0) hc (fun g1 A hc1 => ?_)
    rw [A.kd.2.2.2.1]
    refine EM.v (n := 1) (m := 0) hc1 (fun g2 B hc2 => EM.set hc2 ?_ ?_)
    · rw [B.fr 212 (by decide) (by decide) (by decide), A.fr 212 (by decide) (by decide) (by decide)]; exact h13
    · rw [B.fr 212 (by decide) (by decide) (by decide), B.fr 215 (by decide) (by decide) (by decide), A.fr 212 (by decide) (by decide) (by decide), A.fr 215 (by decide) (by decide) (by decide)]; exact hk
  · rw [if_neg c, if_neg c]
    exact EM.v1 (hc.le (by omega) (by omega))
/-- a call of a sub of the system that is known -/
theorem EM.kc {o y many : Int} (hc : cap g 1 0) : EM [(15, ce_sub g o y, many)] [] g (ce_call true o y many g) := by
  unfold ce_call; rw [if_pos rfl]; exact EM.v1 hc
theorem EM.tc {o y many : Int} (hc : cap g 0 1) (hs : ce_sub g o y ≠ -1) : EM [] [(15, g 222 (ce_sub g o y).toNat, many)] g (ce_tcall true false o y many g) := by
  unfold ce_tcall ce_q; rw [if_pos ⟨rfl, rfl⟩, if_pos hs]; exact EM.l1 hc
/-- letters of a string -/
def chE (g : am_H) (sa : Int) (fr : Nat) (s222 : Bool) : Nat → Nat → List (Int × Int × Int)
  | 0, _ => []
  | m + 1, k => (0, 0, g 3 (fr + k)) :: (15, (if s222 = true then g 222 sa.toNat else sa), 2) :: chE g sa fr s222 m (k + 1)
theorem chE_ap (A : AP vs ls g g') (sa : Int) (fr : Nat) (b : Bool) : ∀ m k, chE g' sa fr b m k = chE g sa fr b m k
  | 0, _ => rfl
  | m + 1, k => by unfold chE; rw [chE_ap A sa fr b m (k + 1), A.fr 3 (by decide) (by decide) (by decide), A.fr 222 (by decide) (by decide) (by decide)]
theorem chE_len (g : am_H) (sa : Int) (fr : Nat) (b : Bool) : ∀ m k, (chE g sa fr b m k).length = 2 * m
  | 0, _ => rfl
  | m + 1, k => by unfold chE; rw [List.length_cons, List.length_cons, chE_len g sa fr b m (k + 1)]; omega
theorem EM.chars (s : Int) (fr : Nat) : ∀ (m k : Nat) {g : am_H}, cap g (2 * m) (2 * m) → ce_sub g s (g 212 32) ≠ -1 → EM (chE g (ce_sub g s (g 212 32)) fr false m k) (chE g (ce_sub g s (g 212 32)) fr true m k) g (ce_chars true false s fr m k g)
  | 0, k, g, hc, hs => EM.nil g
  | m + 1, k, g, hc, hs => by
    unfold ce_chars chE
    refine EM.v (n := 2 * m + 1) (m := 2 * m + 2) hc (fun g1 A1 hc1 => ?_)
    refine EM.b (vs := [(15, ce_sub g s (g 212 32), 2)]) (ls := []) (n := 2 * m) (m := 2 * m + 2) (hc1.le (by show 1 + _ ≤ _; omega) (by show 0 + _ ≤ _; omega)) ?_ (fun g2 A2 hc2 => ?_)
    · have := EM.kc (o := s) (y := g1 212 32) (many := 2) (g := g1) (hc1.le (by omega) (by omega))
      rw [A1.tab.2.1, A1.fr 212 (by decide) (by decide) (by decide)] at this
      rw [A1.fr 212 (by decide) (by decide) (by decide)]
      exact this
    have A12 := A1.trans A2 hc.1 hc.2.2.1
    rw [A12.fr 3 (by decide) (by decide) (by decide)]
    refine EM.l (n := 2 * m) (m := 2 * m + 1) hc2 (fun g3 A3 hc3 => ?_)
    have A13 := A12.trans A3 hc.1 hc.2.2.1
    refine EM.b (vs := []) (ls := [(15, g 222 (ce_sub g s (g 212 32)).toNat, 2)]) (n := 2 * m) (m := 2 * m) (hc3.le (by show 0 + _ ≤ _; omega) (by show 1 + _ ≤ _; omega)) ?_ (fun g4 A4 hc4 => ?_)
    · have := EM.tc (o := s) (y := g3 212 32) (many := 2) (g := g3) (hc3.le (by omega) (by omega)) (by rw [A13.tab.2.1, A13.fr 212 (by decide) (by decide) (by decide)]; exact hs)
      rw [A13.tab.2.1, A13.fr 212 (by decide) (by decide) (by decide), A13.fr 222 (by decide) (by decide) (by decide)] at this
      rw [A13.fr 212 (by decide) (by decide) (by decide)]
      exact this
    have A14 := A13.trans A4 hc.1 hc.2.2.1
    have e : ce_sub g4 s (g4 212 32) = ce_sub g s (g 212 32) := by rw [A14.tab.2.1, A14.fr 212 (by decide) (by decide) (by decide)]
    have := EM.chars s fr m (k + 1) (g := g4) hc4 (by rw [e]; exact hs)
    rw [e, chE_ap A14, chE_ap A14] at this
    exact this
/-- a sign between two e -/
def opk (x : Int) : Int := if x = 43 then 2 else if x = 45 then 3 else if x = 38 then 5 else if x = 124 then 6 else if x = 60 then 9 else if x = 62 then 10 else if x = 61 then 8 else 0
def opE (g : am_H) (x : Int) (b : Bool) : List (Int × Int × Int) := if opk x ≠ 0 then [(opk x, 0, 0)] else [(15, (if b = true then g 222 (ce_sub g (ce_cls g (g 212 33)) (if x = 42 then g 212 34 else g 212 35)).toNat else ce_sub g (ce_cls g (g 212 33)) (if x = 42 then g 212 34 else g 212 35)), 2)]
theorem EM.op (hc : cap g 1 1) (hs : ∀ k, k = 34 ∨ k = 35 → ce_sub g (ce_cls g (g 212 33)) (g 212 k) ≠ -1) : EM (opE g x false) (opE g x true) g (ce_op true false x g) := by
  unfold ce_op
  by_cases c1 : x = 43
  · subst c1; rw [if_pos rfl]; exact EM.both hc
  by_cases c2 : x = 45
  · subst c2; rw [if_neg (by decide), if_pos rfl]; exact EM.both hc
  by_cases c3 : x = 38
  · subst c3; rw [if_neg (by decide), if_neg (by decide), if_pos rfl]; exact EM.both hc
  by_cases c4 : x = 124
  · subst c4; rw [if_neg (by decide), if_neg (by decide), if_neg (by decide), if_pos rfl]; exact EM.both hc
  by_cases c5 : x = 60
  · subst c5; rw [if_neg (by decide), if_neg (by decide), if_neg (by decide), if_neg (by decide), if_pos rfl]; exact EM.both hc
  by_cases c6 : x = 62
  · subst c6; rw [if_neg (by decide), if_neg (by decide), if_neg (by decide), if_neg (by decide), if_neg (by decide), if_pos rfl]; exact EM.both hc
  by_cases c7 : x = 61
  · subst c7; rw [if_neg (by decide), if_neg (by decide), if_neg (by decide), if_neg (by decide), if_neg (by decide), if_neg (by decide), if_pos rfl]; exact EM.both hc
  rw [if_neg c1, if_neg c2, if_neg c3, if_neg c4, if_neg c5, if_neg c6, if_neg c7]
  have e0 : opk x = 0 := by unfold opk; rw [if_neg c1, if_neg c2, if_neg c3, if_neg c4, if_neg c5, if_neg c6, if_neg c7]
  have o1 : opE g x false = [(15, ce_sub g (ce_cls g (g 212 33)) (if x = 42 then g 212 34 else g 212 35), 2)] := by unfold opE; rw [if_neg (c := opk x ≠ 0) (fun z => z e0)]; rfl
  have o2 : opE g x true = [(15, g 222 (ce_sub g (ce_cls g (g 212 33)) (if x = 42 then g 212 34 else g 212 35)).toNat, 2)] := by unfold opE; rw [if_neg (c := opk x ≠ 0) (fun z => z e0)]; rfl
  rw [o1, o2]
  refine EM.b (vs := [(15, ce_sub g (ce_cls g (g 212 33)) (if x = 42 then g 212 34 else g 212 35), 2)]) (ls := []) (n := 0) (m := 1) hc (EM.kc (hc.le (by omega) (by omega))) (fun g1 A hc1 => ?_)
  have := EM.tc (o := ce_cls g1 (g1 212 33)) (y := if x = 42 then g1 212 34 else g1 212 35) (many := 2) (g := g1) hc1 (by
    rw [A.tab.2.1, A.tab.1, A.fr 212 (by decide) (by decide) (by decide)]
    split
    · exact hs 34 (Or.inl rfl)
    · exact hs 35 (Or.inr rfl))
  rw [A.tab.2.1, A.tab.1, A.fr 212 (by decide) (by decide) (by decide), A.fr 222 (by decide) (by decide) (by decide)] at this
  rw [A.tab.1, A.fr 212 (by decide) (by decide) (by decide)]
  exact this
/-- a string -/
theorem EM.str {V P : Nat → Int} {i : Nat} (hq : 0 ≤ V i ∧ V i ≤ 60 ∧ 0 ≤ P i ∧ P i + 1 + V i ≤ 16000) (hc : cap g (2 + 2 * (V i).toNat) (2 + 2 * (V i).toNat)) (hs : ∀ k, k = 31 ∨ k = 32 → ce_sub g (ce_cls g (g 212 30)) (g 212 k) ≠ -1) :
    EM ((0, 0, V i) :: (15, ce_sub g (ce_cls g (g 212 30)) (g 212 31), 1) :: chE g (ce_sub g (ce_cls g (g 212 30)) (g 212 32)) (P i + 1).toNat false (V i).toNat 0) ((0, 0, V i) :: (15, g 222 (ce_sub g (ce_cls g (g 212 30)) (g 212 31)).toNat, 1) :: chE g (ce_sub g (ce_cls g (g 212 30)) (g 212 32)) (P i + 1).toNat true (V i).toNat 0) g (ce_str true false V P i g) := by
  unfold ce_str ce_q
  rw [if_pos hq]
  refine EM.v (n := 2 * (V i).toNat + 1) (m := 2 + 2 * (V i).toNat) (hc.le (by omega) (by omega)) (fun g1 A1 hc1 => ?_)
  refine EM.b (vs := [(15, ce_sub g (ce_cls g (g 212 30)) (g 212 31), 1)]) (ls := []) (n := 2 * (V i).toNat) (m := 2 + 2 * (V i).toNat) (hc1.le (by show 1 + _ ≤ _; omega) (by show 0 + _ ≤ _; omega)) ?_ (fun g2 A2 hc2 => ?_)
  · have := EM.kc (o := ce_cls g (g 212 30)) (y := g1 212 31) (many := 1) (g := g1) (hc1.le (by omega) (by omega))
    rw [A1.tab.2.1, A1.fr 212 (by decide) (by decide) (by decide)] at this
    rw [A1.fr 212 (by decide) (by decide) (by decide)]
    exact this
  have A12 := A1.trans A2 hc.1 hc.2.2.1
  refine EM.l (n := 2 * (V i).toNat) (m := 1 + 2 * (V i).toNat) (hc2.le (by omega) (by omega)) (fun g3 A3 hc3 => ?_)
  have A13 := A12.trans A3 hc.1 hc.2.2.1
  refine EM.b (vs := []) (ls := [(15, g 222 (ce_sub g (ce_cls g (g 212 30)) (g 212 31)).toNat, 1)]) (n := 2 * (V i).toNat) (m := 2 * (V i).toNat) (hc3.le (by show 0 + _ ≤ _; omega) (by show 1 + _ ≤ _; omega)) ?_ (fun g4 A4 hc4 => ?_)
  · have := EM.tc (o := ce_cls g (g 212 30)) (y := g3 212 31) (many := 1) (g := g3) (hc3.le (by omega) (by omega)) (by rw [A13.tab.2.1, A13.fr 212 (by decide) (by decide) (by decide)]; exact hs 31 (Or.inl rfl))
    rw [A13.tab.2.1, A13.fr 212 (by decide) (by decide) (by decide), A13.fr 222 (by decide) (by decide) (by decide)] at this
    rw [A13.fr 212 (by decide) (by decide) (by decide)]
    exact this
  have A14 := A13.trans A4 hc.1 hc.2.2.1
  have e : ce_sub g4 (ce_cls g (g 212 30)) (g4 212 32) = ce_sub g (ce_cls g (g 212 30)) (g 212 32) := by rw [A14.tab.2.1, A14.fr 212 (by decide) (by decide) (by decide)]
  have := EM.chars (ce_cls g (g 212 30)) (P i + 1).toNat (V i).toNat 0 (g := g4) hc4 (by rw [e]; exact hs 32 (Or.inr rfl))
  rw [e, chE_ap A14, chE_ap A14] at this
  exact this
end
