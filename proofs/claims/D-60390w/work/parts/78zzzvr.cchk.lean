/-! CHIPS, 18: what is checked, as functions -/
/-- where a chip stands: 0 Nand, 1 Dff, 2 + c chip c -/
def kb (k : Nat) : Nat := if k < 2 then 38 + 7 * k else 69 + 7 * k
abbrev cRg : Type := Int × Int × Int
def rlo (r : cRg) : Int := if r.1 = -1 then 0 else r.2.1
def rhi (r : cRg) (w : Int) : Int := if r.1 = -1 then w - 1 else r.2.2
abbrev rok (r : cRg) (w : Int) : Prop := rlo r ≤ rhi r w ∧ rhi r w < w
def rn (r : cRg) (w : Int) : Int := rhi r w - rlo r + 1
def msk (lo hi : Int) : Int := am_w (am_shl 1 (am_w (hi + 1)) - am_shl 1 lo)
def rmk (r : cRg) (w : Int) : Int := msk (rlo r) (rhi r w)
section
variable (K V : Nat → Int) (chs : List cCh)
def kOf (v : Int) : Option Nat := if v = 6 then some 0 else if v = 7 then some 1 else if ffnd v (chs.map fun c => V c.1) 0 = -1 then none else some (2 + (ffnd v (chs.map fun c => V c.1) 0).toNat)
def cNm (ch : cCh) : List Int := ch.2.1.map fun p => V p.1
def cWs (ch : cCh) : List Int := ch.2.1.map fun p => c_w V p.2
def cIn (ch : cCh) : List Int := ch.2.2.2.2.map V
def kNm (k : Nat) : List Int := if k = 0 then [8, 9, 11] else if k = 1 then [10, 11] else match chs[k - 2]? with
  | some ch => cNm V ch
  | none => []
def kWd (k : Nat) : List Int := if k = 0 then [1, 1, 1] else if k = 1 then [1, 1] else match chs[k - 2]? with
  | some ch => cWs V ch
  | none => []
def kIp (k : Nat) : Nat := if k = 0 then 2 else if k = 1 then 1 else match chs[k - 2]? with
  | some ch => ch.2.2.1
  | none => 0
/-- the pin that a link names; its width -/
def lpn (k : Nat) (l : cLk) : Int := ffnd (V l.1) (kNm V chs k) 0
def lwd (k : Nat) (l : cLk) : Int := (kWd V chs k).getD (lpn V chs k l).toNat 1
def rpn (ch : cCh) (l : cLk) : Int := ffnd (V l.2.2.1) (cNm V ch) 0
def rin (ch : cCh) (l : cLk) : Int := ffnd (V l.2.2.1) (cIn V ch) 0
def rwd (ch : cCh) (l : cLk) : Int := (cWs V ch).getD (rpn V ch l).toNat 1
/-- the right side of a link from an OUT pin -/
def lkD (ch : cCh) (wd : Int) (l : cLk) (Q G : Nat → Int) : cF ⊕ ((Nat → Int) × (Nat → Int)) :=
  if K l.2.2.1 = 2 then
    (if rpn V ch l = -1 then
      (if G (rin V ch l).toNat = 0 then (if l.2.2.2.1.1 = -1 then .inr (Q, p_set G (rin V ch l).toNat 1) else .inl (5, l.2.2.2.1.1.toNat)) else .inl (3, l.2.2.1))
    else if rpn V ch l < ch.2.2.1 then .inl (4, l.2.2.1)
    else if rok l.2.2.2.1 (rwd V ch l) then
      (if am_and (Q (rpn V ch l).toNat) (rmk l.2.2.2.1 (rwd V ch l)) = 0 then
        (if rn l.2.2.2.1 (rwd V ch l) = wd then .inr (p_set Q (rpn V ch l).toNat (am_or (Q (rpn V ch l).toNat) (rmk l.2.2.2.1 (rwd V ch l))), G) else .inl (5, l.2.2.1))
      else .inl (3, l.2.2.1))
    else .inl (5, l.2.2.2.1.1.toNat))
  else .inl (4, l.2.2.1)
/-- of one from an IN pin -/
def lkX (ch : cCh) (W : Nat → Int) (wd : Int) (l : cLk) : Option cF :=
  if K l.2.2.1 = 2 then
    (if rpn V ch l = -1 then
      (if W (rin V ch l).toNat = 0 then some (4, l.2.2.1) else if l.2.2.2.1.1 = -1 then (if W (rin V ch l).toNat = -1 ∨ W (rin V ch l).toNat = wd then none else some (5, l.2.2.1)) else some (5, l.2.2.2.1.1.toNat))
    else if rpn V ch l < ch.2.2.1 then
      (if rok l.2.2.2.1 (rwd V ch l) then (if rn l.2.2.2.1 (rwd V ch l) = wd then none else some (5, l.2.2.1)) else some (5, l.2.2.2.1.1.toNat))
    else some (4, l.2.2.1))
  else none
abbrev cSt : Type := (Nat → Int) × (Nat → Int) × (Nat → Int)
def lkS (k : Nat) (ch : cCh) (W : Nat → Int) (l : cLk) (s : cSt) : cF ⊕ cSt :=
  if lpn V chs k l = -1 then .inl (4, l.1)
  else if rok l.2.1 (lwd V chs k l) then
    (if lpn V chs k l < kIp chs k then
      (if am_and (s.1 (lpn V chs k l).toNat) (rmk l.2.1 (lwd V chs k l)) = 0 then
        match lkX K V ch W (rn l.2.1 (lwd V chs k l)) l with
        | some e => .inl e
        | none => .inr (p_set s.1 (lpn V chs k l).toNat (am_or (s.1 (lpn V chs k l).toNat) (rmk l.2.1 (lwd V chs k l))), s.2)
      else .inl (3, l.1))
    else match lkD K V ch (rn l.2.1 (lwd V chs k l)) l s.2.1 s.2.2 with
      | .inl e => .inl e
      | .inr u => .inr (p_set s.1 (lpn V chs k l).toNat (am_or (s.1 (lpn V chs k l).toNat) (rmk l.2.1 (lwd V chs k l))), u))
  else .inl (5, l.2.1.1.toNat)
def lksS (k : Nat) (ch : cCh) (W : Nat → Int) : List cLk → cSt → cF ⊕ cSt
  | [], s => .inr s
  | l :: ls, s => match lkS K V chs k ch W l s with
    | .inl e => .inl e
    | .inr s' => lksS k ch W ls s'
def prS (ch : cCh) (W : Nat → Int) (q : Nat × List cLk) (s : (Nat → Int) × (Nat → Int)) : cF ⊕ ((Nat → Int) × (Nat → Int)) := match kOf V chs (V q.1) with
  | none => .inl (4, q.1)
  | some k => match lksS K V chs k ch W q.2 (fun _ => 0, s) with
    | .inl e => .inl e
    | .inr s' => .inr s'.2
def prsS (ch : cCh) (W : Nat → Int) : List (Nat × List cLk) → (Nat → Int) × (Nat → Int) → cF ⊕ ((Nat → Int) × (Nat → Int))
  | [], s => .inr s
  | q :: qs, s => match prS K V chs ch W q s with
    | .inl e => .inl e
    | .inr s' => prsS ch W qs s'
/-- widths of inner names -/
def gv1 (k : Nat) (ch : cCh) (l : cLk) (W : Nat → Int) : Nat → Int :=
  if lpn V chs k l < kIp chs k ∨ K l.2.2.1 ≠ 2 ∨ rin V ch l = -1 ∨ W (rin V ch l).toNat ≠ 0 then W
  else p_set W (rin V ch l).toNat (if rok l.2.1 (lwd V chs k l) then rn l.2.1 (lwd V chs k l) else -1)
def gvl (k : Nat) (ch : cCh) : List cLk → (Nat → Int) → Nat → Int
  | [], W => W
  | l :: ls, W => gvl k ch ls (gv1 K V chs k ch l W)
def gvp (ch : cCh) (q : Nat × List cLk) (W : Nat → Int) : Nat → Int := match kOf V chs (V q.1) with
  | none => W
  | some k => gvl K V chs k ch q.2 W
def gvs (ch : cCh) : List (Nat × List cLk) → (Nat → Int) → Nat → Int
  | [], W => W
  | q :: qs, W => gvs ch qs (gvp K V chs ch q W)
def cIW (ch : cCh) : Nat → Int := gvs K V chs ch ch.2.2.2.1 fun _ => 0
/-- heads -/
def pnS (ns : List Int) : List (Nat × Int) → Nat → Option cF
  | [], _ => none
  | p :: ps, k => if ffnd (V p.1) ns 0 = (k : Int) then (if p.2 = -1 ∨ (1 ≤ V p.2.toNat ∧ V p.2.toNat ≤ 16) then pnS ns ps (k + 1) else some (5, p.2.toNat)) else some (3, p.1)
def hdS (c : Nat) (ch : cCh) : Option cF := if kOf V chs (V ch.1) = some (2 + c) then pnS V (cNm V ch) ch.2.1 0 else some (3, ch.1)
def ckS (c : Nat) (ch : cCh) : Option cF := match hdS V chs c ch with
  | some e => some e
  | none => match prsS K V chs ch (cIW K V chs ch) ch.2.2.2.1 (fun _ => 0, fun _ => 0) with
    | .inl e => some e
    | .inr _ => none
def cksS : List cCh → Nat → Option cF
  | [], _ => none
  | ch :: cs, c => match ckS K V chs c ch with
    | some e => some e
    | none => cksS cs (c + 1)
end
theorem msk_eq : ∀ lo hi : Nat, lo ≤ hi → hi < 16 → msk lo hi = (2 ^ (hi + 1) - 2 ^ lo : Nat) := by
  have : ∀ lo hi : Fin 16, lo.1 ≤ hi.1 → msk (lo.1 : Int) (hi.1 : Int) = (2 ^ (hi.1 + 1) - 2 ^ lo.1 : Nat) := by decide
  intro lo hi h1 h2
  exact this ⟨lo, by omega⟩ ⟨hi, h2⟩ h1
section
variable {K V : Nat → Int} {chs : List cCh}
theorem c_w_rg (V : Nat → Int) (x : Int) : 1 ≤ c_w V x ∧ c_w V x ≤ 16 := by
  unfold c_w
  split
  · omega
  · split <;> omega
theorem kOf_rg {v : Int} {k : Nat} (h : kOf V chs v = some k) : k < 2 + chs.length := by
  unfold kOf at h
  split at h
  · cases h; omega
  · split at h
    · cases h; omega
    · split at h
      · cases h
      · have := ffnd_rg (chs.map fun c => V c.1) v 0
        rw [List.length_map] at this
        cases h
        omega
theorem kb_c (c : Nat) : kb (2 + c) = 83 + 7 * c := by unfold kb; rw [if_neg (by omega)]; omega
theorem kNm_c {c : Nat} {ch : cCh} (h : chs[c]? = some ch) : kNm V chs (2 + c) = cNm V ch ∧ kWd V chs (2 + c) = cWs V ch ∧ kIp chs (2 + c) = ch.2.2.1 := by
  unfold kNm kWd kIp
  rw [if_neg (by omega), if_neg (by omega), if_neg (by omega), if_neg (by omega), if_neg (by omega), if_neg (by omega), show 2 + c - 2 = c by omega, h]
  exact ⟨rfl, rfl, rfl⟩
theorem k_cases {k : Nat} (h : k < 2 + chs.length) : k = 0 ∨ k = 1 ∨ ∃ c ch, k = 2 + c ∧ chs[c]? = some ch := by
  by_cases h0 : k = 0
  · exact Or.inl h0
  by_cases h1 : k = 1
  · exact Or.inr (Or.inl h1)
  · exact Or.inr (Or.inr ⟨k - 2, chs[k - 2], by omega, List.getElem?_eq_getElem (by omega)⟩)
theorem kWd_len (k : Nat) : (kWd V chs k).length = (kNm V chs k).length := by
  unfold kWd kNm
  split
  · rfl
  · split
    · rfl
    · split
      · unfold cWs cNm; rw [List.length_map, List.length_map]
      · rfl
theorem kWd_rg (k : Nat) : ∀ w ∈ kWd V chs k, 1 ≤ w ∧ w ≤ 16 := by
  unfold kWd
  intro w hw
  split at hw
  · simp at hw; omega
  · split at hw
    · simp at hw; omega
    · split at hw
      · unfold cWs at hw
        obtain ⟨p, -, rfl⟩ := List.mem_map.1 hw
        exact c_w_rg V p.2
      · exact absurd hw List.not_mem_nil
theorem getD_rg {l : List Int} (h : ∀ w ∈ l, 1 ≤ w ∧ w ≤ 16) (k : Nat) : 1 ≤ l.getD k 1 ∧ l.getD k 1 ≤ 16 := by
  rw [List.getD_eq_getElem?_getD]
  cases hk : l[k]? with
  | none => exact ⟨by decide, by decide⟩
  | some w => exact h w (List.mem_of_getElem? hk)
theorem lwd_rg (k : Nat) (l : cLk) : 1 ≤ lwd V chs k l ∧ lwd V chs k l ≤ 16 := getD_rg (kWd_rg k) _
theorem rwd_rg (ch : cCh) (l : cLk) : 1 ≤ rwd V ch l ∧ rwd V ch l ≤ 16 := getD_rg (fun w hw => by unfold cWs at hw; obtain ⟨p, -, rfl⟩ := List.mem_map.1 hw; exact c_w_rg V p.2) _
/-- ranges of a link's numbers -/
theorem c_rng_v {i q : Nat} {r : cRg} (h : c_rng K V i = .inr (r.1, r.2.1, r.2.2, q)) (hv : ∀ j, K j = 3 → 0 ≤ V j ∧ V j ≤ 99) : 0 ≤ r.2.1 ∧ r.2.1 ≤ 99 ∧ 0 ≤ r.2.2 ∧ r.2.2 ≤ 99 := by
  unfold c_rng at h
  split at h
  · split at h
    · rename_i c2
      split at h
      · split at h
        · rename_i c4
          split at h
          · have e1 := congrArg (fun x => match x with | .inr q => q.2.1 | .inl _ => 0) h
            have e2 := congrArg (fun x => match x with | .inr q => q.2.2.1 | .inl _ => 0) h
            dsimp only at e1 e2
            have := hv _ c2; have := hv _ c4
            omega
          · cases h
        · cases h
      · split at h
        · have e1 := congrArg (fun x => match x with | .inr q => q.2.1 | .inl _ => 0) h
          have e2 := congrArg (fun x => match x with | .inr q => q.2.2.1 | .inl _ => 0) h
          dsimp only at e1 e2
          have := hv _ c2
          omega
        · cases h
    · cases h
  · have e1 := congrArg (fun x => match x with | .inr q => q.2.1 | .inl _ => 0) h
    have e2 := congrArg (fun x => match x with | .inr q => q.2.2.1 | .inl _ => 0) h
    dsimp only at e1 e2
    omega
theorem rlo_rg {r : cRg} {w : Int} (h : 0 ≤ r.2.1 ∧ r.2.1 ≤ 99 ∧ 0 ≤ r.2.2 ∧ r.2.2 ≤ 99) (hw : 1 ≤ w ∧ w ≤ 16) : 0 ≤ rlo r ∧ rlo r ≤ 99 ∧ 0 ≤ rhi r w ∧ rhi r w ≤ 99 := by
  unfold rlo rhi
  split <;> omega
end
