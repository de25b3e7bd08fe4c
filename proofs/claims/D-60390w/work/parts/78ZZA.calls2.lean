/-! PURE LAYER, 106: calls are looked at alike -/
section
variable {K K' P V sc ss n6 : Nat → Int} {cc cs : Nat → Nat} {b20 b21 b15 bv bl n0 n3 : Nat} {h c0 : am_H}
theorem cm_ne {q : Int} (hq : 0 ≤ q) : cm b20 cc q ≠ -1 ∧ 0 ≤ cm b20 cc q := by
  unfold cm
  rw [if_neg (by omega)]
  split
  · exact ⟨by omega, by omega⟩
  · exact ⟨by omega, by omega⟩
/-- the row of a sub that is found -/
theorem n_row (F : FT b20 b21 V h c0 n0 n3) (Sy : SY b20 b21 sc ss cc cs h c0) (t : Nat) {q : Int} (hq : 0 ≤ q ∧ q < 8 + (n0 : Int)) (hs : m_sof V ss h q t ≠ -1) :
    0 ≤ m_sof V ss h q t ∧ 0 ≤ sm b21 cs q (m_sof V ss h q t) ∧ (c0 220 (sm b21 cs q (m_sof V ss h q t)).toNat = 3 ↔ m_me h q (m_sof V ss h q t) = 1) ∧ c0 221 (sm b21 cs q (m_sof V ss h q t)).toNat = m_mo h q (m_sof V ss h q t) ∧ (m_me h q (m_sof V ss h q t) = 0 ∨ m_me h q (m_sof V ss h q t) = 1) := by
  obtain ⟨⟨f1, f2, f3, f4, f5, f6⟩, f7, f8⟩ := F
  obtain ⟨s1, s2, s3, s4, s5, s6, s7, s8, s9⟩ := Sy
  by_cases c8 : q < 8
  · obtain ⟨k, rfl⟩ : ∃ k : Nat, q = k := ⟨q.toNat, by omega⟩
    have e : m_sof V ss h (k : Int) t = p_find ss (V t) (h 297 (k + 1) - h 297 k).toNat (h 297 k).toNat := by unfold m_sof; rw [if_pos c8, Int.toNat_natCast]
    have w := s8 k (by omega)
    have rg := p_find_rg ss (V t) (h 297 (k + 1) - h 297 k).toNat (h 297 k).toNat
    rw [← e] at rg
    obtain ⟨j, hj⟩ : ∃ j : Nat, m_sof V ss h (k : Int) t = (j : Int) := ⟨(m_sof V ss h (k : Int) t).toNat, by omega⟩
    obtain ⟨z1, z2, z3, z4, z5, z6, z7⟩ := s4 k j (by omega) (by omega) (by omega)
    rw [hj]
    have es : sm b21 cs (k : Int) (j : Int) = (cs j : Int) := by unfold sm; rw [if_neg (by omega), if_pos c8, Int.toNat_natCast]
    have em : m_me h (k : Int) (j : Int) = h 300 j := by unfold m_me; rw [if_pos c8, Int.toNat_natCast]
    have eo : m_mo h (k : Int) (j : Int) = h 301 j := by unfold m_mo; rw [if_pos c8, Int.toNat_natCast]
    rw [es, em, eo, Int.toNat_natCast]
    exact ⟨by omega, by omega, z5, z6, s9 j⟩
  · have e : m_sof V ss h q t = p_find2 (h 263) (fun s => V (h 265 s).toNat) (q - 8) (V t) (h 254 17).toNat 0 := by unfold m_sof; rw [if_neg c8]
    have rg := p_find2_rg (h 263) (fun s => V (h 265 s).toNat) (q - 8) (V t) (h 254 17).toNat 0
    rw [← e] at rg
    obtain ⟨j, hj⟩ : ∃ j : Nat, m_sof V ss h q t = (j : Int) := ⟨(m_sof V ss h q t).toNat, by omega⟩
    obtain ⟨y1, y2, y3⟩ := f8 j (by omega)
    rw [hj]
    have es : sm b21 cs q (j : Int) = (b21 : Int) + j := by unfold sm; rw [if_neg (by omega), if_neg c8]
    have em : m_me h q (j : Int) = (if h 264 j = 3 then 1 else 0) := by unfold m_me; rw [if_neg c8, Int.toNat_natCast]
    have eo : m_mo h q (j : Int) = h 267 j := by unfold m_mo; rw [if_neg c8, Int.toNat_natCast]
    rw [es, em, eo, show ((b21 : Int) + (j : Int)).toNat = b21 + j by omega, y3, y2.2.2.1]
    refine ⟨by omega, by omega, ?_, rfl, ?_⟩
    · constructor
      · intro z; rw [if_pos z]
      · intro z
        by_cases c : h 264 j = 3
        · exact c
        · rw [if_neg c] at z; omega
    · split
      · exact Or.inr rfl
      · exact Or.inl rfl
/-- tables that are the same: names mean the same -/
theorem tab_eq {g : am_H} (f : ∀ a, (a = 3 ∨ a = 5 ∨ a = 6 ∨ (213 ≤ a ∧ a ≤ 222)) → g a = c0 a) (f2 : ∀ k, 19 ≤ k → g 212 k = c0 212 k) (x : Int) : ce_cls g x = ce_cls c0 x ∧ (∀ o, ce_sub g o x = ce_sub c0 o x) ∧ (∀ sy, ce_cof sy g x = ce_cof sy c0 x) ∧ (∀ sy o, ce_sof sy g o x = ce_sof sy c0 o x) := by
  have e1 : ce_cls g x = ce_cls c0 x := by unfold ce_cls; rw [f 213 (by omega), f 214 (by omega)]
  have e2 : ∀ o, ce_sub g o x = ce_sub c0 o x := fun o => by unfold ce_sub; rw [f 217 (by omega), f 218 (by omega), f 219 (by omega)]
  refine ⟨e1, e2, fun sy => ?_, fun sy o => ?_⟩
  · unfold ce_cof ce_own ce_hid; rw [e1, f 213 (by omega), f 214 (by omega), f2 20 (by omega), f 5 (by omega), f 6 (by omega)]
  · unfold ce_sof ce_hid; rw [e2, f2 20 (by omega), f 5 (by omega), f 6 (by omega)]
/-- a call's object, and what is looked at behind it -/
def ce_fst (V P : Nat → Int) (i j : Nat) (g : am_H) : gx_R am_H :=
  if i = j then
      ce_chk true (ce_sof false g (g 212 13) (V i) ≠ -1) (4, P i) (ce_chk true (g 220 (if ce_sof false g (g 212 13) (V i) ≤ 0 then 0 else ce_sof false g (g 212 13) (V i)).toNat = 3) (5, P i) (gx_b (ce_vm true 0 4 0 g) (ce_li true false 0 6 0)))
     else ce_chk true (ce_var g (V i) ∨ ce_cof false g (V i) ≠ -1) (4, P i) (if ce_var g (V i) then ce_load true false (V i) (P i) g else .inr g)
def ce_rst (K V P : Nat → Int) (i j : Nat) (g1 : am_H) : gx_R am_H :=
    ce_chk true (ce_cc true false V g1 i j ≠ -1 ∧ ce_sof false g1 (ce_cc true false V g1 i j) (V j) ≠ -1) (4, P j)
      (ce_chk true ((g1 220 (ce_cs true false V g1 i j).toNat = 3) ↔ ce_obj V g1 i j) (5, P j)
        (match gx_count K V (j + 1) 4500 (j + 1) 0 0 false with
         | none => .inl (8, 0)
         | some many => ce_chk true (g1 221 (ce_cs true false V g1 i j).toNat = many) (5, P j) (ce_chk true (i ≠ j ∨ g1 212 14 ≠ 2) (6, P i) (.inr g1))))
theorem ce_beg_eq (i j : Nat) (g : am_H) : ce_begin true false K V P i j g = ce_q (ce_nm g (V i) ∧ ce_nm g (V j) ∧ (0 ≤ g 212 20 ∧ g 212 20 ≤ g 213 3)) (gx_b (ce_fst V P i j g) (ce_rst K V P i j)) := rfl
/-- behind the object of a call -/
theorem ce_rest (F : FT b20 b21 V h c0 n0 n3) (Sy : SY b20 b21 sc ss cc cs h c0) {g1 : am_H} (f : ∀ a, (a = 3 ∨ a = 5 ∨ a = 6 ∨ (213 ≤ a ∧ a ≤ 222)) → g1 a = c0 a) (f2 : ∀ k, 19 ≤ k → g1 212 k = c0 212 k) {i j : Nat} {kc many : Int} {ob : Bool} (hk : kc = -1 ∨ 0 ≤ kc ∧ kc < 8 + (n0 : Int)) (hcc : ce_cc true false V g1 i j = cm b20 cc kc) (hob : ce_obj V g1 i j ↔ ob = true) (hg : gx_count K V (j + 1) 4500 (j + 1) 0 0 false = some many) :
    ce_rst K V P i j g1 =
    if kc = -1 ∨ m_sof V ss h kc j = -1 then .inl (4, P j) else if m_me h kc (m_sof V ss h kc j) ≠ (if ob = true then 1 else 0) then .inl (5, P j) else if m_mo h kc (m_sof V ss h kc j) ≠ many then .inl (5, P j) else if i = j ∧ g1 212 14 = 2 then .inl (6, P i) else .inr g1 := by
  unfold ce_rst
  rw [hg]
  dsimp only
  rcases hk with hk | hk
  · rw [if_pos (Or.inl hk)]
    unfold ce_chk
    rw [if_pos ⟨rfl, fun z => z.1 (by rw [hcc, hk]; rfl)⟩]
  have es : ce_sof false g1 (ce_cc true false V g1 i j) (V j) = sm b21 cs kc (m_sof V ss h kc j) := by
    rw [hcc, (tab_eq f f2 (V j)).2.2.2, n_sof F Sy j hk]
  by_cases c1 : m_sof V ss h kc j = -1
  · rw [if_pos (Or.inr c1)]
    unfold ce_chk
    rw [if_pos ⟨rfl, fun z => z.2 (by rw [es, c1]; rfl)⟩]
  obtain ⟨r1, r2, r3, r4, r5⟩ := n_row F Sy j hk c1
  have ecs : ce_cs true false V g1 i j = sm b21 cs kc (m_sof V ss h kc j) := by unfold ce_cs; rw [if_pos rfl]; exact es
  rw [if_neg (show ¬ (kc = -1 ∨ m_sof V ss h kc j = -1) by omega), ecs, f 220 (by omega), f 221 (by omega), r4, es]
  have k1 : ∀ x : gx_R am_H, ce_chk true (ce_cc true false V g1 i j ≠ -1 ∧ sm b21 cs kc (m_sof V ss h kc j) ≠ -1) (4, P j) x = x := fun x => by
    unfold ce_chk
    rw [if_neg (fun z => z.2 ⟨by rw [hcc]; exact (cm_ne hk.1).1, by omega⟩)]
  rw [k1]
  by_cases c2 : m_me h kc (m_sof V ss h kc j) = (if ob = true then 1 else 0)
  · have iff : (c0 220 (sm b21 cs kc (m_sof V ss h kc j)).toNat = 3 ↔ ce_obj V g1 i j) := by
      rw [r3, hob, c2]
      cases ob with
      | true => simp
      | false => simp
    rw [if_neg (fun z => z c2)]
    have k2 : ∀ x : gx_R am_H, ce_chk true (c0 220 (sm b21 cs kc (m_sof V ss h kc j)).toNat = 3 ↔ ce_obj V g1 i j) (5, P j) x = x := fun x => by
      unfold ce_chk
      rw [if_neg (fun z => z.2 iff)]
    rw [k2]
    by_cases c3 : m_mo h kc (m_sof V ss h kc j) = many
    · rw [if_neg (fun z => z c3)]
      unfold ce_chk
      rw [if_neg (fun z => z.2 c3)]
      by_cases c4 : i = j ∧ g1 212 14 = 2
      · rw [if_pos c4, if_pos ⟨rfl, fun z => by rcases z with z | z; exact z c4.1; exact z c4.2⟩]
      · rw [if_neg c4, if_neg (fun z => z.2 (by
          by_cases c5 : i = j
          · exact Or.inr (fun z => c4 ⟨c5, z⟩)
          · exact Or.inl c5))]
    · rw [if_pos c3]
      unfold ce_chk
      rw [if_pos ⟨rfl, c3⟩]
  · rw [if_pos c2]
    unfold ce_chk
    rw [if_pos ⟨rfl, fun iff => c2 (by
      rw [r3, hob] at iff
      cases ob with
      | true => simp at iff ⊢; exact iff
      | false => simp at iff ⊢; omega)⟩]
end
