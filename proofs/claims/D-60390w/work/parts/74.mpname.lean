/-! PURE LAYER, 44: the model's terms that begin with a sign or a name -/
theorem p_xVI {L : Nat} {D : Option am_O} {k1 : Int → am_H → Option am_O} {k2 : am_H → Option am_O} : am_xV (zS L) (am_xI (zS L) D (am_up1 (zS L)) k1) (am_up1 (zS L)) k2 = am_xI (zS L) D (am_up1 (zS L)) fun v h => am_xV (zS L) (k1 v h) (am_up1 (zS L)) k2 := by
  rcases D with _ | ⟨_ | _, s⟩
  · rfl
  · rename_i v
    rcases v with _ | v | v
    · rfl
    · by_cases c : s.1 = zS L
      · show am_xV (zS L) (if s.1 = zS L then k1 v s.2 else none) _ _ = if s.1 = zS L then _ else none
        rw [if_pos c, if_pos c]
      · show am_xV (zS L) (if s.1 = zS L then k1 v s.2 else none) _ _ = if s.1 = zS L then _ else none
        rw [if_neg c, if_neg c]; rfl
    · rfl
  · rename_i a
    by_cases c : s.1 = zS L
    · show am_xV (zS L) (if s.1 = zS L then am_up1 (zS L) a s.2 else none) _ _ = if s.1 = zS L then _ else none
      rw [if_pos c]
      show (if (zS L) = zS L then _ else none) = _
      rw [if_pos rfl]
    · show am_xV (zS L) (if s.1 = zS L then am_up1 (zS L) a s.2 else none) _ _ = if s.1 = zS L then _ else none
      rw [if_neg c]; rfl
section
variable {K V P : Nat → Int} {Z : Nat} {g0 : am_H} {oc : List Int} {i deep st : Nat} {g h : am_H} (d L : Nat) {ls : List (Int × Int × Int)} {nt dv : Int}
/-- - or ~ ahead of a term -/
theorem mx_unary {α : Type} {F : Nat → gx_R α} {ok : α → Option am_O → Prop} {u : Option am_V} (E : mp_E K V P Z g0 ls nt dv oc i deep st g h) (hs : gx_sg K V 45 i ∨ gx_sg K V 126 i)
    (hk : ∀ h1, mp_E K V P Z g0 ((4, 0, if V i = 45 then 7 else 8) :: ls) 1 dv oc (i + 1) (deep + 1) st g h1 → h1 284 = h 284 → deep < 25 → mo L (mx_L d L h1) g0 4950 (F (i + 1)) ok) :
    mo L (am_xV (zS L) (am_E (am_D (d + 7)) m_17_47 (.inl 9) [some (am_r (am_a 254)), u] [] (zS L, h)) (am_up1 (zS L)) (mx_L d L)) g0 4950 (gx_b (hx_open P deep i) F) ok := by
  have lt := E.1.lt
  have bd := E.1.bd
  have hl := E.2.2.2.2.2
  have hK : K i ≠ 0 ∧ K i ≠ 6 ∧ K i ≠ 7 := by rcases hs with z | z <;> exact ⟨by rw [z.1]; decide, by rw [z.1]; decide, by rw [z.1]; decide⟩
  have k5 : K i = 5 := by rcases hs with z | z <;> exact z.1
  obtain ⟨e1, -⟩ := mp_push (d + 6) L E 4
  have N1 : mp_N K V P Z g0 oc i deep st g (am_up (am_up (am_up h 290 ls.length 4) 291 ls.length 0) 254 51 ((ls.length : Int) + 1)) := ((E.1.hup 290 _ 4 rfl rfl rfl).hup 291 _ 0 rfl rfl rfl).lvl _ (by omega)
  have go : ∀ v : Int, v = (if V i = 45 then 7 else 8) → mo L (am_xV (zS L) (am_xV (zS L) (am_D (d + 7) 17 26 [am_r (am_a 254)] (zS L, (am_up (am_up (am_up (am_up h 290 ls.length 4) 291 ls.length 0) 254 51 ((ls.length : Int) + 1)) 292 ls.length v))) (am_up1 (zS L)) fun h7 => am_xV (zS L) (am_D (d + 7) 17 21 [am_r (am_a 254)] (zS L, h7)) (am_up1 (zS L)) fun h8 => am_bit 1 (some (.inl none, (zS L, (am_up h8 254 61 (1)))))) (am_up1 (zS L)) (mx_L d L)) g0 4950 (gx_b (hx_open P deep i) F) ok := by
    intro v ev
    have N2 := N1.hup 292 ls.length v rfl rfl rfl
    unfold hx_open gx_if hx_next
    rw [D_17_26, N2.op, p_w (by omega) (by omega), show ((deep : Int) + 1) = ((deep + 1 : Nat) : Int) by omega]
    by_cases hd : deep < 25
    · have N3 := N2.dp (deep + 1) (by omega)
      obtain ⟨e4, N4⟩ := mp_go (d + 6) L N3 hK
      rw [if_neg (by omega), if_pos hd, p_xV, e4, p_xV, p_bit1, p_xV]
      refine hk _ ⟨N4.hup 254 61 1 rfl rfl rfl, ?_, ⟨?_, ?_, ?_, E.2.2.1.same (fun k hk => ⟨?_, ?_, ?_⟩)⟩, p_up_s _ _ _ _, ?_, by simp; omega⟩ ?_ hd
      · simp [p_up]
      · simp [p_up]
      · simp [p_up]
      · simp [p_up, ev]
      · simp [p_up]; intro z; omega
      · simp [p_up]; intro z; omega
      · simp [p_up]; intro z; omega
      · simp [p_up]; exact E.2.2.2.2.1
      · funext k; simp [p_up]
    · rw [if_pos (by omega), if_neg hd]
      intro _
      have pre : mp_pre g0 (am_up (am_up (am_up (am_up (am_up h 290 ls.length 4) 291 ls.length 0) 254 51 ((ls.length : Int) + 1)) 292 ls.length v) 254 48 ((deep + 1 : Nat) : Int)) := by
        obtain ⟨b1, b2, b3, b4, b5, b6, b7, b8, b9, b10⟩ := N2.pre
        refine ⟨b1.upf _ _ _ rfl, ?_, ?_, ?_, ?_, ?_, ?_, ?_, ?_, ?_⟩
        · rw [p_up_n _ _ _ _ _ _ (Or.inr (by decide))]; exact b2
        · rw [p_up_n _ _ _ _ _ _ (Or.inr (by decide))]; exact b3
        · rw [p_up_n _ _ _ _ _ _ (Or.inr (by decide))]; exact b4
        · rw [p_up_n _ _ _ _ _ _ (Or.inr (by decide))]; exact b5
        · rw [p_up_s]; omega
        · rw [p_up_n _ _ _ _ _ _ (Or.inr (by decide))]; exact b7
        · rw [p_up_n _ _ _ _ _ _ (Or.inr (by decide))]; exact b8
        · rw [p_up_n _ _ _ _ _ _ (Or.inr (by decide))]; exact b9
        · rw [p_up_n _ _ _ _ _ _ (Or.inr (by decide))]; exact b10
      obtain ⟨h4, e4, B4⟩ := mp_wrong0 (d + 5) L pre 2 (by decide) i (by omega)
      rw [p_up_c _ _ _ _ 258 (by decide), N2.pl] at B4
      have B5 := B4.up 254 61 1 rfl rfl
      rw [N2.nx, e4, p_xV, p_xV, mb_go (d + 6) L B4, p_xV, p_bit1, p_xV, mx_L_bad d L B5]
      exact ⟨_, rfl, B5.le (by omega)⟩
  rw [q_17_47_9, e1, p_xV, N1.nx, p_idx (by omega) (by omega), Int.toNat_natCast, N1.vl (by omega), p_up_s, p_w (by omega) (by omega), show (ls.length : Int) + 1 - 1 = (ls.length : Int) by omega]
  by_cases c : V i = 45
  · rw [if_pos c, p_idx (by omega) (by omega), Int.toNat_natCast]; exact go 7 (by rw [if_pos c])
  · rw [if_neg c, p_idx (by omega) (by omega), Int.toNat_natCast]; exact go 8 (by rw [if_neg c])
/-- the heap behind the beginning of a call -/
theorem mp_N.call {h' : am_H} {first last : Int} (N : mp_N K V P Z g0 oc i deep st g h) (hc : g 254 39 < 990) (hl : 0 ≤ last ∧ last ≤ 1001)
    (q : ∀ a k, ¬ (a = 254 ∧ k = 39) → ¬ (a = 282 ∧ k = (g 254 39).toNat) → ¬ (a = 283 ∧ k = (g 254 39).toNat) → ¬ (a = 284 ∧ k = (g 254 39).toNat) → ¬ (a = 289 ∧ k = (g 254 39).toNat) → h' a k = h a k)
    (q1 : h' 254 39 = g 254 39 + 1) (q2 : h' 282 (g 254 39).toNat = first) (q3 : h' 283 (g 254 39).toNat = last) (q5 : h' 289 (g 254 39).toNat = g 254 17 - 1) :
    mp_N K V P Z g0 (g 254 39 :: oc) i deep st (mi_call first last g) h' := by
  obtain ⟨f1, f2, ⟨n1, n2, n3, n4, n5⟩, tk, it, ok, bd, a1, a2, a3⟩ := N
  have o2 := ok.2.1
  have gq : ∀ a k, ¬ (a = 254 ∧ k = 39) → ¬ (a = 282 ∧ k = (g 254 39).toNat) → ¬ (a = 283 ∧ k = (g 254 39).toNat) → ¬ (a = 284 ∧ k = (g 254 39).toNat) → ¬ (a = 289 ∧ k = (g 254 39).toNat) → mi_call first last g a k = g a k := by
    intro a k c1 c2 c3 c4 c5
    unfold mi_call
    rw [p_up, if_neg c5, p_up, if_neg c4, p_up, if_neg c3, p_up, if_neg c2, p_up, if_neg c1]
  have g39 : mi_call first last g 254 39 = g 254 39 + 1 := by unfold mi_call; simp [p_up]
  refine ⟨?_, ?_, ⟨?_, ?_, ?_, ?_, ?_⟩, ?_, it, ?_, bd, ?_, ?_, ?_⟩
  · intro a k ha hk
    by_cases c1 : a = 254 ∧ k = 39
    · rw [c1.1, c1.2, q1, g39]
    by_cases c2 : a = 282 ∧ k = (g 254 39).toNat
    · rw [c2.1, c2.2, q2]; unfold mi_call; simp [p_up]
    by_cases c3 : a = 283 ∧ k = (g 254 39).toNat
    · rw [c3.1, c3.2, q3]; unfold mi_call; simp [p_up]
    by_cases c4 : a = 284 ∧ k = (g 254 39).toNat
    · rw [c4.1] at ha; exact absurd ha (by decide)
    by_cases c5 : a = 289 ∧ k = (g 254 39).toNat
    · rw [c5.1, c5.2, q5]; unfold mi_call; simp [p_up]
    rw [q a k c1 c2 c3 c4 c5, gq a k c1 c2 c3 c4 c5]
    exact f1 a k ha hk
  · unfold mi_call
    exact ((((f2.upf _ _ _ rfl).upc _ _ _ rfl).upc _ _ _ rfl).upc _ _ _ rfl).upc _ _ _ rfl
  · rw [q 254 10 (by simp) (by simp) (by simp) (by simp) (by simp)]; exact n1
  · rw [q 254 11 (by simp) (by simp) (by simp) (by simp) (by simp)]; exact n2
  · rw [q 254 48 (by simp) (by simp) (by simp) (by simp) (by simp)]; exact n3
  · rw [q 254 49 (by simp) (by simp) (by simp) (by simp) (by simp)]; exact n4
  · rw [q 254 51 (by simp) (by simp) (by simp) (by simp) (by simp)]; exact n5
  · unfold mi_call mp_T at *
    rw [p_up_c _ _ _ _ 257 (by decide), p_up_c _ _ _ _ 257 (by decide), p_up_c _ _ _ _ 257 (by decide), p_up_c _ _ _ _ 257 (by decide), p_up_c _ _ _ _ 257 (by decide), p_up_c _ _ _ _ 258 (by decide), p_up_c _ _ _ _ 258 (by decide), p_up_c _ _ _ _ 258 (by decide), p_up_c _ _ _ _ 258 (by decide), p_up_c _ _ _ _ 258 (by decide), p_up_c _ _ _ _ 260 (by decide), p_up_c _ _ _ _ 260 (by decide), p_up_c _ _ _ _ 260 (by decide), p_up_c _ _ _ _ 260 (by decide), p_up_c _ _ _ _ 260 (by decide)]
    exact tk
  · unfold mp_ok at *
    have e : ∀ k, k ≠ 39 → mi_call first last g 254 k = g 254 k := fun k hk => gq 254 k (fun z => hk z.2) (by simp) (by simp) (by simp) (by simp)
    rw [e 33 (by decide), g39, e 17 (by decide), e 14 (by decide), e 25 (by decide), e 16 (by decide)]
    exact ⟨ok.1, by omega, ok.2.2⟩
  · intro k hk
    rw [gq 254 33 (by simp) (by simp) (by simp) (by simp) (by simp)] at hk
    rw [gq 277 k (by simp) (by simp) (by simp) (by simp) (by simp), gq 280 k (by simp) (by simp) (by simp) (by simp) (by simp), q 280 k (by simp) (by simp) (by simp) (by simp) (by simp)]
    exact a1 k hk
  · intro k hk hno
    rw [g39] at hk
    have kc : k ≠ (g 254 39).toNat := fun z => hno (List.mem_cons.mpr (Or.inl (by omega)))
    rw [q 284 k (by simp) (by simp) (by simp) (by simp [kc]) (by simp), gq 284 k (by simp) (by simp) (by simp) (by simp [kc]) (by simp)]
    exact a2 k (by omega) (fun z => hno (List.mem_cons_of_mem _ z))
  · intro c hc'
    rw [g39]
    rcases List.mem_cons.mp hc' with rfl | hc'
    · refine ⟨o2.1, by omega, ?_⟩
      have : mi_call first last g 283 (g 254 39).toNat = last := by unfold mi_call; simp [p_up]
      rw [this]; exact hl
    · obtain ⟨b1, b2, b3⟩ := a3 c hc'
      refine ⟨b1, by omega, ?_⟩
      rw [gq 283 _ (by simp) (by simp) (by simp; omega) (by simp) (by simp)]
      exact b3
end
