/-! PURE LAYER, 52: the model's blocks begin -/
/-- blocks that are open, the innermost first -/
def mp_Bs : List (Int × Int × Int × Int) → am_H → Prop
  | [], _ => True
  | b :: l, g => (g 293 l.length = b.1 ∧ g 294 l.length = b.2.1 ∧ g 295 l.length = b.2.2.1 ∧ g 296 l.length = b.2.2.2) ∧ (0 ≤ b.2.1 ∧ b.2.1 ≤ 100000 ∧ 0 ≤ b.2.2.1 ∧ b.2.2.1 < 4900) ∧ mp_Bs l g
theorem mp_Bs.same {g g2 : am_H} : ∀ {bs : List (Int × Int × Int × Int)}, mp_Bs bs g → (∀ k, k < bs.length → g2 293 k = g 293 k ∧ g2 294 k = g 294 k ∧ g2 295 k = g 295 k ∧ g2 296 k = g 296 k) → mp_Bs bs g2
  | [], _, _ => trivial
  | b :: l, s, e => by
    obtain ⟨⟨s1, s2, s3, s4⟩, s5, s6⟩ := s
    obtain ⟨e1, e2, e3, e4⟩ := e l.length (by simp)
    exact ⟨⟨e1.trans s1, e2.trans s2, e3.trans s3, e4.trans s4⟩, s5, s6.same fun k hk => e k (by simp; omega)⟩
section
variable (K V P : Nat → Int) (Z : Nat) (g0 : am_H)
/-- between statements -/
def mp_Q (bs : List (Int × Int × Int × Int)) (i deep st : Nat) (g h : am_H) : Prop := mp_N K V P Z g0 [] i deep st g h ∧ g 254 55 = bs.length ∧ mp_Bs bs g ∧ bs.length ≤ 40
end
section
variable {K V P : Nat → Int} {Z : Nat} {g0 : am_H} {i deep st : Nat} {g h : am_H} (d L : Nat) {G : Nat} {bs : List (Int × Int × Int × Int)}
theorem mp_Q.kp {g1 h1 : am_H} {j deep2 st2 : Nat} (Q : mp_Q K V P Z g0 bs i deep st g h) (N : mp_N K V P Z g0 [] j deep2 st2 g1 h1) (kp : mk_kp g g1) : mp_Q K V P Z g0 bs j deep2 st2 g1 h1 :=
  ⟨N, by rw [kp.2.1]; exact Q.2.1, Q.2.2.1.same fun k _ => ⟨by rw [kp.1 293 (by simp)], by rw [kp.1 294 (by simp)], by rw [kp.1 295 (by simp)], by rw [kp.1 296 (by simp)]⟩, Q.2.2.2⟩
/-- the same is written on both sides -/
theorem mp_N.both {oc : List Int} (N : mp_N K V P Z g0 oc i deep st g h) (a k : Nat) (v : Int) (hc : (mp_C2.contains a || mp_F2.contains (a, k)) = true) (ha : [277, 280, 283, 284, 257, 258, 260].contains a = false) (hn : (a == 254 && (k == 10 || k == 11 || k == 48 || k == 49 || k == 51 || k == 33 || k == 39)) = false) (ok : mp_ok (am_up g a k v)) : mp_N K V P Z g0 oc i deep st (am_up g a k v) (am_up h a k v) := by
  obtain ⟨f1, f2, ⟨n1, n2, n3, n4, n5⟩, tk, it, -, bd, a1, a2, a3⟩ := N
  have c : ∀ (x : am_H) (b : Nat), [277, 280, 283, 284, 257, 258, 260].contains b = true → am_up x a k v b = x b := fun x b hb => p_up_c _ _ _ _ _ (fun z => by rw [z, ha] at hb; cases hb)
  have c4 : ∀ (x : am_H) (j : Nat), (j = 10 ∨ j = 11 ∨ j = 48 ∨ j = 49 ∨ j = 51 ∨ j = 33 ∨ j = 39) → am_up x a k v 254 j = x 254 j := by
    intro x j hj
    refine p_up_n _ _ _ _ _ _ ?_
    by_cases e : 254 = a
    · right
      intro z
      rw [← e, ← z] at hn
      rcases hj with rfl | rfl | rfl | rfl | rfl | rfl | rfl <;> exact absurd hn (by decide)
    · exact Or.inl e
  refine ⟨pc_fr_both f1 _ _ _, ?_, ⟨?_, ?_, ?_, ?_, ?_⟩, ?_, it, ok, bd, ?_, ?_, ?_⟩
  · rw [Bool.or_eq_true] at hc
    rcases hc with c | c
    · exact f2.upc _ _ _ c
    · exact f2.upf _ _ _ c
  · rw [c4 h 10 (by simp)]; exact n1
  · rw [c4 h 11 (by simp)]; exact n2
  · rw [c4 h 48 (by simp)]; exact n3
  · rw [c4 h 49 (by simp)]; exact n4
  · rw [c4 h 51 (by simp)]; exact n5
  · unfold mp_T at *; rw [c g 257 rfl, c g 258 rfl, c g 260 rfl]; exact tk
  · rw [c4 g 33 (by simp), c g 277 rfl, c g 280 rfl, c h 280 rfl]; exact a1
  · rw [c4 g 39 (by simp), c g 284 rfl, c h 284 rfl]; exact a2
  · rw [c4 g 39 (by simp), c g 283 rfl]; exact a3
theorem mp_ok.f {g : am_H} (ok : mp_ok g) {k : Nat} {v : Int} (hk : k ≠ 33 ∧ k ≠ 39 ∧ k ≠ 17 ∧ k ≠ 14 ∧ k ≠ 25 ∧ k ≠ 16) : mp_ok (am_up g 254 k v) := by
  unfold mp_ok at *
  rw [p_up_n _ _ _ _ _ 33 (Or.inr (by omega)), p_up_n _ _ _ _ _ 39 (Or.inr (by omega)), p_up_n _ _ _ _ _ 17 (Or.inr (by omega)), p_up_n _ _ _ _ _ 14 (Or.inr (by omega)), p_up_n _ _ _ _ _ 25 (Or.inr (by omega)), p_up_n _ _ _ _ _ 16 (Or.inr (by omega))]
  exact ok
/-- the arrays of blocks are written -/
theorem mp_N.blk {oc : List Int} (N : mp_N K V P Z g0 oc i deep st g h) (k : Nat) (a b c e : Int) : mp_N K V P Z g0 oc i deep st (mi_blk k a b c e g) (mi_blk k a b c e h) := by
  have o := N.ok
  have n1 := N.both 293 k a rfl rfl rfl (o.upc (by decide))
  have n2 := n1.both 294 k b rfl rfl rfl (n1.ok.upc (by decide))
  have n3 := n2.both 295 k c rfl rfl rfl (n2.ok.upc (by decide))
  have n4 := n3.both 296 k e rfl rfl rfl (n3.ok.upc (by decide))
  exact n4.both 254 55 ((k : Int) + 1) rfl rfl rfl (n4.ok.f (by omega))
theorem mi_blk_c (k : Nat) (a b c e : Int) (g : am_H) (x : Nat) (hx : x ≠ 254 ∧ x ≠ 293 ∧ x ≠ 294 ∧ x ≠ 295 ∧ x ≠ 296) : mi_blk k a b c e g x = g x := by
  unfold mi_blk
  rw [p_up_c _ _ _ _ _ (by omega), p_up_c _ _ _ _ _ (by omega), p_up_c _ _ _ _ _ (by omega), p_up_c _ _ _ _ _ (by omega), p_up_c _ _ _ _ _ (by omega)]
/-- a block more -/
theorem mp_Q.push {b : Int × Int × Int × Int} (N : mp_N K V P Z g0 [] i deep st g h) (B : mp_Bs bs g) (hl : bs.length < 40) (hb : 0 ≤ b.2.1 ∧ b.2.1 ≤ 100000 ∧ 0 ≤ b.2.2.1 ∧ b.2.2.1 < 4900) : mp_Q K V P Z g0 (b :: bs) i deep st (mi_blk bs.length b.1 b.2.1 b.2.2.1 b.2.2.2 g) (mi_blk bs.length b.1 b.2.1 b.2.2.1 b.2.2.2 h) := by
  refine ⟨N.blk _ _ _ _ _, ?_, ⟨⟨?_, ?_, ?_, ?_⟩, hb, B.same fun k hk => ⟨?_, ?_, ?_, ?_⟩⟩, by simp; omega⟩
  · unfold mi_blk; rw [p_up_s]; simp
  · unfold mi_blk; simp [p_up]
  · unfold mi_blk; simp [p_up]
  · unfold mi_blk; simp [p_up]
  · unfold mi_blk; simp [p_up]
  · unfold mi_blk; simp [p_up]; intro z; omega
  · unfold mi_blk; simp [p_up]; intro z; omega
  · unfold mi_blk; simp [p_up]; intro z; omega
  · unfold mi_blk; simp [p_up]; intro z; omega
/-- begins(sort, label, hole, from) -/
theorem mq_begins {α : Type} {m2 : Nat} {k : am_H → Option am_O} {F : Nat → gx_R α} {ok : α → Option am_O → Prop} (N : mp_N K V P Z g0 [] i deep st g h) (B : mp_Bs bs g) (e55 : g 254 55 = bs.length) (hl : bs.length < 40) (so n hole from_ : Int) (hb : 0 ≤ n ∧ n ≤ 100000 ∧ 0 ≤ hole ∧ hole < 4900) (hm : mb L g0 4900 m2 k)
    (hk : ∀ h1, mp_Q K V P Z g0 ((so, n, hole, from_) :: bs) (i + 1) (deep + 1) st (mi_blk bs.length so n hole from_ g) h1 → mo L (k h1) g0 m2 (F (i + 1)) ok) : mo L (am_xV (zS L) (am_D (d + 4) 17 35 [am_r (am_a 254), am_i so, am_i n, am_i hole, am_i from_] (zS L, h)) (am_up1 (zS L)) k) g0 m2 (gx_b (hx_opens K V P 123 deep i) F) ok := by
  rw [D_17_35, p_xVV]
  refine mo_bV (mp_openSign d L N 123) ?_ ?_
  · intro e h1 B1
    have b1 := B1.2.1
    show ∃ h', am_xV (zS L) (if (0 : Int) < h1 254 11 then _ else _) (am_up1 (zS L)) k = pV L h' ∧ _
    rw [if_pos (by rw [B1.2.2.1]; exact b1), p_xV]
    exact hm e h1 B1
  · rintro j h1 - ⟨rfl, hdp, N1, eh⟩
    rw [N1.fa, if_neg (by decide), N1.eq 254 55 rfl rfl, e55, p_idx (by omega) (by omega), p_idx (by omega) (by omega), p_idx (by omega) (by omega), p_idx (by omega) (by omega), Int.toNat_natCast, p_w (by omega) (by omega), p_xV]
    exact hk _ (mp_Q.push (b := (so, n, hole, from_)) N1 B hl hb)
theorem mb_openSign {m : Nat} {e : Int × Int} (B : mp_B g0 m e h) (hm : m ≤ 5000) (c : Int) : ∃ h', am_D (d + 3) 17 27 [am_r (am_a 254), am_i c] (zS L, h) = pV L h' ∧ mp_B g0 (m + 1) e h' := by
  obtain ⟨v, e1, hv⟩ := mb_isSign (d + 1) L B c
  have b8 := B.2.2.2.2.2.2.2.1
  rw [D_17_27, e1, p_xI]
  rcases hv with rfl | rfl
  · rw [if_pos rfl, mb_syntax d L B, p_xV]
    exact ⟨h, rfl, B.le (by omega)⟩
  · have B2 := B.op (m2 := m + 1) (h 254 48 + 1) (by omega) (by omega)
    rw [if_neg (by decide), D_17_26, p_w (by omega) (by omega)]
    by_cases c25 : (25 : Int) < h 254 48 + 1
    · rw [if_pos c25, mb_wrong d L B2, p_xV, p_xV, mb_go (d + 1) L B2, p_xV]
      exact ⟨_, rfl, B2⟩
    · rw [if_neg c25, p_xV, mb_go (d + 1) L B2, p_xV]
      exact ⟨_, rfl, B2⟩
theorem mb_begins {m : Nat} {e : Int × Int} (B : mp_B g0 m e h) (hm : m ≤ 5000) (so n hole from_ : Int) : ∃ h', am_D (d + 4) 17 35 [am_r (am_a 254), am_i so, am_i n, am_i hole, am_i from_] (zS L, h) = pV L h' ∧ mp_B g0 (m + 1) e h' := by
  obtain ⟨h2, e2, B2⟩ := mb_openSign d L B hm 123
  have b1 := B.2.1
  rw [D_17_35, e2, p_xV, if_pos (by rw [B2.2.2.1]; exact b1)]
  exact ⟨h2, rfl, B2⟩
end
