/-! HACK, 13: what is watched -/
section
variable {L n : Nat} {h h' : am_H} {r : Nat → Int} {a d : Int} {o : Option am_O} {w : Nat}
theorem w_go {mk : Int} (E : h 17 14 ≠ 0) (hw : w < 32768) (hm : h 16 w = mk) (h0 : mk ≠ 0) (hv : am_D (n + 3) 10 4 [am_r (am_a 17), am_i mk] (zS L, rr h r) = pV L (rr h' r)) (H : H4 L n h' ((w : Int), a, d, r) o) : H3 L n h ((w : Int), a, d, r) o := by
  intro u1 u2 u6 u7 u8 u9 u10
  dsimp only
  rw [q_10_7_3, rr_n _ _ (by decide), if_neg E, p_idx (by omega) (by omega), rr_n _ _ (by decide), Int.toNat_natCast, hm, if_neg h0, hv, p_xV]
  exact H u1 u2 _ u7 u8 u9 u10
theorem h4_stop (hw : w < 32768) (E : h 17 14 = 0) : H4 L n h ((w : Int), a, d, r) (pI L (h 17 12) (rr h r)) := by
  intro u1 u2 u6 u7 u8 u9 u10
  dsimp only
  rw [q_10_7_4, p_idx (by omega) (by omega), rr_n _ _ (by decide), if_pos E]
/-- where the run stops at a watch -/
def hS (e : Int) (h : am_H) : am_H := am_up (am_up h 17 12 e) 17 14 0
theorem w_stop (e : Int) : am_D (n + 1) 10 3 [am_r (am_a 17), am_i e] (zS L, rr h r) = pV L (rr (hS e h) r) := by
  rw [D_10_3, p_bit0, rr_uf _ _ (by decide), rr_uf _ _ (by decide)]; rfl
/-- a statement begins -/
theorem w_place {p dp : Nat} (h10 : h 17 10 = (dp : Int)) (hd : dp < 42) (h8 : h 17 8 ≤ 5000 ∧ 0 ≤ h 17 8) (hp : p ≤ 32000) : am_D (n + 3) 10 4 [am_r (am_a 17), am_i ((p : Int) + 3)] (zS L, rr h r) = pV L (rr (if h 17 8 = h 17 9 then hS 1 (am_up h 21 dp (p : Int)) else am_up (am_up h 21 dp (p : Int)) 17 8 (h 17 8 + 1)) r) := by
  have f : ∀ j, rr (am_up h 21 dp (p : Int)) r 17 j = h 17 j := fun j => by rw [rr_n _ _ (by decide), p_up_c _ _ _ _ _ (by decide)]
  rw [D_10_4, if_neg (by omega), if_pos (by omega), rr_n _ _ (by decide), h10, p_idx (by omega) (by omega), rr_uf _ _ (by decide), Int.toNat_natCast, p_w (by omega) (by omega), show (p : Int) + 3 - 3 = (p : Int) by omega, q_10_4_2, f, f]
  by_cases c : h 17 8 = h 17 9
  · rw [if_pos c, if_pos c, w_stop, p_xV]
  · rw [if_neg c, if_neg c, if_pos (by omega), rr_uf _ _ (by decide), p_w (by omega) (by omega)]
/-- a sub of the text begins -/
theorem w_enter {dp : Nat} (h10 : h 17 10 = (dp : Int)) (hd : dp ≤ 40) (h8 : h 17 8 ≤ 5000 ∧ 0 ≤ h 17 8) : am_D (n + 3) 10 4 [am_r (am_a 17), am_i 1] (zS L, rr h r) = pV L (rr (if h 17 8 = h 17 9 then hS 1 h else if dp = 40 then hS 2 (am_up h 17 8 (h 17 8 + 1)) else am_up (am_up (am_up (am_up h 17 8 (h 17 8 + 1)) 21 (dp + 1) (h 21 dp)) 17 10 ((dp : Int) + 1)) 17 11 (if (dp : Int) + 1 ≤ h 17 11 then h 17 11 else (dp : Int) + 1)) r) := by
  rw [D_10_4, if_neg (by decide), if_neg (by decide), q_10_4_2]
  have f : ∀ j, rr h r 17 j = h 17 j := fun j => by rw [rr_n _ _ (by decide)]
  have g : ∀ j, rr h r 21 j = h 21 j := fun j => by rw [rr_n _ _ (by decide)]
  rw [f, f]
  by_cases c : h 17 8 = h 17 9
  · rw [if_pos c, if_pos c, w_stop, p_xV]
  · rw [if_neg c, if_neg c, if_neg (by decide), f, h10]
    by_cases c2 : dp = 40
    · rw [if_pos (by omega), if_pos c2, rr_uf _ _ (by decide), p_w (by omega) (by omega), w_stop, p_xV]
    · rw [if_neg (by omega), if_neg c2, p_idx (by omega) (by omega), p_w (x := (dp : Int) + 1) (by omega) (by omega), p_idx (by omega) (by omega), p_w (by omega) (by omega), rr_uf _ _ (by decide), rr_uf _ _ (by decide), rr_uf _ _ (by decide), rr_uf _ _ (by decide), g, f, Int.toNat_natCast, show ((dp : Int) + 1).toNat = dp + 1 by omega]
/-- it ends -/
theorem w_ret {dp : Nat} (h10 : h 17 10 = (dp : Int)) (hd : dp ≤ 41) : am_D (n + 3) 10 4 [am_r (am_a 17), am_i 2] (zS L, rr h r) = pV L (rr (am_up h 17 10 ((dp : Int) - 1)) r) := by
  rw [D_10_4, if_pos rfl, rr_n _ _ (by decide), h10, p_w (by omega) (by omega), rr_uf _ _ (by decide)]
end
