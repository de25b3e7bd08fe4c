/-! PURE LAYER, 0: how equations are used -/
/-- outcomes of methods that leave the shapes alone -/
abbrev pI (L : Nat) (r : Int) (h : am_H) : Option am_O := some (.inl (some (am_i r)), (zS L, h))
abbrev pV (L : Nat) (h : am_H) : Option am_O := some (.inl none, (zS L, h))
abbrev pL (L : Nat) (r : Int) (h : am_H) : Option am_O := some (.inl (some (am_l r)), (zS L, h))
abbrev pR (L : Nat) (r : am_R) (h : am_H) : Option am_O := some (.inl (some (am_r r)), (zS L, h))
abbrev pT (L : Nat) (a : Nat) (h : am_H) : Option am_O := some (.inr a, (zS L, h))
def pB (p : Prop) [Decidable p] : Int := if p then 1 else 0
theorem p_idx {i : Int} {n : Nat} {k : Nat → Option am_O} (h1 : 0 ≤ i) (h2 : i < n) : am_idx i n k = k i.toNat := if_pos ⟨h1, h2⟩
theorem p_w {x : Int} (h1 : -2147483648 ≤ x) (h2 : x < 2147483648) : am_w x = x := Int.bmod_eq_of_le (by omega) (by omega)
theorem p_xI {L : Nat} {n : Int} {h : am_H} {f : Nat → am_H → Option am_O} {k : Int → am_H → Option am_O} : am_xI (zS L) (some (.inl (some (am_i n)), (zS L, h))) f k = k n h := by unfold am_xI; exact if_pos rfl
theorem p_xV {L : Nat} {h : am_H} {f : Nat → am_H → Option am_O} {k : am_H → Option am_O} : am_xV (zS L) (some (.inl none, (zS L, h))) f k = k h := by unfold am_xV; exact if_pos rfl
theorem p_xL {L : Nat} {n : Int} {h : am_H} {f : Nat → am_H → Option am_O} {k : Int → am_H → Option am_O} : am_xL (zS L) (some (.inl (some (am_l n)), (zS L, h))) f k = k n h := by unfold am_xL; exact if_pos rfl
theorem p_xR {L : Nat} {X : am_R} {h : am_H} {f : Nat → am_H → Option am_O} {k : am_R → am_H → Option am_O} : am_xR (zS L) (some (.inl (some (am_r X)), (zS L, h))) f k = k X h := by unfold am_xR; exact if_pos rfl
theorem p_xIt {L a : Nat} {h : am_H} {f : Nat → am_H → Option am_O} {k : Int → am_H → Option am_O} : am_xI (zS L) (some (.inr a, (zS L, h))) f k = f a h := by unfold am_xI; exact if_pos rfl
theorem p_xVt {L a : Nat} {h : am_H} {f : Nat → am_H → Option am_O} {k : am_H → Option am_O} : am_xV (zS L) (some (.inr a, (zS L, h))) f k = f a h := by unfold am_xV; exact if_pos rfl
theorem p_bit0 {k : Option am_O} : am_bit 0 k = k := if_pos (Or.inl rfl)
theorem p_bit1 {k : Option am_O} : am_bit 1 k = k := if_pos (Or.inr rfl)
theorem p_bitB {p : Prop} [Decidable p] {k : Option am_O} : am_bit (pB p) k = k := by
  unfold pB; split
  · exact p_bit1
  · exact p_bit0
theorem pB_t {p : Prop} [Decidable p] (h : p) : pB p = 1 := if_pos h
theorem pB_f {p : Prop} [Decidable p] (h : ¬ p) : pB p = 0 := if_neg h
theorem pB_0 {p : Prop} [Decidable p] : pB p = 0 ↔ ¬ p := by
  unfold pB; split
  · simp [*]
  · simp [*]
theorem pB_1 {p : Prop} [Decidable p] : pB p = 1 ↔ p := by
  unfold pB; split
  · simp [*]
  · simp [*]
theorem pB_rg (p : Prop) [Decidable p] : 0 ≤ pB p ∧ pB p ≤ 1 := by
  unfold pB; split <;> omega
theorem pB_congr {p q : Prop} [Decidable p] [Decidable q] (h : p ↔ q) : pB p = pB q := by
  unfold pB; by_cases hq : q
  · rw [if_pos hq, if_pos (h.mpr hq)]
  · rw [if_neg hq, if_neg (fun z => hq (h.mp z))]
/-- reading behind a write -/
theorem p_up (h : am_H) (a k : Nat) (v : Int) (b j : Nat) : am_up h a k v b j = if b = a ∧ j = k then v else h b j := by
  unfold am_up
  by_cases h1 : b = a
  · subst h1
    by_cases h2 : j = k
    · simp [h2]
    · simp [h2]
  · simp [h1]
theorem p_up_c (h : am_H) (a k : Nat) (v : Int) (b : Nat) (hb : b ≠ a) : am_up h a k v b = h b := by unfold am_up; simp [hb]
/-- one place of a row gets another number -/
def p_set (f : Nat → Int) (k : Nat) (v : Int) : Nat → Int := fun j => if j = k then v else f j
theorem p_set_s (f : Nat → Int) (k : Nat) (v : Int) : p_set f k v k = v := if_pos rfl
theorem p_set_n (f : Nat → Int) (k : Nat) (v : Int) (j : Nat) (h : j ≠ k) : p_set f k v j = f j := if_neg h
theorem p_up_f (h : am_H) (a k : Nat) (v : Int) : am_up h a k v a = p_set (h a) k v := by unfold am_up; simp only [if_true]; rfl
theorem p_up_s (h : am_H) (a k : Nat) (v : Int) : am_up h a k v a k = v := by unfold am_up; simp
theorem p_up_n (h : am_H) (a k : Nat) (v : Int) (b j : Nat) (hn : b ≠ a ∨ j ≠ k) : am_up h a k v b j = h b j := by
  rw [p_up, if_neg (by rintro ⟨h1, h2⟩; rcases hn with h | h; exact h h1; exact h h2)]
theorem p_up_up (h : am_H) (a k : Nat) (v w : Int) : am_up (am_up h a k v) a k w = am_up h a k w := by
  funext b j; rw [p_up, p_up, p_up]; split <;> rfl
theorem p_up_id (h : am_H) (a k : Nat) : am_up h a k (h a k) = h := by
  funext b j; rw [p_up]; split
  · rename_i c; rw [c.1, c.2]
  · rfl
theorem p_up_id' {h : am_H} {a k : Nat} {v : Int} (e : h a k = v) : am_up h a k v = h := by rw [← e]; exact p_up_id h a k
theorem p_up_comm (h : am_H) (a k : Nat) (v : Int) (b j : Nat) (w : Int) (hn : b ≠ a ∨ j ≠ k) : am_up (am_up h a k v) b j w = am_up (am_up h b j w) a k v := by
  funext c i; rw [p_up, p_up, p_up, p_up]
  by_cases h1 : c = b ∧ i = j
  · by_cases h2 : c = a ∧ i = k
    · exfalso; obtain ⟨rfl, rfl⟩ := h1; obtain ⟨rfl, rfl⟩ := h2; rcases hn with z | z <;> exact z rfl
    · simp only [if_pos h1, if_neg h2]
  · by_cases h2 : c = a ∧ i = k
    · simp only [if_pos h2, if_neg h1]
    · simp only [if_neg h1, if_neg h2]
/-- what has not changed: all but these cells and these places -/
def p_fr (cs : List Nat) (fs : List (Nat × Nat)) (h h' : am_H) : Prop := ∀ a j, cs.contains a = false → fs.contains (a, j) = false → h' a j = h a j
theorem p_fr.refl {cs : List Nat} {fs : List (Nat × Nat)} (h : am_H) : p_fr cs fs h h := fun _ _ _ _ => rfl
theorem p_fr.trans {cs : List Nat} {fs : List (Nat × Nat)} {h1 h2 h3 : am_H} (a : p_fr cs fs h1 h2) (b : p_fr cs fs h2 h3) : p_fr cs fs h1 h3 := fun c j hc hj => (b c j hc hj).trans (a c j hc hj)
theorem p_fr.cell {cs : List Nat} {fs : List (Nat × Nat)} {h h' : am_H} (f : p_fr cs fs h h') (a : Nat) (h1 : cs.contains a = false) (h2 : (fs.map (·.1)).contains a = false) : h' a = h a := funext fun j => f a j h1 (by
  cases hc : fs.contains (a, j) with
  | false => rfl
  | true =>
    have hm : (a, j) ∈ fs := by simpa using hc
    have : a ∈ fs.map (·.1) := List.mem_map.mpr ⟨_, hm, rfl⟩
    rw [List.contains_eq_mem, decide_eq_false_iff_not] at h2
    exact absurd this h2)
theorem p_fr.mono {cs cs' : List Nat} {fs fs' : List (Nat × Nat)} {h h' : am_H} (f : p_fr cs fs h h') (hc : (cs.all fun a => cs'.contains a) = true) (hf : (fs.all fun q => cs'.contains q.1 || fs'.contains q) = true) : p_fr cs' fs' h h' := by
  intro a j h1 h2
  refine f a j ?_ ?_
  · cases hx : cs.contains a with
    | false => rfl
    | true =>
      have := List.all_eq_true.mp hc a (by simpa using hx)
      rw [h1] at this; cases this
  · cases hx : fs.contains (a, j) with
    | false => rfl
    | true =>
      have := List.all_eq_true.mp hf (a, j) (by simpa using hx)
      dsimp only at this
      rw [h1, h2] at this; cases this
theorem p_fr.upc {cs : List Nat} {fs : List (Nat × Nat)} {h h' : am_H} (f : p_fr cs fs h h') (a k : Nat) (v : Int) (hc : cs.contains a = true) : p_fr cs fs h (am_up h' a k v) := by
  intro b j h1 h2
  rw [p_up_c _ _ _ _ _ (by rintro rfl; rw [hc] at h1; cases h1)]
  exact f b j h1 h2
theorem p_fr.upf {cs : List Nat} {fs : List (Nat × Nat)} {h h' : am_H} (f : p_fr cs fs h h') (a k : Nat) (v : Int) (hc : fs.contains (a, k) = true) : p_fr cs fs h (am_up h' a k v) := by
  intro b j h1 h2
  rw [p_up_n]
  · exact f b j h1 h2
  · by_cases hb : b = a
    · subst hb
      refine Or.inr ?_
      rintro rfl
      rw [hc] at h2; cases h2
    · exact Or.inl hb
/-- an array, an object is there -/
theorem p_arr {S : List am_C} {h : am_H} {a t n : Nat} {rs : List am_R} {k : Nat → Nat → List am_R → Option am_O} (hs : S[a]? = some (t, n, rs)) : am_arr (S, h) (am_a a) t k = k a n rs := by
  show am_ob S[a]? (fun q => cond (Nat.beq q.1 t) (k a q.2.1 q.2.2) none) = _
  rw [hs]
  show cond (Nat.beq t t) (k a n rs) none = _
  rw [Nat.beq_refl, cond_true]
theorem p_obj {S : List am_C} {h : am_H} {a c : Nat} {rs : List am_R} {k : Nat → List am_R → Option am_O} (hs : S[a]? = some (0, c, rs)) : am_obj (S, h) (am_a a) c k = k a rs := by
  show am_ob S[a]? (fun q => cond (Nat.beq q.1 0 && Nat.beq q.2.1 c) (k a q.2.2) none) = _
  rw [hs]
  show cond (Nat.beq 0 0 && Nat.beq c c) (k a rs) none = _
  rw [Nat.beq_refl, Nat.beq_refl]; rfl
/-! numbers -/
theorem p_s16_rg (x : Int) : -32768 ≤ am_s16 x ∧ am_s16 x ≤ 32767 := by
  unfold am_s16
  have h1 := Int.le_bmod (x := x) (m := 65536) (by omega)
  have h2 := Int.bmod_lt (x := x) (m := 65536) (by omega)
  omega
theorem p_s16 {x : Int} (h1 : -32768 ≤ x) (h2 : x ≤ 32767) : am_s16 x = x := Int.bmod_eq_of_le (by omega) (by omega)
theorem p_s16_s16 (x : Int) : am_s16 (am_s16 x) = am_s16 x := p_s16 (p_s16_rg x).1 (p_s16_rg x).2
theorem p_w_rg (x : Int) : -2147483648 ≤ am_w x ∧ am_w x < 2147483648 := by
  unfold am_w
  have h1 := Int.le_bmod (x := x) (m := 4294967296) (by omega)
  have h2 := Int.bmod_lt (x := x) (m := 4294967296) (by omega)
  omega
theorem p_w_id (x : Int) : am_w (am_w x) = am_w x := p_w (p_w_rg x).1 (p_w_rg x).2
theorem p_w_w (x y : Int) : am_w (am_w x + y) = am_w (x + y) := by unfold am_w; simp
theorem p_and_and (x a b : Int) (c : Int) (h : (Int32.ofInt a &&& Int32.ofInt b) = Int32.ofInt c) : am_and (am_and x a) b = am_and x c := by
  unfold am_and
  rw [Int32.ofInt_toInt, Int32.and_assoc, h]
theorem p_and_nn (x : Int) (m : Int) (hm : 0 ≤ m ∧ m < 2147483648) : 0 ≤ am_and x m ∧ am_and x m ≤ m := by
  obtain ⟨n, rfl⟩ := Int.eq_ofNat_of_zero_le hm.1
  unfold am_and
  have h2 : (Int32.ofInt x &&& Int32.ofInt (n : Int)).toInt = ((Int32.ofInt x).toBitVec &&& (Int32.ofInt (n : Int)).toBitVec).toInt := rfl
  have h3 : (Int32.ofInt (n : Int)).toBitVec = BitVec.ofNat 32 n := by
    show BitVec.ofInt 32 (n : Int) = _
    exact BitVec.ofInt_natCast ..
  rw [h2, h3]
  have h4 : ((Int32.ofInt x).toBitVec &&& BitVec.ofNat 32 n).toNat ≤ n := by
    rw [BitVec.toNat_and, BitVec.toNat_ofNat, Nat.mod_eq_of_lt (by omega)]
    exact Nat.and_le_right
  rw [BitVec.toInt_eq_toNat_cond, if_pos (by omega)]
  omega
