/-! PURE LAYER, 18: the reading, step by step, from one start g0 -/
section
variable (K V P : Nat → Int) (sy w : Bool) (Z : Nat) (g0 : am_H)
/-- where the reading stands: at token i; g: what is emitted so far -/
def pc_N (i deep st : Nat) (g h : am_H) : Prop := pc_R K V P sy w i deep st g h ∧ ce_Q g0 g ∧ pc_I K Z i ∧ pc_Z K V sy Z ∧ (sy = false → st ≤ 300)
end
section
variable {K V P : Nat → Int} {sy w : Bool} {Z : Nat} {g0 : am_H} {i deep st : Nat} {g h : am_H} {β : Type}
theorem pc_N.R (N : pc_N K V P sy w Z g0 i deep st g h) : pc_R K V P sy w i deep st g h := N.1
theorem pc_N.I (N : pc_N K V P sy w Z g0 i deep st g h) : pc_I K Z i := N.2.2.1
theorem pc_N.zz (N : pc_N K V P sy w Z g0 i deep st g h) : pc_Z K V sy Z := N.2.2.2.1
theorem pc_N.ss (N : pc_N K V P sy w Z g0 i deep st g h) : sy = false → st ≤ 300 := N.2.2.2.2
theorem pc_N.lt (N : pc_N K V P sy w Z g0 i deep st g h) : i < 4500 := by have := N.I.1; have := N.zz.1; omega
theorem pc_N.wr (N : pc_N K V P sy w Z g0 i deep st g h) : h 212 24 = pB (w = true) := N.R.wr
theorem pc_N.deep_ (N : pc_N K V P sy w Z g0 i deep st g h) (j : Nat) : pc_N K V P sy w Z g0 i j st g (am_up h 212 11 j) := ⟨N.1.deep_ j, N.2⟩
theorem pc_N.str_ (N : pc_N K V P sy w Z g0 i deep st g h) (j : Nat) (hj : sy = false → j ≤ 300) : pc_N K V P sy w Z g0 i deep j g (am_up h 212 12 (am_w j)) := ⟨N.1.str_ j, N.2.1, N.I, N.zz, hj⟩
section
variable (d L : Nat)
theorem pn_next {k : am_H → Option am_O} {F : Nat → gx_R β} {ok : β → Option am_O → Prop} (N : pc_N K V P sy w Z g0 i deep st g h) (hK : K i ≠ 0 ∧ K i ≠ 6) (hk : ∀ j h1, gx_next sy K P i = .inr j → pc_N K V P sy w Z g0 j deep st g h1 → pc_o L (k h1) g0 (F j) ok) :
    pc_o L (am_xV (zS L) (am_D (d + 3) 7 10 [am_r (am_a 212)] (zS L, h)) (am_up1 (zS L)) k) g0 (gx_b (gx_next sy K P i) F) ok := by
  refine pc_bV ((pc_next d L N.zz N.R (N.I.lt hK)).mono N.2.1) ?_
  rintro j h1 e ⟨R, I⟩
  exact hk j h1 e ⟨R, N.2.1, I, N.2.2.2⟩
theorem pn_sign {k : am_H → Option am_O} {F : Nat → gx_R β} {ok : β → Option am_O → Prop} (N : pc_N K V P sy w Z g0 i deep st g h) (c : Int) (hk : ∀ j h1, pc_N K V P sy w Z g0 j deep st g h1 → pc_o L (k h1) g0 (F j) ok) :
    pc_o L (am_xV (zS L) (am_D (d + 4) 7 11 [am_r (am_a 212), am_i c] (zS L, h)) (am_up1 (zS L)) k) g0 (gx_b (gx_sign sy K V P c i) F) ok := by
  refine pc_bV ((pc_sign d L N.zz N.R N.I c).mono N.2.1) ?_
  rintro j h1 - ⟨R, I⟩
  exact hk j h1 ⟨R, N.2.1, I, N.2.2.2⟩
theorem gx_if_b {α β : Type} (p : Prop) [Decidable p] (e : Int × Int) (x : gx_R α) (F : α → gx_R β) : gx_b (gx_if p e x) F = gx_b (gx_if p e (.inr ())) fun _ => gx_b x F := by unfold gx_if; split <;> rfl
theorem gx_if_u {α : Type} (p : Prop) [Decidable p] (e : Int × Int) (x : gx_R α) : gx_if p e x = gx_b (gx_if p e (.inr ())) fun _ => x := by unfold gx_if; split <;> rfl
theorem gx_if_ok {p : Prop} [Decidable p] {e : Int × Int} {a : Unit} (h : gx_if p e (.inr ()) = .inr a) : p := by
  unfold gx_if at h
  split at h
  · assumption
  · cases h
theorem pn_need {k : am_H → Option am_O} {F : gx_R β} {ok : β → Option am_O → Prop} (N : pc_N K V P sy w Z g0 i deep st g h) (p : Prop) [Decidable p] (hk : p → pc_o L (k h) g0 F ok) :
    pc_o L (am_xV (zS L) (am_D (d + 2) 7 7 [am_r (am_a 212), am_i (pB p)] (zS L, h)) (am_up1 (zS L)) k) g0 (gx_if p (1, P i) F) ok := by
  rw [gx_if_u]
  refine pc_bV ((pc_need d L N.R N.lt p).mono N.2.1) ?_
  rintro a h1 ha rfl
  exact hk (gx_if_ok ha)
theorem pn_room {k : am_H → Option am_O} {F : gx_R β} {ok : β → Option am_O → Prop} (N : pc_N K V P sy w Z g0 i deep st g h) (p : Prop) [Decidable p] (hk : p → pc_o L (k h) g0 F ok) :
    pc_o L (am_xV (zS L) (am_D (d + 2) 7 8 [am_r (am_a 212), am_i (pB p)] (zS L, h)) (am_up1 (zS L)) k) g0 (gx_if p (2, P i) F) ok := by
  rw [gx_if_u]
  refine pc_bV ((pc_room d L N.R N.lt p).mono N.2.1) ?_
  rintro a h1 ha rfl
  exact hk (gx_if_ok ha)
theorem ce_chk_u {α : Type} (w : Bool) (p : Prop) [Decidable p] (e : Int × Int) (x : gx_R α) : ce_chk w p e x = gx_b (ce_chk w p e (.inr ())) fun _ => x := by unfold ce_chk; split <;> rfl
theorem ce_chk_ok {w : Bool} {p : Prop} [Decidable p] {e : Int × Int} {a : Unit} (h : ce_chk w p e (.inr ()) = .inr a) (hw : w = true) : p := by
  unfold ce_chk at h
  split at h
  · cases h
  · rename_i z; exact Classical.byContradiction fun y => z ⟨hw, y⟩
theorem pn_check {k : am_H → Option am_O} {F : gx_R β} {ok : β → Option am_O → Prop} (N : pc_N K V P sy w Z g0 i deep st g h) (p : Prop) [Decidable p] (c q : Int) (hk : (w = true → p) → pc_o L (k h) g0 F ok) :
    pc_o L (am_xV (zS L) (am_D (d + 2) 7 9 [am_r (am_a 212), am_i (pB p), am_i c, am_i q] (zS L, h)) (am_up1 (zS L)) k) g0 (ce_chk w p (c, q) F) ok := by
  rw [ce_chk_u]
  refine pc_bV ((pc_check d L N.R p c q).mono N.2.1) ?_
  rintro a h1 ha rfl
  exact hk (ce_chk_ok ha)
/-- open, next -/
theorem pn_open {k : am_H → Option am_O} {F : Nat → gx_R β} {ok : β → Option am_O → Prop} (N : pc_N K V P sy w Z g0 i deep st g h) (hK : K i ≠ 0 ∧ K i ≠ 6) (hk : ∀ j h1, deep < 25 → pc_N K V P sy w Z g0 j (deep + 1) st g h1 → pc_o L (k h1) g0 (F j) ok) :
    pc_o L (am_xV (zS L) (am_D (d + 3) 7 13 [am_r (am_a 212)] (zS L, h)) (am_up1 (zS L)) fun h2 => am_xV (zS L) (am_D (d + 3) 7 10 [am_r (am_a 212)] (zS L, h2)) (am_up1 (zS L)) k) g0 (gx_b (gx_open sy K P deep i) F) ok := by
  unfold gx_open
  rw [gx_if_b]
  have D13 : pc_o L (am_D (d + 3) 7 13 [am_r (am_a 212)] (zS L, h)) g0 (gx_if (deep < 25) (2, P i) (.inr ())) (fun _ D => ∃ h1, D = pV L h1 ∧ deep < 25 ∧ h1 = am_up h 212 11 ((deep + 1 : Nat) : Int)) := by
    have e : am_D (d + 3) 7 13 [am_r (am_a 212)] (zS L, h) = am_xV (zS L) (am_D (d + 2) 7 8 [am_r (am_a 212), am_i (pB (deep < 25))] (zS L, h)) (am_up1 (zS L)) fun h2 => some (.inl none, (zS L, (am_up h2 212 11 (am_w (h2 212 11 + 1))))) := by
      rw [D_7_13, N.R.2.2.1]
      by_cases c : deep < 25
      · rw [if_pos (by omega), pB_t c]
      · rw [if_neg (by omega), pB_f c]
    rw [e]
    refine pn_room d L N (deep < 25) (fun c => ⟨_, rfl, c, ?_⟩)
    rw [N.R.2.2.1, p_w (by omega) (by omega)]; rfl
  refine pc_bV D13 ?_
  rintro a h1 - ⟨c, rfl⟩
  exact pn_next d L (N.deep_ (deep + 1)) hK (fun j h2 _ N2 => hk j h2 c N2)
/-- the sign, open, next -/
theorem pn_opens {k : am_H → Option am_O} {F : Nat → gx_R β} {ok : β → Option am_O → Prop} (N : pc_N K V P sy w Z g0 i deep st g h) (c : Int) (hk : ∀ j h1, deep < 25 → pc_N K V P sy w Z g0 j (deep + 1) st g h1 → pc_o L (k h1) g0 (F j) ok) :
    pc_o L (am_xI (zS L) (am_D (d + 3) 7 4 [am_r (am_a 212), am_i c] (zS L, h)) (am_up1 (zS L)) fun v2 h1 => am_xV (zS L) (am_D (d + 3) 7 7 [am_r (am_a 212), am_i v2] (zS L, h1)) (am_up1 (zS L)) fun h3 => am_xV (zS L) (am_D (d + 3) 7 13 [am_r (am_a 212)] (zS L, h3)) (am_up1 (zS L)) fun h2 => am_xV (zS L) (am_D (d + 3) 7 10 [am_r (am_a 212)] (zS L, h2)) (am_up1 (zS L)) k) g0 (gx_b (gx_opens sy K V P c deep i) F) ok := by
  unfold gx_opens
  rw [pc_isSign (d + 1) L N.R N.lt, p_xI, gx_if_b, ← gx_if_u]
  refine pn_need (d + 1) L N _ (fun s => ?_)
  exact pn_open d L N ⟨by rw [s.1]; decide, by rw [s.1]; decide⟩ hk
/-- the sign that closes, next -/
theorem pn_close {k : am_H → Option am_O} {F : Nat → gx_R β} {ok : β → Option am_O → Prop} (N : pc_N K V P sy w Z g0 i (deep + 1) st g h) (c : Int) (hd : deep < 1000) (hk : ∀ j h1, pc_N K V P sy w Z g0 j deep st g h1 → pc_o L (k h1) g0 (F j) ok) :
    pc_o L (am_xI (zS L) (am_D (d + 3) 7 4 [am_r (am_a 212), am_i c] (zS L, h)) (am_up1 (zS L)) fun v2 h1 => am_xV (zS L) (am_D (d + 3) 7 7 [am_r (am_a 212), am_i v2] (zS L, h1)) (am_up1 (zS L)) fun h7 => am_xV (zS L) (am_D (d + 3) 7 10 [am_r (am_a 212)] (zS L, (am_up h7 212 11 (am_w (h7 212 11 - 1))))) (am_up1 (zS L)) k) g0 (gx_b (gx_sign sy K V P c i) F) ok := by
  unfold gx_sign
  rw [pc_isSign (d + 1) L N.R N.lt, p_xI, gx_if_b, ← gx_if_u]
  refine pn_need (d + 1) L N _ (fun s => ?_)
  rw [N.R.2.2.1, p_w (by omega) (by omega), show (((deep + 1 : Nat) : Int) - 1) = (deep : Int) by omega]
  exact pn_next d L (N.deep_ deep) ⟨by rw [s.1]; decide, by rw [s.1]; decide⟩ (fun j h2 _ N2 => hk j h2 N2)
/-- a name: its number is the answer -/
theorem pn_name {k : Int → am_H → Option am_O} {F : Nat → gx_R β} {ok : β → Option am_O → Prop} (N : pc_N K V P sy w Z g0 i deep st g h) (hk : ∀ j h1, K i = 2 → j = i + 1 → pc_N K V P sy w Z g0 j deep st g h1 → pc_o L (k (V i) h1) g0 (F j) ok) :
    pc_o L (am_xI (zS L) (am_D (d + 4) 7 12 [am_r (am_a 212)] (zS L, h)) (am_up1 (zS L)) k) g0 (gx_b (gx_name sy K P i) F) ok := by
  have D12 : pc_o L (am_D (d + 4) 7 12 [am_r (am_a 212)] (zS L, h)) g0 (gx_name sy K P i) (fun j D => ∃ v h1, D = pI L v h1 ∧ v = V i ∧ K i = 2 ∧ j = i + 1 ∧ pc_N K V P sy w Z g0 j deep st g h1) := by
    have e : am_D (d + 4) 7 12 [am_r (am_a 212)] (zS L, h) = am_xV (zS L) (am_D (d + 3) 7 7 [am_r (am_a 212), am_i (pB (K i = 2))] (zS L, h)) (am_up1 (zS L)) fun h7 => am_xI (zS L) (am_D (d + 3) 7 2 [am_r (am_a 212)] (zS L, h7)) (am_up1 (zS L)) fun v9 h8 => am_xV (zS L) (am_D (d + 3) 7 10 [am_r (am_a 212)] (zS L, h8)) (am_up1 (zS L)) fun h10 => some (.inl (some (am_i v9)), (zS L, h10)) := by
      rw [D_7_12, pc_token (d + 2) L N.R N.lt, p_xI]
      by_cases c : K i = 2
      · rw [if_pos c, pB_t c]
      · rw [if_neg c, pB_f c]
    rw [e]
    unfold gx_name
    refine pn_need (d + 1) L N _ (fun s => ?_)
    rw [pc_value (d + 2) L N.R N.lt, p_xI]
    have e2 : gx_next sy K P i = gx_b (gx_next sy K P i) fun j => .inr j := by cases gx_next sy K P i <;> rfl
    rw [e2]
    refine pn_next d L N ⟨by rw [s]; decide, by rw [s]; decide⟩ (fun j h2 ej N2 => ⟨_, h2, rfl, rfl, s, ?_, N2⟩)
    unfold gx_next at ej
    split at ej
    · cases ej
    · cases ej; rfl
  refine pc_bI D12 ?_
  rintro j v h1 - ⟨rfl, s, ej, N2⟩
  exact hk j h1 s ej N2
/-- the last, or only, part of an event -/
theorem pn_ev {D : Option am_O} {r : gx_R am_H} {q : Int × Int × Int × Int × Int × List (Int × Int × Int × Int)} {k : am_H → Option am_O} {F : ce_S → gx_R β} {ok : β → Option am_O → Prop} (N : pc_N K V P sy w Z g0 i deep st g h) (E : pc_E K V P sy w i deep st L D g r) (hk : ∀ g1 h1, r = .inr g1 → pc_N K V P sy w Z g0 i deep st g1 h1 → pc_o L (k h1) g0 (F (g1, q)) ok) :
    pc_o L (am_xV (zS L) D (am_up1 (zS L)) k) g0 (gx_b (ce_h (g, q) r) F) ok := by
  have e : gx_b (ce_h (g, q) r) F = gx_b r fun g1 => F (g1, q) := by cases r <;> rfl
  rw [e]
  refine pc_bV (E.mono N.2.1) ?_
  rintro g1 h1 e1 ⟨R1, Q1⟩
  exact hk g1 h1 e1 ⟨R1, N.2.1.trans Q1, N.2.2⟩
/-- a part of an event -/
theorem pn_evb {D : Option am_O} {r : gx_R am_H} {f : am_H → gx_R am_H} {q : Int × Int × Int × Int × Int × List (Int × Int × Int × Int)} {k : am_H → Option am_O} {F : ce_S → gx_R β} {ok : β → Option am_O → Prop} (N : pc_N K V P sy w Z g0 i deep st g h) (E : pc_E K V P sy w i deep st L D g r) (hk : ∀ g1 h1, r = .inr g1 → pc_N K V P sy w Z g0 i deep st g1 h1 → pc_o L (k h1) g0 (gx_b (ce_h (g1, q) (f g1)) F) ok) :
    pc_o L (am_xV (zS L) D (am_up1 (zS L)) k) g0 (gx_b (ce_h (g, q) (gx_b r f)) F) ok := by
  have e : gx_b (ce_h (g, q) (gx_b r f)) F = gx_b r fun g1 => gx_b (ce_h (g1, q) (f g1)) F := by cases r <;> rfl
  rw [e]
  refine pc_bV (E.mono N.2.1) ?_
  rintro g1 h1 e1 ⟨R1, Q1⟩
  exact hk g1 h1 e1 ⟨R1, N.2.1.trans Q1, N.2.2⟩
/-- what is asked ahead of an event -/
theorem pn_q {D : Option am_O} {p : Prop} [Decidable p] {x : gx_R am_H} {q : Int × Int × Int × Int × Int × List (Int × Int × Int × Int)} {F : ce_S → gx_R β} {ok : β → Option am_O → Prop} (hk : p → pc_o L D g0 (gx_b (ce_h (g, q) x) F) ok) : pc_o L D g0 (gx_b (ce_h (g, q) (ce_q p x)) F) ok := by
  unfold ce_q
  by_cases c : p
  · rw [if_pos c]; exact hk c
  · rw [if_neg c]; exact fun z => absurd z (by decide)
theorem pn_chk {k : am_H → Option am_O} {p : Prop} [Decidable p] {x : gx_R am_H} {q : Int × Int × Int × Int × Int × List (Int × Int × Int × Int)} {F : ce_S → gx_R β} {ok : β → Option am_O → Prop} (N : pc_N K V P sy w Z g0 i deep st g h) (c e : Int) (hk : (w = true → p) → pc_o L (k h) g0 (gx_b (ce_h (g, q) x) F) ok) :
    pc_o L (am_xV (zS L) (am_D (d + 2) 7 9 [am_r (am_a 212), am_i (pB p), am_i c, am_i e] (zS L, h)) (am_up1 (zS L)) k) g0 (gx_b (ce_h (g, q) (ce_chk w p (c, e) x)) F) ok := by
  have e2 : gx_b (ce_h (g, q) (ce_chk w p (c, e) x)) F = ce_chk w p (c, e) (gx_b (ce_h (g, q) x) F) := by unfold ce_chk; split <;> rfl
  rw [e2]
  exact pn_check d L N p c e hk
end
end
