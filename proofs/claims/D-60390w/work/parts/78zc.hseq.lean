/-! HACK, 2: words in a row -/
/-- words of the code from a place on: what they are, that nothing is watched behind the first one (cd), or nowhere (cmw) -/
def cd (h : am_H) (p : Nat) (ws : List Int) : Prop := ∀ j w, ws[j]? = some w → h 13 (p + j) = w ∧ p + j < 32768 ∧ (j ≠ 0 → h 16 (p + j) = 0)
def cmw (h : am_H) (p : Nat) (ws : List Int) : Prop := ∀ j w, ws[j]? = some w → h 13 (p + j) = w ∧ p + j < 32768 ∧ h 16 (p + j) = 0
abbrev hY : Type := Int × Int × (Nat → Int)
def QS (L n : Nat) (h : am_H) (ws : List Int) (s t : hY) : Prop := ∀ p : Nat, cd h p ws → h 17 14 ≠ 0 → Hq L n h ((p : Int), s) (((p + ws.length : Nat) : Int), t)
section
variable {L n : Nat} {h : am_H} {p : Nat} {ws vs : List Int} {w : Int} {s t u : hY}
theorem cmw.cd (c : cmw h p ws) : cd h p ws := fun j w hj => ⟨(c j w hj).1, (c j w hj).2.1, fun _ => (c j w hj).2.2⟩
theorem cd.hd (c : cd h p (w :: ws)) : h 13 p = w ∧ p < 32768 := ⟨(c 0 w rfl).1, (c 0 w rfl).2.1⟩
theorem cd.tl (c : cd h p (w :: ws)) : cmw h (p + 1) ws := fun j v hj => by
  have := c (j + 1) v hj
  rw [show p + (j + 1) = p + 1 + j by omega] at this
  exact ⟨this.1, this.2.1, this.2.2 (by omega)⟩
theorem cmw.app_l (c : cmw h p (ws ++ vs)) : cmw h p ws := fun j w hj => c j w (by rw [List.getElem?_append_left (List.getElem?_eq_some_iff.1 hj).1]; exact hj)
theorem cmw.app_r (c : cmw h p (ws ++ vs)) : cmw h (p + ws.length) vs := fun j w hj => by
  have := c (ws.length + j) w (by rw [List.getElem?_append_right (by omega), show ws.length + j - ws.length = j by omega]; exact hj)
  rw [show p + (ws.length + j) = p + ws.length + j by omega] at this
  exact this
theorem cd.app_l (c : cd h p (ws ++ vs)) : cd h p ws := fun j w hj => c j w (by rw [List.getElem?_append_left (List.getElem?_eq_some_iff.1 hj).1]; exact hj)
theorem cd.app_r (c : cd h p (ws ++ vs)) (hw : ws ≠ []) : cmw h (p + ws.length) vs := fun j w hj => by
  have := c (ws.length + j) w (by rw [List.getElem?_append_right (by omega), show ws.length + j - ws.length = j by omega]; exact hj)
  rw [show p + (ws.length + j) = p + ws.length + j by omega] at this
  have l : 0 < ws.length := List.length_pos_iff.2 hw
  exact ⟨this.1, this.2.1, this.2.2 (by omega)⟩
theorem QS.app (a : QS L n h ws s t) (b : QS L n h vs t u) (hw : ws ≠ []) (hv : vs ≠ []) : QS L n h (ws ++ vs) s u := fun p c E => by
  have c2 := c.app_r hw
  obtain ⟨v, vt, rfl⟩ := List.exists_cons_of_ne_nil hv
  have m := c2 0 v rfl
  rw [Nat.add_zero] at m
  have b := b (p + ws.length) c2.cd E
  rw [List.length_append, ← Nat.add_assoc]
  obtain ⟨ta, td, tr⟩ := t
  exact (a p c.app_l E).then E m.2.1 m.2.2 b
theorem QS.cons (a : QS L n h [w] s t) (b : QS L n h vs t u) (hv : vs ≠ []) : QS L n h (w :: vs) s u := QS.app (ws := [w]) a b (List.cons_ne_nil _ _) hv
theorem QS.eq {t' : hY} (a : QS L n h ws s t) (e : t = t') : QS L n h ws s t' := e ▸ a
theorem QS.one (hq : ∀ p : Nat, h 17 14 ≠ 0 → p < 32768 → h 13 p = w → Hq L n h ((p : Int), s) ((p : Int) + 1, t)) : QS L n h [w] s t := fun p c E => hq p E c.hd.2 c.hd.1
section
variable {k : Nat} {a d : Int} {r : Nat → Int}
theorem q_at (k : Int) (h0 : 0 ≤ k) (h1 : k ≤ 32767) : QS L n h [k] (a, d, r) (k, d, r) := QS.one fun p E hp hw => hAw E hp hw h0 h1
theorem q_DeA : QS L n h [-5104] (a, d, r) (a, a, r) := QS.one fun p E hp hw => c_DeA E hp hw
theorem q_DeM (hk : k < 32000) : QS L n h [-1008] ((k : Int), d, r) ((k : Int), r k, r) := QS.one fun p E hp hw => c_DeM E hk hp hw
theorem q_AeM (hk : k < 32000) : QS L n h [-992] ((k : Int), d, r) (r k, d, r) := QS.one fun p E hp hw => c_AeM E hk hp hw
theorem q_AMip (hk : k < 32000) : QS L n h [-536] ((k : Int), d, r) (am_s16 (r k + 1), d, p_set r k (am_s16 (r k + 1))) := QS.one fun p E hp hw => c_AMip E hk hp hw
theorem q_AMim (hk : k < 32000) : QS L n h [-856] ((k : Int), d, r) (am_s16 (r k - 1), d, p_set r k (am_s16 (r k - 1))) := QS.one fun p E hp hw => c_AMim E hk hp hw
theorem q_Ad : QS L n h [-4960] (a, d, r) (am_s16 (a - 1), d, r) := QS.one fun p E hp hw => c_Ad E hp hw
theorem q_MeD (hk : k < 32000) : QS L n h [-7416] ((k : Int), d, r) ((k : Int), d, p_set r k d) := QS.one fun p E hp hw => c_MeD E hk hp hw
theorem q_AeMd (hk : k < 32000) : QS L n h [-864] ((k : Int), d, r) (am_s16 (r k - 1), d, r) := QS.one fun p E hp hw => c_AeMd E hk hp hw
theorem q_DmA : QS L n h [-6960] (a, d, r) (a, am_s16 (d - a), r) := QS.one fun p E hp hw => c_DmA E hp hw
theorem q_AeDmA : QS L n h [-6944] (a, d, r) (am_s16 (d - a), d, r) := QS.one fun p E hp hw => c_AeDmA E hp hw
theorem q_DmM (hk : k < 32000) : QS L n h [-2864] ((k : Int), d, r) ((k : Int), am_s16 (d - r k), r) := QS.one fun p E hp hw => c_DmM E hk hp hw
theorem q_MeDp (hk : k < 32000) : QS L n h [-6200] ((k : Int), d, r) ((k : Int), d, p_set r k (am_s16 (d + 1))) := QS.one fun p E hp hw => c_MeDp E hk hp hw
theorem q_Mm1 (hk : k < 32000) : QS L n h [-4472] ((k : Int), d, r) ((k : Int), d, p_set r k (-1)) := QS.one fun p E hp hw => c_Mm1 E hk hp hw
theorem q_M0 (hk : k < 32000) : QS L n h [-5496] ((k : Int), d, r) ((k : Int), d, p_set r k 0) := QS.one fun p E hp hw => c_M0 E hk hp hw
theorem q_D0 : QS L n h [-5488] (a, d, r) (a, 0, r) := QS.one fun p E hp hw => c_D0 E hp hw
theorem q_DeMmD (hk : k < 32000) : QS L n h [-3632] ((k : Int), d, r) ((k : Int), am_s16 (r k - d), r) := QS.one fun p E hp hw => c_DeMmD E hk hp hw
theorem q_AeDpM (hk : k < 32000) : QS L n h [-3936] ((k : Int), d, r) (am_s16 (d + r k), d, r) := QS.one fun p E hp hw => c_AeDpM E hk hp hw
theorem q_DpM (hk : k < 32000) : QS L n h [-3952] ((k : Int), d, r) ((k : Int), am_s16 (d + r k), r) := QS.one fun p E hp hw => c_DpM E hk hp hw
theorem q_MpD (hk : k < 32000) : QS L n h [-3960] ((k : Int), d, r) ((k : Int), d, p_set r k (am_s16 (d + r k))) := QS.one fun p E hp hw => c_MpD E hk hp hw
theorem q_MmD (hk : k < 32000) : QS L n h [-3640] ((k : Int), d, r) ((k : Int), d, p_set r k (am_s16 (r k - d))) := QS.one fun p E hp hw => c_MmD E hk hp hw
theorem q_MaD (hk : k < 32000) : QS L n h [-4088] ((k : Int), d, r) ((k : Int), d, p_set r k (am_and d (r k))) := QS.one fun p E hp hw => c_MaD E hk hp hw
theorem q_MoD (hk : k < 32000) : QS L n h [-2744] ((k : Int), d, r) ((k : Int), d, p_set r k (am_or d (r k))) := QS.one fun p E hp hw => c_MoD E hk hp hw
theorem q_Mneg (hk : k < 32000) : QS L n h [-824] ((k : Int), d, r) ((k : Int), d, p_set r k (am_s16 (-r k))) := QS.one fun p E hp hw => c_Mneg E hk hp hw
theorem q_Mnot (hk : k < 32000) : QS L n h [-952] ((k : Int), d, r) ((k : Int), d, p_set r k (-r k - 1)) := QS.one fun p E hp hw => c_Mnot E hk hp hw
/-- D comes on the stack -/
def wPush : List Int := [0, -536, -4960, -7416]
def wPop : List Int := [0, -856, -1008]
def wKeep (k : Int) : List Int := [k, -7416]
def wTake (k : Int) : List Int := [k, -1008]
theorem q_push {sp : Nat} (hs : r 0 = (sp : Int)) (h2 : sp < 31999) : QS L n h wPush (a, d, r) ((sp : Int), d, p_set (p_set r 0 ((sp + 1 : Nat) : Int)) sp d) := by
  have e1 : am_s16 (r 0 + 1) = ((sp + 1 : Nat) : Int) := by rw [hs, s16_id ⟨by omega, by omega⟩]; omega
  have e2 : am_s16 (((sp + 1 : Nat) : Int) - 1) = (sp : Int) := by rw [s16_id ⟨by omega, by omega⟩]; omega
  have a1 : QS L n h [-536] (((0 : Nat) : Int), d, r) _ := q_AMip (by decide)
  rw [e1] at a1
  have a2 : QS L n h [-4960] (((sp + 1 : Nat) : Int), d, p_set r 0 ((sp + 1 : Nat) : Int)) _ := q_Ad
  rw [e2] at a2
  exact (q_at 0 (by decide) (by decide)).cons (a1.cons (a2.cons (q_MeD (by omega)) (List.cons_ne_nil _ _)) (List.cons_ne_nil _ _)) (List.cons_ne_nil _ _)
theorem q_pop {sp : Nat} (hs : r 0 = ((sp + 1 : Nat) : Int)) (h1 : 1 ≤ sp) (h2 : sp < 31999) : QS L n h wPop (a, d, r) ((sp : Int), r sp, p_set r 0 (sp : Int)) := by
  have e1 : am_s16 (r 0 - 1) = (sp : Int) := by rw [hs, s16_id ⟨by omega, by omega⟩]; omega
  have a1 : QS L n h [-856] (((0 : Nat) : Int), d, r) _ := q_AMim (by decide)
  rw [e1] at a1
  have a2 : QS L n h [-1008] ((sp : Int), d, p_set r 0 (sp : Int)) _ := q_DeM (by omega)
  rw [p_set_n _ _ _ _ (by omega)] at a2
  exact (q_at 0 (by decide) (by decide)).cons (a1.cons a2 (List.cons_ne_nil _ _)) (List.cons_ne_nil _ _)
theorem q_keep (k : Nat) (hk : k < 32000) : QS L n h (wKeep k) (a, d, r) ((k : Int), d, p_set r k d) := (q_at (k : Int) (by omega) (by omega)).cons (q_MeD hk) (List.cons_ne_nil _ _)
theorem q_take (k : Nat) (hk : k < 32000) : QS L n h (wTake k) (a, d, r) ((k : Int), r k, r) := (q_at (k : Int) (by omega) (by omega)).cons (q_DeM hk) (List.cons_ne_nil _ _)
/-- a jump at the end -/
theorem q_go {ws : List Int} {t : Nat} (ht : t < 32768) (A : QS L n h ws s (a, d, r)) (hw : ws ≠ []) (c : cd h p (ws ++ [(t : Int), -5497])) (E : h 17 14 ≠ 0) : Hq L n h ((p : Int), s) ((t : Int), (t : Int), d, r) := by
  have c2 := c.app_r hw
  have m0 := c2 0 _ rfl
  have m1 := c2 1 _ rfl
  rw [Nat.add_zero] at m0
  have b1 : Hq L n h (((p + ws.length : Nat) : Int), a, d, r) (((p + ws.length + 1 : Nat) : Int), (t : Int), d, r) := by
    have := hAw (L := L) (n := n) (a := a) (d := d) (r := r) E m0.2.1 m0.1 (by omega) (by omega)
    rw [show ((p + ws.length : Nat) : Int) + 1 = ((p + ws.length + 1 : Nat) : Int) by omega] at this
    exact this
  exact (A p c.app_l E).then E m0.2.1 m0.2.2 (b1.then E m1.2.1 m1.2.2 (c_jmp E m1.2.1 ht m1.1))
theorem q_go0 {t : Nat} (ht : t < 32768) (c : cd h p [(t : Int), -5497]) (E : h 17 14 ≠ 0) : Hq L n h ((p : Int), a, d, r) ((t : Int), (t : Int), d, r) := by
  have m1 := c 1 _ rfl
  have m1' := m1.2.2 (by decide)
  have b1 := hAw (L := L) (n := n) (a := a) (d := d) (r := r) E c.hd.2 c.hd.1 (by omega) (by omega)
  rw [show (p : Int) + 1 = ((p + 1 : Nat) : Int) by omega] at b1
  exact b1.then E m1.2.1 m1' (c_jmp E m1.2.1 ht m1.1)
end
end
