/-! RUN, 10: the model's frames and stack; items that stay within a frame -/
/-- a frame: sub, values given, vars, the object, the stack, the item to come back to -/
abbrev uF : Type := Nat × List Int × List Int × Option Int × List Int × Nat
def uSt (q : uF) : List Int := q.2.2.2.2.1
/-- the model's row of a frame -/
def MF (g : am_H) (f : Nat) (q : uF) : Prop :=
  (g 315 f = (q.1 : Int) ∧ g 314 f = (q.2.2.2.2.2 : Int)) ∧
  ((g 264 q.1 = 3 → ∃ ps, q.2.1 = g 316 f :: ps ∧ (ps.length : Int) = g 267 q.1 ∧ AR (g 312) (24 * f) ps) ∧ (g 264 q.1 ≠ 3 → (q.2.1.length : Int) = g 267 q.1 ∧ AR (g 312) (24 * f) q.2.1)) ∧
  ((q.2.2.1.length : Int) = g 268 q.1 ∧ AR (g 312) (24 * f + 12) q.2.2.1) ∧ (g 264 q.1 ≠ 2 → q.2.2.2.1 = some (g 316 f))
def ust : List uF → Nat
  | [] => 0
  | q :: rs => ust rs + (uSt q).length
def MFS (g : am_H) : List uF → Prop
  | [] => True
  | q :: rs => MF g rs.length q ∧ SK (g 313) (ust rs) (uSt q) ∧ MFS g rs
/-- the model, before an item -/
def MU (ky : List Int) (g : am_H) (k : Nat) (G : vG) (fs : List uF) : Prop := MR ky G g ∧ (∀ j, j < 12 → g 311 j = G.1 (20 + j)) ∧ (g 254 87 = (ust fs : Int) ∧ g 254 88 = (fs.length : Int) ∧ g 254 98 = (k : Int) ∧ g 254 99 = -1) ∧ MFS g fs
/-- what items within a frame may change -/
def jiC : List Nat := [308, 309, 310, 320, 311, 312, 313, 321]
def jiF : List (Nat × Nat) := [(254, 81), (254, 99), (254, 100), (254, 103), (254, 106), (254, 108), (254, 87), (254, 98)]
section
variable {ky : List Int} {g g' : am_H} {k : Nat} {G G' : vG} {fs rs : List uF} {s rk : Nat} {as ls : List Int} {th : Option Int} {st : List Int} {v : Int}
theorem MF.fr {f : Nat} {q : uF} (M : MF g f q) (h : ∀ c, c = 264 ∨ c = 267 ∨ c = 268 ∨ c = 314 ∨ c = 315 ∨ c = 316 → g' c = g c) (h2 : ∀ j, 24 * f ≤ j → j < 24 * f + 24 → g' 312 j = g 312 j) (b : g 267 q.1 ≤ 12 ∧ g 268 q.1 ≤ 12) : MF g' f q := by
  obtain ⟨m1, ⟨m2, m3⟩, ⟨m4, m5⟩, m6⟩ := M
  unfold MF
  rw [h 264 (by omega), h 267 (by omega), h 268 (by omega), h 314 (by omega), h 315 (by omega), h 316 (by omega)]
  refine ⟨m1, ⟨fun z => ?_, fun z => ?_⟩, ⟨m4, m5.fr (fun j j1 j2 => h2 j (by omega) (by omega))⟩, m6⟩
  · obtain ⟨ps, p1, p2, p3⟩ := m2 z
    exact ⟨ps, p1, p2, p3.fr (fun j j1 j2 => h2 j (by omega) (by omega))⟩
  · obtain ⟨p2, p3⟩ := m3 z
    exact ⟨p2, p3.fr (fun j j1 j2 => h2 j (by omega) (by omega))⟩
/-- tables that bound params and vars -/
def MB (g : am_H) : List uF → Prop
  | [] => True
  | q :: rs => (0 ≤ g 267 q.1 ∧ g 267 q.1 ≤ 12 ∧ 0 ≤ g 268 q.1 ∧ g 268 q.1 ≤ 12) ∧ MB g rs
theorem MB.fr (h : ∀ c, c = 267 ∨ c = 268 → g' c = g c) : ∀ {fs : List uF}, MB g fs → MB g' fs
  | [], _ => trivial
  | q :: rs, ⟨h1, h2⟩ => ⟨by rw [h 267 (by omega), h 268 (by omega)]; exact h1, h2.fr h⟩
theorem MFS.fr (h : ∀ c, c = 264 ∨ c = 267 ∨ c = 268 ∨ c = 314 ∨ c = 315 ∨ c = 316 → g' c = g c) : ∀ {fs : List uF}, MB g fs → MFS g fs → (∀ j, j < 24 * fs.length → g' 312 j = g 312 j) → (∀ j, j < ust fs → g' 313 j = g 313 j) → MFS g' fs
  | [], _, _, _, _ => trivial
  | q :: rs, ⟨b1, b2⟩, ⟨m1, m2, m3⟩, h2, h3 => ⟨m1.fr h (fun j j1 j2 => h2 j (by rw [List.length_cons]; omega)) ⟨b1.2.1, b1.2.2.2⟩, m2.fr (fun j j1 j2 => h3 j j2), m3.fr h b2 (fun j hj => h2 j (by rw [List.length_cons]; omega)) (fun j hj => h3 j (by show j < ust rs + (uSt q).length; omega))⟩
/-- another place -/
theorem MU.pc (M : MU ky g k G fs) (B : MB g fs) (k2 : Nat) : MU ky (am_up g 254 98 (k2 : Int)) k2 G fs := by
  obtain ⟨m1, m2, ⟨m3, m4, m5, m6⟩, m7⟩ := M
  have c : ∀ a, a ≠ 254 → am_up g 254 98 (k2 : Int) a = g a := fun a ha => p_up_c _ _ _ _ _ ha
  have f : ∀ j, j ≠ 98 → am_up g 254 98 (k2 : Int) 254 j = g 254 j := fun j hj => p_up_n _ _ _ _ _ _ (Or.inr hj)
  exact ⟨m1.same (fun a ha => c a (by omega)) (fun j hj => f j (by omega)), fun j hj => by rw [c 311 (by omega)]; exact m2 j hj, ⟨by rw [f 87 (by omega)]; exact m3, by rw [f 88 (by omega)]; exact m4, p_up_s _ _ _ _, by rw [f 99 (by omega)]; exact m6⟩, m7.fr (fun a ha => c a (by omega)) B (fun j _ => by rw [c 312 (by omega)]) (fun j _ => by rw [c 313 (by omega)])⟩
/-- a value comes on the stack -/
theorem MU.put (M : MU ky g k G ((s, as, ls, th, st, rk) :: rs)) (B : MB g ((s, as, ls, th, st, rk) :: rs)) (v : Int) : MU ky (am_up (am_up g 313 (ust rs + st.length) v) 254 87 ((ust rs + st.length + 1 : Nat) : Int)) k G ((s, as, ls, th, v :: st, rk) :: rs) := by
  obtain ⟨m1, m2, ⟨m3, m4, m5, m6⟩, m7, m8, m9⟩ := M
  generalize hg : am_up (am_up g 313 (ust rs + st.length) v) 254 87 ((ust rs + st.length + 1 : Nat) : Int) = g'
  have c : ∀ a, a ≠ 254 → a ≠ 313 → g' a = g a := fun a ha hb => by rw [← hg, p_up_c _ _ _ _ _ ha, p_up_c _ _ _ _ _ hb]
  have f : ∀ j, j ≠ 87 → g' 254 j = g 254 j := fun j hj => by rw [← hg, p_up_n _ _ _ _ _ _ (Or.inr hj), p_up_c _ _ _ _ _ (by decide)]
  have e : ∀ j, j ≠ ust rs + st.length → g' 313 j = g 313 j := fun j hj => by rw [← hg, p_up_c _ _ _ _ _ (by decide), p_up_n _ _ _ _ _ _ (Or.inr hj)]
  refine ⟨m1.same (fun a ha => c a (by omega) (by omega)) (fun j hj => f j (by omega)), fun j hj => by rw [c 311 (by omega) (by omega)]; exact m2 j hj, ⟨?_, by rw [f 88 (by omega)]; exact m4, by rw [f 98 (by omega)]; exact m5, by rw [f 99 (by omega)]; exact m6⟩, MF.fr (q := (s, as, ls, th, st, rk)) m7 (fun a ha => c a (by omega) (by omega)) (fun j _ _ => by rw [c 312 (by omega) (by omega)]) ⟨B.1.2.1, B.1.2.2.2⟩, ⟨?_, SK.fr m8 (fun j _ j2 => e j (by have : j < ust rs + st.length := j2; omega))⟩, m9.fr (fun a ha => c a (by omega) (by omega)) B.2 (fun j _ => by rw [c 312 (by omega) (by omega)]) (fun j hj => e j (by omega))⟩
  · rw [← hg, p_up_s]; rfl
  · rw [← hg, p_up_c _ _ _ _ _ (by decide), p_up_s]
/-- a value goes -/
theorem MU.pop (M : MU ky g k G ((s, as, ls, th, v :: st, rk) :: rs)) (B : MB g ((s, as, ls, th, v :: st, rk) :: rs)) : g 254 87 = ((ust rs + st.length + 1 : Nat) : Int) ∧ g 313 (ust rs + st.length) = v ∧ MU ky (am_up g 254 87 ((ust rs + st.length : Nat) : Int)) k G ((s, as, ls, th, st, rk) :: rs) := by
  obtain ⟨m1, m2, ⟨m3, m4, m5, m6⟩, m7, m8, m9⟩ := M
  refine ⟨m3, m8.1, ?_⟩
  generalize hg : am_up g 254 87 ((ust rs + st.length : Nat) : Int) = g'
  have c : ∀ a, a ≠ 254 → g' a = g a := fun a ha => by rw [← hg, p_up_c _ _ _ _ _ ha]
  have f : ∀ j, j ≠ 87 → g' 254 j = g 254 j := fun j hj => by rw [← hg, p_up_n _ _ _ _ _ _ (Or.inr hj)]
  refine ⟨m1.same (fun a ha => c a (by omega)) (fun j hj => f j (by omega)), fun j hj => by rw [c 311 (by omega)]; exact m2 j hj, ⟨?_, by rw [f 88 (by omega)]; exact m4, by rw [f 98 (by omega)]; exact m5, by rw [f 99 (by omega)]; exact m6⟩, MF.fr (q := (s, as, ls, th, st, rk)) m7 (fun a ha => c a (by omega)) (fun j _ _ => by rw [c 312 (by omega)]) ⟨B.1.2.1, B.1.2.2.2⟩, SK.fr m8.2 (fun j _ _ => by rw [c 313 (by omega)]), m9.fr (fun a ha => c a (by omega)) B.2 (fun j _ => by rw [c 312 (by omega)]) (fun j _ => by rw [c 313 (by omega)])⟩
  rw [← hg, p_up_s]; rfl
section
variable (d L : Nat)
theorem m_put (x : Int) {t : Nat} (ht : g 254 87 = (t : Int)) (hb : t < 20000) : am_D (d + 2) 17 81 [am_r (am_a 254), am_i x] (zS L, g) = pV L (am_up (am_up g 313 t (am_s16 x)) 254 87 ((t + 1 : Nat) : Int)) := by
  rw [D_17_81, m_s16, p_xI, ht, p_idx (by omega) (by omega), p_w (by omega) (by omega), Int.toNat_natCast]; rfl
theorem m_pop {t : Nat} (ht : g 254 87 = ((t + 1 : Nat) : Int)) (hb : t < 20000) : am_D (d + 1) 17 82 [am_r (am_a 254)] (zS L, g) = pI L (g 313 t) (am_up g 254 87 (t : Int)) := by
  rw [D_17_82, ht, p_w (by omega) (by omega), show (((t + 1 : Nat) : Int) - 1) = (t : Int) by omega, p_idx (by omega) (by omega), Int.toNat_natCast]
end
/-- behind a call of the system that came back, or behind reading and writing -/
theorem MU.jo (M : MU ky g k G fs) (B : MB g fs) (J : MR ky G' g') (vf : vfr G G') (f : p_fr jC jF g g') (e : g' 254 99 = -1) : MU ky g' k G' fs := by
  obtain ⟨m1, m2, ⟨m3, m4, m5, m6⟩, m7⟩ := M
  refine ⟨J, fun j hj => by rw [f.cell 311 rfl rfl, m2 j hj, vf (20 + j) (by omega) (by omega)], ⟨by rw [f 254 87 rfl rfl]; exact m3, by rw [f 254 88 rfl rfl]; exact m4, by rw [f 254 98 rfl rfl]; exact m5, e⟩, m7.fr (fun a ha => ?_) B (fun j _ => by rw [f.cell 312 rfl rfl]) (fun j _ => by rw [f.cell 313 rfl rfl])⟩
  rcases ha with rfl | rfl | rfl | rfl | rfl | rfl <;> exact f.cell _ rfl rfl
end
