/-! CHIPS, 54: the board: orders of gates, plain -/
/-- the level of what an input has its value from -/
def lvo (lev : Nat → Int) : Option Nat → Int
  | none => 0
  | some i => lev i
def mxi (a b : Int) : Int := if a ≤ b then b else a
section
variable (G : Nat) (nd : Nat → Prop) (pa pb : Nat → Option Nat)
def OD (ord : List Nat) (lev : Nat → Int) : Prop := ord.Nodup ∧ (∀ i ∈ ord, i < G ∧ nd i) ∧ (∀ i, lev i ≠ -1 ↔ i ∈ ord) ∧ (∀ t i, ord[t]? = some i → (∀ i', pa i = some i' ∨ pb i = some i' → i' ∈ ord.take t) ∧ lev i = 1 + mxi (lvo lev (pa i)) (lvo lev (pb i))) ∧ ∀ i, lev i = -1 ∨ 1 ≤ lev i ∧ lev i ≤ (ord.length : Int)
def CLO (lev : Nat → Int) : Prop := ∀ i, i < G → nd i → lvo lev (pa i) ≠ -1 → lvo lev (pb i) ≠ -1 → lev i ≠ -1
end
section
variable {G : Nat} {nd : Nat → Prop} {pa pb : Nat → Option Nat} {ord : List Nat} {lev : Nat → Int}
theorem OD_0 : OD G nd pa pb [] (fun _ => -1) := ⟨List.nodup_nil, fun i hi => (by cases hi), fun i => ⟨fun z => absurd rfl z, fun z => (by cases z)⟩, fun t i h => (by cases h), fun i => Or.inl rfl⟩
theorem OD.len (H : OD G nd pa pb ord lev) : ord.length ≤ G := by
  have := H.1.length_le_of_subset (l₂ := List.range G) (fun i hi => List.mem_range.2 (H.2.1 i hi).1)
  rwa [List.length_range] at this
theorem OD.lv (H : OD G nd pa pb ord lev) (o : Option Nat) : lvo lev o = -1 ∨ 0 ≤ lvo lev o ∧ lvo lev o ≤ (ord.length : Int) := by
  cases o with
  | none => exact Or.inr ⟨Int.le_refl _, Int.natCast_nonneg _⟩
  | some i =>
    rcases H.2.2.2.2 i with z | z
    · exact Or.inl z
    · exact Or.inr ⟨by show 0 ≤ lev i; omega, z.2⟩
theorem mx_rg {a b c : Int} (h1 : 0 ≤ a ∧ a ≤ c) (h2 : 0 ≤ b ∧ b ≤ c) : 0 ≤ mxi a b ∧ mxi a b ≤ c := by
  unfold mxi; split <;> omega
/-- one more gate -/
theorem OD.step (H : OD G nd pa pb ord lev) {i : Nat} (hi : i < G) (hn : nd i) (h0 : lev i = -1) (ha : lvo lev (pa i) ≠ -1) (hb : lvo lev (pb i) ≠ -1) : OD G nd pa pb (ord ++ [i]) (p_set lev i (1 + mxi (lvo lev (pa i)) (lvo lev (pb i)))) := by
  have La := (H.lv (pa i)).resolve_left ha
  have Lb := (H.lv (pb i)).resolve_left hb
  have mr := mx_rg La Lb
  obtain ⟨h1, h2, h3, h4, h5⟩ := H
  have ni : i ∉ ord := fun z => (h3 i).2 z h0
  have keep : ∀ i', i' ≠ i → p_set lev i (1 + mxi (lvo lev (pa i)) (lvo lev (pb i))) i' = lev i' := fun i' z => by unfold p_set; rw [if_neg z]
  have self : p_set lev i (1 + mxi (lvo lev (pa i)) (lvo lev (pb i))) i = 1 + mxi (lvo lev (pa i)) (lvo lev (pb i)) := by unfold p_set; rw [if_pos rfl]
  have kl : ∀ o : Option Nat, (∀ i', o = some i' → i' ≠ i) → lvo (p_set lev i (1 + mxi (lvo lev (pa i)) (lvo lev (pb i)))) o = lvo lev o := fun o z => by
    cases o with
    | none => rfl
    | some i' => exact keep i' (z i' rfl)
  refine ⟨?_, fun i' hi' => ?_, fun i' => ?_, fun t i' ht => ?_, fun i' => ?_⟩
  · rw [List.nodup_append]
    refine ⟨h1, List.nodup_cons.2 ⟨(by intro z; cases z), List.nodup_nil⟩, fun a ha b hb => ?_⟩
    rw [List.mem_singleton] at hb
    intro e
    rw [e, hb] at ha
    exact ni ha
  · rcases List.mem_append.1 hi' with z | z
    · exact h2 i' z
    · rw [List.mem_singleton] at z; rw [z]; exact ⟨hi, hn⟩
  · by_cases e : i' = i
    · rw [e, self]
      exact ⟨fun _ => List.mem_append.2 (Or.inr (List.mem_singleton.2 rfl)), fun _ => by omega⟩
    · rw [keep i' e, h3 i', List.mem_append, List.mem_singleton]
      exact ⟨Or.inl, fun z => z.resolve_right e⟩
  · by_cases tl : t < ord.length
    · rw [List.getElem?_append_left tl] at ht
      obtain ⟨q1, q2⟩ := h4 t i' ht
      have ie : i' ≠ i := fun e => ni (e ▸ List.mem_of_getElem? ht)
      have sub : ∀ a, a ∈ ord.take t → a ∈ ord := fun a ha => List.mem_of_mem_take ha
      refine ⟨fun a ha => by rw [List.take_append_of_le_length (by omega)]; exact q1 a ha, ?_⟩
      rw [keep i' ie, kl (pa i') (fun a e1 e2 => ni (e2 ▸ sub _ (q1 a (Or.inl e1)))), kl (pb i') (fun a e1 e2 => ni (e2 ▸ sub _ (q1 a (Or.inr e1))))]
      exact q2
    · rw [List.getElem?_append_right (by omega)] at ht
      have te : t - ord.length = 0 := by
        rcases Nat.eq_zero_or_pos (t - ord.length) with z | z
        · exact z
        · rw [List.getElem?_eq_none (by show 1 ≤ _; omega)] at ht; cases ht
      rw [te] at ht
      injection ht with ht
      subst ht
      have na : ∀ a, pa i = some a ∨ pb i = some a → a ∈ ord := fun a z => by
        rcases z with z | z
        · rw [z] at ha; exact (h3 a).1 ha
        · rw [z] at hb; exact (h3 a).1 hb
      refine ⟨fun a z => ?_, ?_⟩
      · rw [show t = ord.length by omega, List.take_append_of_le_length (Nat.le_refl _), List.take_length]
        exact na a z
      · rw [self, kl (pa i) (fun a e1 e2 => ni (e2 ▸ na a (Or.inl e1))), kl (pb i) (fun a e1 e2 => ni (e2 ▸ na a (Or.inr e1)))]
  · rw [List.length_append, List.length_singleton]
    by_cases e : i' = i
    · rw [e, self]; right; omega
    · rw [keep i' e]
      rcases h5 i' with z | z
      · exact Or.inl z
      · right; omega
/-- two such orders, of gates that belong together -/
theorem OD_le {G' : Nat} {nd' : Nat → Prop} {pa' pb' : Nat → Option Nat} {ord' : List Nat} {lev' : Nat → Int} (R : Nat → Nat → Prop) (H : OD G nd pa pb ord lev) (H' : OD G' nd' pa' pb' ord' lev') (C' : CLO G' nd' pa' pb' lev') (hR : ∀ i j, R i j → (nd i → j < G' ∧ nd' j) ∧ (∀ o o', (o = pa i ∧ o' = pa' j ∨ o = pb i ∧ o' = pb' j) → nd i → o = none ∧ o' = none ∨ ∃ a b, o = some a ∧ o' = some b ∧ R a b)) : ∀ (N t i j : Nat), t < N → ord[t]? = some i → R i j → lev' j = lev i
  | 0, _, _, _, ht, _, _ => by omega
  | N + 1, t, i, j, ht, hi, hr => by
    obtain ⟨q1, q2⟩ := H.2.2.2.1 t i hi
    have hn := (H.2.1 i (List.mem_of_getElem? hi)).2
    obtain ⟨r1, r2⟩ := hR i j hr
    have lv : ∀ o o', (o = pa i ∧ o' = pa' j ∨ o = pb i ∧ o' = pb' j) → lvo lev' o' = lvo lev o ∧ lvo lev o ≠ -1 := by
      intro o o' z
      rcases r2 o o' z hn with ⟨z1, z2⟩ | ⟨a, b, z1, z2, z3⟩
      · rw [z1, z2]; exact ⟨rfl, by show (0 : Int) ≠ -1; decide⟩
      · have am : a ∈ ord.take t := q1 a (z.imp (fun w => by rw [← w.1, z1]) (fun w => by rw [← w.1, z1]))
        obtain ⟨s, hs, hsa⟩ := List.getElem_of_mem am
        rw [List.length_take] at hs
        have hsa' : ord[s]? = some a := by
          rw [← hsa, List.getElem_take]; exact List.getElem?_eq_getElem (by omega)
        rw [z1, z2]
        exact ⟨OD_le R H H' C' hR N s a b (by omega) hsa' z3, (H.2.2.1 a).2 (List.mem_of_getElem? hsa')⟩
    obtain ⟨a1, a2⟩ := lv _ _ (Or.inl ⟨rfl, rfl⟩)
    obtain ⟨b1, b2⟩ := lv _ _ (Or.inr ⟨rfl, rfl⟩)
    have kj := C' j (r1 hn).1 (r1 hn).2 (by rw [a1]; exact a2) (by rw [b1]; exact b2)
    obtain ⟨s, hs, hsj⟩ := List.getElem_of_mem ((H'.2.2.1 j).1 kj)
    have := (H'.2.2.2.1 s j (by rw [← hsj]; exact List.getElem?_eq_getElem hs)).2
    rw [this, a1, b1, q2]
theorem OD_eq {G' : Nat} {nd' : Nat → Prop} {pa' pb' : Nat → Option Nat} {ord' : List Nat} {lev' : Nat → Int} (R : Nat → Nat → Prop) (H : OD G nd pa pb ord lev) (H' : OD G' nd' pa' pb' ord' lev') (C : CLO G nd pa pb lev) (C' : CLO G' nd' pa' pb' lev') (hR : ∀ i j, R i j → (i < G ∧ j < G' ∧ (nd i ↔ nd' j)) ∧ (∀ o o', (o = pa i ∧ o' = pa' j ∨ o = pb i ∧ o' = pb' j) → nd i → o = none ∧ o' = none ∨ ∃ a b, o = some a ∧ o' = some b ∧ R a b)) {i j : Nat} (hr : R i j) : lev i = lev' j := by
  by_cases z : i ∈ ord
  · obtain ⟨s, hs, hsj⟩ := List.getElem_of_mem z
    exact (OD_le R H H' C' (fun i j r => ⟨fun n => ⟨(hR i j r).1.2.1, (hR i j r).1.2.2.1 n⟩, (hR i j r).2⟩) (s + 1) s i j (by omega) (by rw [← hsj]; exact List.getElem?_eq_getElem hs) hr).symm
  · by_cases z' : j ∈ ord'
    · obtain ⟨s, hs, hsj⟩ := List.getElem_of_mem z'
      refine OD_le (fun b a => R a b) H' H C (fun j i r => ⟨fun n => ⟨(hR i j r).1.1, (hR i j r).1.2.2.2 n⟩, fun o o' w n => ?_⟩) (s + 1) s j i (by omega) (by rw [← hsj]; exact List.getElem?_eq_getElem hs) hr
      rcases (hR i j r).2 o' o (w.imp (fun z => ⟨z.2, z.1⟩) (fun z => ⟨z.2, z.1⟩)) ((hR i j r).1.2.2.2 n) with ⟨q1, q2⟩ | ⟨a, b, q1, q2, q3⟩
      · exact Or.inl ⟨q2, q1⟩
      · exact Or.inr ⟨b, a, q2, q1, q3⟩
    · have e1 : lev i = -1 := Classical.byContradiction (fun w => z ((H.2.2.1 i).1 w))
      have e2 : lev' j = -1 := Classical.byContradiction (fun w => z' ((H'.2.2.1 j).1 w))
      rw [e1, e2]
/-- lists without doubles whose members belong together, as many -/
theorem rel_len {R : Nat → Nat → Prop} : ∀ (l l' : List Nat), l.Nodup → (∀ i ∈ l, ∃ j, j ∈ l' ∧ R i j) → (∀ i i' j, R i j → R i' j → i = i') → l.length ≤ l'.length
  | [], l', _, _, _ => Nat.zero_le _
  | i :: l, l', hn, hx, hu => by
    obtain ⟨j, hj, hr⟩ := hx i (List.mem_cons_self ..)
    rw [List.nodup_cons] at hn
    have := rel_len l (l'.erase j) hn.2 (fun i' hi' => by
      obtain ⟨j', hj', hr'⟩ := hx i' (List.mem_cons_of_mem _ hi')
      have ne : j' ≠ j := fun e => hn.1 (by rw [hu i i' j hr (e ▸ hr')]; exact hi')
      exact ⟨j', (List.mem_erase_of_ne ne).2 hj', hr'⟩) hu
    have e := List.length_erase_of_mem hj
    have : 0 < l'.length := List.length_pos_of_mem hj
    show l.length + 1 ≤ _
    omega
/-- sums over such lists -/
def lsm (f : Nat → Int) : List Nat → Int
  | [] => 0
  | i :: l => f i + lsm f l
theorem lsm_er (f : Nat → Int) : ∀ {l : List Nat} {j : Nat}, j ∈ l → lsm f l = f j + lsm f (l.erase j)
  | a :: l, j, hj => by
    by_cases e : a = j
    · subst e; rw [List.erase_cons_head]; rfl
    · rw [List.erase_cons_tail (by simp [e])]
      have := lsm_er f (l := l) (j := j) ((List.mem_cons.1 hj).resolve_left (fun z => e z.symm))
      show f a + lsm f l = f j + (f a + lsm f (l.erase j))
      omega
theorem rel_sum {R : Nat → Nat → Prop} {f g : Nat → Int} : ∀ (l l' : List Nat), l.Nodup → l.length = l'.length → (∀ i ∈ l, ∃ j, j ∈ l' ∧ R i j) → (∀ i i' j, R i j → R i' j → i = i') → (∀ i j, R i j → f i = g j) → lsm f l = lsm g l'
  | [], l', _, hl, _, _, _ => by
    have : l' = [] := List.length_eq_zero_iff.1 hl.symm
    rw [this]; rfl
  | i :: l, l', hn, hl, hx, hu, hf => by
    obtain ⟨j, hj, hr⟩ := hx i (List.mem_cons_self ..)
    rw [List.nodup_cons] at hn
    have e := List.length_erase_of_mem hj
    have hp : 0 < l'.length := List.length_pos_of_mem hj
    have hl' : l.length + 1 = l'.length := hl
    have := rel_sum l (l'.erase j) (f := f) (g := g) hn.2 (by omega) (fun i' hi' => by
      obtain ⟨j', hj', hr'⟩ := hx i' (List.mem_cons_of_mem _ hi')
      have ne : j' ≠ j := fun e => hn.1 (by rw [hu i i' j hr (e ▸ hr')]; exact hi')
      exact ⟨j', (List.mem_erase_of_ne ne).2 hj', hr'⟩) hu hf
    rw [lsm_er g hj, ← this, ← hf i j hr]
    rfl
end
/-- gates give their values in turn -/
def stl (o : Nat → Nat) (f : Nat → (Nat → Int) → Int) : List Nat → (Nat → Int) → Nat → Int
  | [], S => S
  | i :: l, S => stl o f l (p_set S (o i) (f i S))
def TOP (o : Nat → Nat) (f : Nat → (Nat → Int) → Int) : List Nat → Prop
  | [] => True
  | i :: l => (∀ a ∈ l, o a ≠ o i) ∧ (∀ S S' : Nat → Int, (∀ x, (∀ a ∈ i :: l, x ≠ o a) → S x = S' x) → f i S = f i S') ∧ TOP o f l
theorem stl_o {o : Nat → Nat} {f : Nat → (Nat → Int) → Int} : ∀ (l : List Nat) {S : Nat → Int} {x : Nat}, (∀ a ∈ l, x ≠ o a) → stl o f l S x = S x
  | [], S, x, _ => rfl
  | i :: l, S, x, h => by
    show stl o f l (p_set S (o i) (f i S)) x = S x
    rw [stl_o l (fun a ha => h a (List.mem_cons_of_mem _ ha))]
    unfold p_set
    rw [if_neg (h i (List.mem_cons_self ..))]
theorem stl_fix {o : Nat → Nat} {f : Nat → (Nat → Int) → Int} : ∀ (l : List Nat) {S : Nat → Int}, TOP o f l → ∀ i ∈ l, stl o f l S (o i) = f i (stl o f l S)
  | [], S, _, i, hi => by cases hi
  | a :: l, S, ⟨t1, t2, t3⟩, i, hi => by
    show stl o f l (p_set S (o a) (f a S)) (o i) = f i (stl o f l (p_set S (o a) (f a S)))
    by_cases z : i ∈ l
    · exact stl_fix l t3 i z
    · have e : i = a := (List.mem_cons.1 hi).resolve_right z
      subst e
      rw [stl_o l (fun b hb e => t1 b hb e.symm)]
      have : p_set S (o i) (f i S) (o i) = f i S := by unfold p_set; rw [if_pos rfl]
      rw [this]
      refine t2 _ _ (fun x hx => ?_)
      rw [stl_o l (fun b hb => hx b (List.mem_cons_of_mem _ hb))]
      unfold p_set
      rw [if_neg (hx i (List.mem_cons_self ..))]
