/-! PURE LAYER, 91: what the model's load() finds -/
/-- the least note counts -/
def nfold (l : List (Int × Int)) (f : Int × Int) : Int × Int := l.foldl (fun f q => if 0 < f.1 ∧ (f.2 < q.2 ∨ f.2 = q.2 ∧ f.1 ≤ q.1) then f else q) f
theorem mnotes_f : ∀ (l : List (Int × Int)) (h : am_H), (mnotes l h 254 69, mnotes l h 254 70) = nfold l (h 254 69, h 254 70)
  | [], h => rfl
  | q :: l, h => by
    show (mnotes l (mnote q.1 q.2 h) 254 69, mnotes l (mnote q.1 q.2 h) 254 70) = nfold l (if 0 < h 254 69 ∧ (h 254 70 < q.2 ∨ h 254 70 = q.2 ∧ h 254 69 ≤ q.1) then (h 254 69, h 254 70) else q)
    rw [mnotes_f l]
    unfold mnote
    by_cases c : 0 < h 254 69 ∧ (h 254 70 < q.2 ∨ h 254 70 = q.2 ∧ h 254 69 ≤ q.1)
    · rw [if_pos c, if_pos c]
    · rw [if_neg c, if_neg c, p_up_s, p_up_n _ _ _ _ _ _ (Or.inr (by decide)), p_up_s]
/-- before: a place, a number -/
def nle (q r : Int × Int) : Prop := q.2 < r.2 ∨ q.2 = r.2 ∧ q.1 ≤ r.1
theorem nle.trans {a b c : Int × Int} (h1 : nle a b) (h2 : nle b c) : nle a c := by unfold nle at *; omega
theorem nfold_least : ∀ (l : List (Int × Int)) (f : Int × Int), 0 < f.1 → (∀ q ∈ l, 0 < q.1) → (nfold l f ∈ f :: l) ∧ nle (nfold l f) f ∧ ∀ q ∈ l, nle (nfold l f) q
  | [], f, _, _ => ⟨List.mem_singleton.mpr rfl, Or.inr ⟨rfl, Int.le_refl _⟩, fun q hq => by cases hq⟩
  | r :: l, f, hf, hl => by
    have hr := hl r (List.mem_cons_self ..)
    have hl2 : ∀ q ∈ l, 0 < q.1 := fun q hq => hl q (List.mem_cons_of_mem _ hq)
    show nfold l (if 0 < f.1 ∧ (f.2 < r.2 ∨ f.2 = r.2 ∧ f.1 ≤ r.1) then f else r) ∈ _ ∧ _
    have e : nfold (r :: l) f = nfold l (if 0 < f.1 ∧ (f.2 < r.2 ∨ f.2 = r.2 ∧ f.1 ≤ r.1) then f else r) := rfl
    rw [e]
    by_cases c : 0 < f.1 ∧ (f.2 < r.2 ∨ f.2 = r.2 ∧ f.1 ≤ r.1)
    · rw [if_pos c]
      obtain ⟨a1, a2, a3⟩ := nfold_least l f hf hl2
      refine ⟨?_, a2, fun q hq => ?_⟩
      · rcases List.mem_cons.mp a1 with z | z
        · rw [z]; exact List.mem_cons_self ..
        · exact List.mem_cons_of_mem _ (List.mem_cons_of_mem _ z)
      · rcases List.mem_cons.mp hq with z | z
        · rw [z]; exact a2.trans c.2
        · exact a3 q z
    · rw [if_neg c]
      obtain ⟨a1, a2, a3⟩ := nfold_least l r hr hl2
      have rf : nle r f := by unfold nle; omega
      refine ⟨List.mem_cons_of_mem _ a1, a2.trans rf, fun q hq => ?_⟩
      rcases List.mem_cons.mp hq with z | z
      · rw [z]; exact a2
      · exact a3 q z
theorem nfold_0 (l : List (Int × Int)) (p : Int) (hl : ∀ q ∈ l, 0 < q.1) : (l = [] ∧ nfold l (0, p) = (0, p)) ∨ (nfold l (0, p) ∈ l ∧ ∀ q ∈ l, nle (nfold l (0, p)) q) := by
  cases l with
  | nil => exact Or.inl ⟨rfl, rfl⟩
  | cons r l =>
    right
    have e : nfold (r :: l) (0, p) = nfold l r := by
      show nfold l (if (0 : Int) < 0 ∧ _ then _ else r) = _
      rw [if_neg (fun z => by omega)]
    rw [e]
    obtain ⟨a1, a2, a3⟩ := nfold_least l r (hl r (List.mem_cons_self ..)) (fun q hq => hl q (List.mem_cons_of_mem _ hq))
    refine ⟨a1, fun q hq => ?_⟩
    rcases List.mem_cons.mp hq with z | z
    · rw [z]; exact a2
    · exact a3 q z
theorem mc_G.ia {nm : Nat → Int} {h : am_H} : ∀ (m k : Nat) (h' : am_H), mc_G h h' → mc_G h (m_ia nm h m k h')
  | 0, k, h', e => e
  | m + 1, k, h', e => by
    unfold m_ia
    split
    · exact mc_G.ia m (k + 1) _ (e.up _ _ (Or.inl rfl))
    · exact mc_G.ia m (k + 1) _ e
theorem mc_E.own {h : am_H} : ∀ (m s : Nat) (h' : am_H), mc_E h h' → mc_E h (m_own h m s h')
  | 0, s, h', e => e
  | m + 1, s, h', e => by unfold m_own; exact mc_E.own m (s + 1) _ (e.up _ _)
theorem mc_G.kxs {K nm sc ss : Nat → Int} {h : am_H} : ∀ (m k : Nat) (h' : am_H), mc_G h h' → mc_G h (m_kxs K nm sc ss h m k h')
  | 0, k, h', e => e
  | m + 1, k, h', e => by unfold m_kxs; exact mc_G.kxs m (k + 1) _ (e.kx k)
/-- all notes, and what else is left -/
def ml_n (K P nm sc ss : Nat → Int) (h : am_H) : List (Int × Int) := (nt_cs P nm sc h (h 254 14).toNat 0 ++ (nt_ss K P nm sc h (h 254 17).toNat 0 ++ nt_vs K P nm sc h (h 254 25).toNat 0)) ++ (nt_is P nm h (h 254 33).toNat 0 ++ nt_ks K P nm sc ss h (h 254 39).toNat 0)
def ml_x (K nm sc ss : Nat → Int) (h : am_H) : am_H := m_kxs K nm sc ss h (h 254 39).toNat 0 (m_ia nm h (h 254 33).toNat 0 (m_own h (h 254 17).toNat 0 h))
section
variable {h0 h : am_H} {K P nm sc ss : Nat → Int} {Z : Nat} (d L : Nat) {mn mM : Int}
theorem ml_G : mc_G h (mnotes (ml_n K P nm sc ss h) (ml_x K nm sc ss h)) := (mc_G.kxs _ _ _ (mc_G.ia _ _ _ ((mc_E.refl h).own _ _ _).G)).notes _
/-- the checks, up to the main sub -/
theorem ml_checks (A : mc_A h0 K nm sc ss Z) (s0 : mc_same h0 h) (T : mc_T K Z h) (k : mc_K K P Z h) (Y : mc_Y Z h) (I : mc_I K Z h) (Cc : mc_C K Z h) (u1 : Option am_V) :
    (am_xV (zS L) (am_D (d + 5) 17 60 [am_r (am_a 254)] (zS L, h)) (am_up1 (zS L)) fun h5 => am_xV (zS L) (am_D (d + 5) 17 62 [am_r (am_a 254)] (zS L, h5)) (am_up1 (zS L)) fun h6 => am_E (am_D (d + 5)) m_17_68 (.inl 3) [some (am_r (am_a 254)), u1, some (am_i 0)] [] (zS L, h6)) =
    am_E (am_D (d + 5)) m_17_68 (.inl 3) [some (am_r (am_a 254)), u1, some (am_i (h 254 39))] [] (zS L, mnotes (ml_n K P nm sc ss h) (ml_x K nm sc ss h)) := by
  have e5 : mc_G h (mnotes (nt_cs P nm sc h (h 254 14).toNat 0 ++ (nt_ss K P nm sc h (h 254 17).toNat 0 ++ nt_vs K P nm sc h (h 254 25).toNat 0)) (m_own h (h 254 17).toNat 0 h)) := (((mc_E.refl h).own _ _ _).notes _).G
  have i62 := mc_items (P := P) (d + 1) L A s0 T k I (h 254 33).toNat 0 _ none none e5 (by have := I.1; omega)
  have e6 := (mc_G.ia (nm := nm) (h 254 33).toNat 0 _ e5).notes (nt_is P nm h (h 254 33).toNat 0)
  rw [mc_names (P := P) d L A s0 T k Y, p_xV, D_17_62]
  rw [show am_E (am_D (d + 4)) m_17_62 (.inl 1) [some (am_r (am_a 254)), some (am_i 0), none, none] [] (zS L, mnotes (nt_cs P nm sc h (h 254 14).toNat 0 ++ (nt_ss K P nm sc h (h 254 17).toNat 0 ++ nt_vs K P nm sc h (h 254 25).toNat 0)) (m_own h (h 254 17).toNat 0 h)) = _ from i62, p_xV]
  have t := mc_calls (P := P) (d + 1) L A s0 T k Cc u1 (h 254 39).toNat 0 _ e6 (by have := Cc.1.1; omega)
  refine t.trans ?_
  unfold ml_n ml_x
  rw [m_ia_notes, m_kxs_notes, m_kxs_notes]
  simp only [mnotes_app]
end
