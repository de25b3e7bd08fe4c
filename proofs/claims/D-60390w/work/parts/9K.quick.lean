/-! CONSTRUCTORS, 3: code without loops, run by fuel -/
def qle (a b : Option am_O) : Prop := ∀ x, a = some x → b = some x
theorem ql_r (a : Option am_O) : qle a a := fun _ h => h
theorem ql_n (b : Option am_O) : qle none b := fun _ h => by cases h
theorem ql_t {a b c : Option am_O} (h1 : qle a b) (h2 : qle b c) : qle a c := fun x h => h2 x (h1 x h)
/-- what answers nothing on nothing -/
theorem ql_f {a b : Option am_O} (φ : Option am_O → Option am_O) (h0 : φ none = none) (h : qle a b) : qle (φ a) (φ b) := by
  cases a with
  | none => rw [h0]; exact ql_n _
  | some x => rw [h x rfl]; exact ql_r _
section
variable {Γ Γ' : am_G} {F F' : am_F} {bl : List am_B} {st : List am_V} {ls : List (Option am_V)} {σ : am_S}
def qG (Γ Γ' : am_G) : Prop := ∀ c i as σ, qle (Γ c i as σ) (Γ' c i as σ)
theorem ql_call (H : qG Γ Γ') {c i rty x : Nat} {as : List am_V} {f : Nat → am_S → Option am_O} {g : Nat → am_H → Option am_O} {k : List am_V → am_S → Option am_O} : qle (am_call Γ σ c i rty x as f g k) (am_call Γ' σ c i rty x as f g k) := by
  have h := H c i as σ
  match x, rty with
  | 0, 0 => exact ql_f (fun o => am_cV o f (fun σ' => k [] σ')) rfl h
  | 0, 1 => exact ql_f (fun o => am_cI o f (fun n σ' => k [am_i n] σ')) rfl h
  | 0, 2 => exact ql_f (fun o => am_cL o f (fun n σ' => k [am_l n] σ')) rfl h
  | 0, r + 3 => exact ql_f (fun o => am_cR o f (fun X σ' => k [am_r X] σ')) rfl h
  | x + 1, 0 => exact ql_f (fun o => am_xV σ.1 o g (fun h => k [] (σ.1, h))) rfl h
  | x + 1, 1 => exact ql_f (fun o => am_xI σ.1 o g (fun n h => k [am_i n] (σ.1, h))) rfl h
  | x + 1, 2 => exact ql_f (fun o => am_xL σ.1 o g (fun n h => k [am_l n] (σ.1, h))) rfl h
  | x + 1, r + 3 => exact ql_f (fun o => am_xR σ.1 o g (fun X h => k [am_r X] (σ.1, h))) rfl h
theorem ql_obj {X : am_R} {c : Nat} {k k' : Nat → List am_R → Option am_O} (H : ∀ a rs, qle (k a rs) (k' a rs)) : qle (am_obj σ X c k) (am_obj σ X c k') := by
  unfold am_obj am_hp
  match X with
  | .inl none => exact ql_n _
  | .inr _ => exact ql_n _
  | .inl (some a) =>
    show qle (am_ob σ.1[a]? _) (am_ob σ.1[a]? _)
    cases σ.1[a]? with
    | none => exact ql_n _
    | some q =>
      show qle (cond (Nat.beq q.1 0 && Nat.beq q.2.1 c) _ none) (cond (Nat.beq q.1 0 && Nat.beq q.2.1 c) _ none)
      cases (Nat.beq q.1 0 && Nat.beq q.2.1 c)
      · exact ql_n _
      · exact H _ _
theorem ql_inv (H : qG Γ Γ') {o : List Nat} {r : List am_A} : qle (am_inv Γ F o r ls st σ) (am_inv Γ' F o r ls st σ) := by
  unfold am_inv
  split
  · rename_i kind c i n rty hd x
    cases hb : (Nat.ble n st.length && Nat.ble (am_wt (st.drop n)) 8)
    · exact ql_n _
    · show qle (match kind with | 0 => _ | 1 => _ | 2 => _ | 3 => _ | 4 => _ | 5 => _ | 6 => _ | 7 => _ | _ => _) (match kind with | 0 => _ | 1 => _ | 2 => _ | 3 => _ | 4 => _ | 5 => _ | 6 => _ | 7 => _ | _ => _)
      split
      · exact ql_call H
      · unfold am_recv
        split
        · exact ql_obj fun _ _ => ql_call H
        · exact ql_n _
      · unfold am_rcv2
        split
        · unfold am_hp
          split
          · exact ql_call H
          · exact ql_n _
        · exact ql_n _
      all_goals exact ql_r _
  · exact ql_n _
theorem ql_ins (H : qG Γ Γ') {i : Instr} {o : List Nat} {r : List am_A} : qle (am_ins Γ F i o r ls st σ) (am_ins Γ' F i o r ls st σ) := by
  cases i
  case invokevirtual => exact ql_inv H
  case invokespecial => exact ql_inv H
  case invokestatic => exact ql_inv H
  all_goals exact ql_r _
theorem ql_lin {f : am_F → Option am_O} (hf : am_lin f) (H : ∀ p ls st σ, qle (F p ls st σ) (F' p ls st σ)) : qle (f F) (f F') := by
  rcases hf with ⟨c, hc⟩ | ⟨p, ls, st, σ, hc⟩
  · rw [hc, hc]; exact ql_r _
  · rw [hc, hc]; exact H _ _ _ _
theorem ql_body (H : qG Γ Γ') {p : Nat ⊕ List am_A} : qle (am_body Γ bl F p ls st σ) (am_body Γ' bl F p ls st σ) := by
  rcases p with k | _ | ⟨q, r⟩
  · exact ql_r _
  · exact ql_r _
  · exact ql_ins H
theorem ql_run (H : qG Γ Γ') : ∀ (n : Nat) (p : Nat ⊕ List am_A) (ls : List (Option am_V)) (st : List am_V) (σ : am_S), qle (am_run Γ bl n p ls st σ) (am_run Γ' bl n p ls st σ)
  | 0, _, _, _, _ => ql_r _
  | n + 1, p, ls, st, σ => ql_t (ql_body H) (ql_lin (ln_body Γ' bl p ls st σ) (ql_run H n))
theorem ql_E (n : Nat) (p : Nat ⊕ List am_A) : qle (am_run Γ bl n p ls st σ) (am_E Γ bl p ls st σ) := fun x h => am_E_some.mpr ⟨n, h⟩
/-- unrolled, with other calls -/
theorem ql_unr (H : qG Γ Γ') : ∀ (n : Nat) (p : Nat ⊕ List am_A) (ls : List (Option am_V)) (st : List am_V) (σ : am_S), qle (am_unr Γ bl F n p ls st σ) (am_unr Γ' bl F n p ls st σ)
  | 0, _, _, _, _ => ql_r _
  | n + 1, .inl k, ls, st, σ => by
    show qle (match bl[k]? with
      | some (true, _) => F (.inl k) ls st σ
      | some (false, is) => am_unr Γ bl F n (.inr is) ls st σ
      | none => none) (match bl[k]? with
      | some (true, _) => F (.inl k) ls st σ
      | some (false, is) => am_unr Γ' bl F n (.inr is) ls st σ
      | none => none)
    split
    · exact ql_r _
    · exact ql_unr H n _ _ _ _
    · exact ql_n _
  | n + 1, .inr [], _, _, _ => ql_r _
  | n + 1, .inr (q :: r), ls, st, σ => ql_t (ql_ins H) (ql_lin (ln_ins Γ' q.1 q.2 r ls st σ) (ql_unr H n))
end
/-- calls by fuel -/
def am_Q (f : Nat) : Nat → am_G
  | 0 => fun _ _ _ _ => none
  | d + 1 => fun c i as σ => am_ob (am_mt.getD c [])[i]? fun q => cond (Nat.ble as.length q.1 && as.all am_nol) (am_run (am_Q f d) q.2 f (.inl 0) (am_ent q.1 as) [] σ) none
theorem ql_Q (f : Nat) : ∀ d, qG (am_Q f d) (am_D d)
  | 0 => fun _ _ _ _ => ql_r _
  | d + 1 => fun c i as σ => by
    show qle (am_ob (am_mt.getD c [])[i]? _) (am_ob (am_mt.getD c [])[i]? _)
    unfold am_ob
    cases (am_mt.getD c [])[i]? with
    | none => exact ql_n _
    | some q =>
      show qle (cond (Nat.ble as.length q.1 && as.all am_nol) _ none) (cond (Nat.ble as.length q.1 && as.all am_nol) _ none)
      cases (Nat.ble as.length q.1 && as.all am_nol)
      · exact ql_n _
      · exact ql_t (ql_run (ql_Q f d) _ _ _ _ _) (ql_E _ _)
/-- a stretch of code -/
theorem am_go {f d n : Nat} {bl : List am_B} {p p' : Nat ⊕ List am_A} {ls ls' : List (Option am_V)} {st st' : List am_V} {σ σ' : am_S} (e : ∀ F, am_unr (am_Q f d) bl F n p ls st σ = F p' ls' st' σ') {x : am_O} (h : am_E (am_D d) bl p' ls' st' σ' = some x) : am_E (am_D d) bl p ls st σ = some x := by
  rw [← am_unr_E (am_D d) bl n]
  exact ql_unr (ql_Q f d) n p ls st σ x (by rw [e]; exact h)
