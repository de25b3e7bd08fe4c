/-! CONSTRUCTORS, 5: runs over lists -/
abbrev koA : Type := Option am_V × List am_C × List koO
abbrev koG : Type := Nat → Nat → List am_V → List am_C → List koO → Option koA
abbrev koB : Type := Nat × List (Option am_V) × List am_V × List am_C × List koO
/-- behind a call -/
def koK (rty x : Nat) (r : List am_A) (ls : List (Option am_V)) (st : List am_V) (T : List am_C) (a : Option koA) : Option koC := match a with
  | none => none
  | some (v, T', w') => cond (Nat.beq x 0 || decide (T' = T)) (match rty, v with
    | 0, none => some (.inr r, ls, st, T', w')
    | 1, some (.inl y) => some (.inr r, ls, am_i y :: st, T', w')
    | 3, some (.inr (.inr X)) => some (.inr r, ls, am_r X :: st, T', w')
    | _, _ => none) none
def koV (Γ : koG) (o : List Nat) (r : List am_A) (ls : List (Option am_V)) (st : List am_V) (T : List am_C) (w : List koO) : Option koC := match o with
  | [kind, c, i, n, rty, 0, x] => cond (Nat.ble n st.length && Nat.ble (am_wt (st.drop n)) 8) (match kind with
    | 0 => koK rty x r ls (st.drop n) T (Γ c i (st.take n).reverse T w)
    | 1 => (match (st.take n).reverse with
      | .inr (.inr X) :: _ => (match koL T X with
        | some (_, q) => cond (Nat.beq q.1 0 && Nat.beq q.2.1 c) (koK rty x r ls (st.drop n) T (Γ c i (st.take n).reverse T w)) none
        | none => none)
      | _ => none)
    | 2 => (match (st.take n).reverse with
      | .inr (.inr (.inl (some _))) :: _ => koK rty x r ls (st.drop n) T (Γ c i (st.take n).reverse T w)
      | _ => none)
    | 3 => (match st with
      | .inr (.inr (.inl (some _))) :: st => some (.inr r, ls, st, T, w)
      | _ => none)
    | 6 => (match st with
      | .inr (.inr (.inr j)) :: st => cond (Nat.blt j am_ns) (some (.inr r, ls, am_i (am_sl j) :: st, T, w)) none
      | _ => none)
    | 7 => (match st with
      | .inl x :: .inr (.inr (.inr j)) :: st => cond (Nat.blt j am_ns && decide (0 ≤ x) && decide (x < (am_sl j : Int))) (some (.inr r, ls, am_i (am_sc j x.toNat) :: st, T, w)) none
      | _ => none)
    | 8 => (match st with
      | .inr (.inr (.inr j)) :: .inr (.inr X) :: st => (match koL T X with
        | some (_, q) => cond (Nat.beq q.1 0 && Nat.beq q.2.1 am_ise && Nat.blt j am_ns) (some (.inr r, ls, st, T, w)) none
        | none => none)
      | _ => none)
    | _ => none) none
  | _ => none
/-- up to an end, or up to one of the blocks in bs -/
def koRun (Γ : koG) (bl : List am_B) (bs : List Nat) : Nat → koC → Option (koA ⊕ koB)
  | 0, _ => none
  | n + 1, (.inl k, ls, st, T, w) => cond (bs.contains k) (some (.inr (k, ls, st, T, w))) (match bl[k]? with
    | some b => koRun Γ bl bs n (.inr b.2, ls, st, T, w)
    | none => none)
  | _ + 1, (.inr [], _, _, _, _) => none
  | n + 1, (.inr ((i, o) :: r), ls, st, T, w) => match i with
    | .return_ => (match st with
      | [] => some (.inl (none, T, w))
      | _ => none)
    | .ireturn => (match o, st with
      | [], [.inl x] => some (.inl (some (am_i x), T, w))
      | [_], [.inl x] => cond (decide (x = 0) || decide (x = 1)) (some (.inl (some (am_i x), T, w))) none
      | _, _ => none)
    | .areturn => (match st with
      | [.inr (.inr X)] => some (.inl (some (am_r X), T, w))
      | _ => none)
    | .invokevirtual _ => (match koV Γ o r ls st T w with
      | some c => koRun Γ bl bs n c
      | none => none)
    | .invokespecial _ => (match koV Γ o r ls st T w with
      | some c => koRun Γ bl bs n c
      | none => none)
    | .invokestatic _ => (match koV Γ o r ls st T w with
      | some c => koRun Γ bl bs n c
      | none => none)
    | i => (match koI i o r ls st T w with
      | some c => koRun Γ bl bs n c
      | none => none)
def koD (f : Nat) : Nat → koG
  | 0 => fun _ _ _ _ _ => none
  | d + 1 => fun c i as T w => match (am_mt.getD c [])[i]? with
    | some q => cond (Nat.ble as.length q.1 && as.all am_nol) (match koRun (koD f d) q.2 [] f (.inl 0, am_ent q.1 as, [], T, w) with
      | some (.inl x) => some x
      | _ => none) none
    | none => none
def koS (Γ : koG) (Γ' : am_G) (L : Nat) (h : am_H) : Prop := ∀ c i as T w v T' w', Γ c i as T w = some (v, T', w') → Γ' c i as (koZ L T, koH w h) = some (.inl v, (koZ L T', koH w' h))
section
variable {Γ : koG} {Γ' : am_G} {F : am_F} {o : List Nat} {r : List am_A} {ls ls' : List (Option am_V)} {st st' : List am_V} {T T' : List am_C} {w w' : List koO} {p' : Nat ⊕ List am_A} {L : Nat} {h : am_H}
theorem koK_ok (H : koS Γ Γ' L h) {rty x c i : Nat} {as rest : List am_V} {f : Nat → am_S → Option am_O} {g : Nat → am_H → Option am_O} (e : koK rty x r ls rest T (Γ c i as T w) = some (p', ls', st', T', w')) : am_call Γ' (koZ L T, koH w h) c i rty x as f g (fun vs σ' => F (.inr r) ls (vs ++ rest) σ') = F p' ls' st' (koZ L T', koH w' h) := by
  cases e1 : Γ c i as T w with
  | none => rw [e1] at e; cases e
  | some y =>
    obtain ⟨v, T1, w1⟩ := y
    rw [e1] at e
    have G := H _ _ _ _ _ _ _ _ e1
    unfold koK at e
    dsimp only at e
    have hx : (Nat.beq x 0 || decide (T1 = T)) = true := by
      cases z : (Nat.beq x 0 || decide (T1 = T))
      · rw [z] at e; cases e
      · rfl
    rw [hx, cond_true] at e
    have key : ∀ (vs : List am_V), (some (.inr r, ls, vs ++ rest, T1, w1) : Option koC) = some (p', ls', st', T', w') → F (.inr r) ls (vs ++ rest) (koZ L T1, koH w1 h) = F p' ls' st' (koZ L T', koH w' h) := fun vs e => by
      obtain ⟨rfl, rfl, rfl, rfl, rfl⟩ := ko_inj e
      rfl
    have tt : ∀ y, x = y + 1 → T1 = T := fun y hy => by
      rw [hy] at hx
      have : Nat.beq (y + 1) 0 = false := rfl
      rw [this, Bool.false_or] at hx
      exact of_decide_eq_true hx
    split at e
    · match x, tt with
      | 0, _ =>
        show am_cV (Γ' c i as (koZ L T, koH w h)) f (fun σ' => F (.inr r) ls ([] ++ rest) σ') = _
        rw [G]; exact key [] e
      | y + 1, tt =>
        have := tt y rfl
        subst this
        show am_xV (koZ L T1) (Γ' c i as (koZ L T1, koH w h)) g (fun h => F (.inr r) ls ([] ++ rest) (koZ L T1, h)) = _
        rw [G]
        show (if koZ L T1 = koZ L T1 then _ else none) = _
        rw [if_pos rfl]; exact key [] e
    · rename_i y
      match x, tt with
      | 0, _ =>
        show am_cI (Γ' c i as (koZ L T, koH w h)) f (fun n σ' => F (.inr r) ls ([am_i n] ++ rest) σ') = _
        rw [G]; exact key [am_i y] e
      | z + 1, tt =>
        have := tt z rfl
        subst this
        show am_xI (koZ L T1) (Γ' c i as (koZ L T1, koH w h)) g (fun n h => F (.inr r) ls ([am_i n] ++ rest) (koZ L T1, h)) = _
        rw [G]
        show (if koZ L T1 = koZ L T1 then _ else none) = _
        rw [if_pos rfl]; exact key [am_i y] e
    · rename_i X
      match x, tt with
      | 0, _ =>
        show am_cR (Γ' c i as (koZ L T, koH w h)) f (fun n σ' => F (.inr r) ls ([am_r n] ++ rest) σ') = _
        rw [G]; exact key [am_r X] e
      | z + 1, tt =>
        have := tt z rfl
        subst this
        show am_xR (koZ L T1) (Γ' c i as (koZ L T1, koH w h)) g (fun n h => F (.inr r) ls ([am_r n] ++ rest) (koZ L T1, h)) = _
        rw [G]
        show (if koZ L T1 = koZ L T1 then _ else none) = _
        rw [if_pos rfl]; exact key [am_r X] e
    · cases e
theorem koV_ok (H : koS Γ Γ' L h) (e : koV Γ o r ls st T w = some (p', ls', st', T', w')) : am_inv Γ' F o r ls st (koZ L T, koH w h) = F p' ls' st' (koZ L T', koH w' h) := by
  unfold koV at e
  split at e
  · rename_i kind c i n rty x
    have hx : (Nat.ble n st.length && Nat.ble (am_wt (st.drop n)) 8) = true := by
      cases z : (Nat.ble n st.length && Nat.ble (am_wt (st.drop n)) 8)
      · rw [z] at e; cases e
      · rfl
    rw [hx, cond_true] at e
    unfold am_inv
    dsimp only
    rw [hx, cond_true]
    split at e
    · exact koK_ok H e
    · split at e
      · rename_i X l hl
        split at e
        · rename_i a q hq
          obtain ⟨z, e⟩ : (Nat.beq q.1 0 && Nat.beq q.2.1 c) = true ∧ _ := by
            cases z : (Nat.beq q.1 0 && Nat.beq q.2.1 c)
            · rw [z] at e; cases e
            · rw [z, cond_true] at e; exact ⟨rfl, e⟩
          show am_recv (koZ L T, koH w h) c (st.take n).reverse _ = _
          unfold am_recv
          rw [hl]
          dsimp only
          rw [ko_obj hq z]
          rw [hl] at e
          exact koK_ok H e
        · cases e
      · cases e
    · split at e
      · rename_i b l hl
        show am_rcv2 (st.take n).reverse _ = _
        unfold am_rcv2
        rw [hl]
        rw [hl] at e
        exact koK_ok H e
      · cases e
    · split at e
      · obtain ⟨rfl, rfl, rfl, rfl, rfl⟩ := ko_inj e; rfl
      · cases e
    · split at e
      · rename_i j st
        obtain ⟨z, e⟩ := ko_cd e
        obtain ⟨rfl, rfl, rfl, rfl, rfl⟩ := ko_inj (congrArg some e)
        show cond (Nat.blt j am_ns) (F (.inr r) ls (am_i (am_sl j) :: st) (koZ L T, koH w h)) none = _
        rw [z]; rfl
      · cases e
    · split at e
      · rename_i x j st
        obtain ⟨z, e⟩ := ko_cd e
        obtain ⟨rfl, rfl, rfl, rfl, rfl⟩ := ko_inj (congrArg some e)
        rw [Bool.and_eq_true, Bool.and_eq_true, decide_eq_true_eq, decide_eq_true_eq] at z
        show cond (Nat.blt j am_ns) (am_idx x (am_sl j) fun k => F (.inr r) ls (am_i (am_sc j k) :: st) (koZ L T, koH w h)) none = _
        rw [z.1.1, cond_true, ko_idx z.1.2 z.2]
      · cases e
    · split at e
      · rename_i j X st
        split at e
        · rename_i a q hq
          obtain ⟨z, e⟩ := ko_cd e
          obtain ⟨rfl, rfl, rfl, rfl, rfl⟩ := ko_inj (congrArg some e)
          rw [Bool.and_eq_true] at z
          show am_obj (koZ L T, koH w h) X am_ise (fun _ _ => cond (Nat.blt j am_ns) (F (.inr r) ls st (koZ L T, koH w h)) none) = _
          rw [ko_obj hq z.1, z.2]; rfl
        · cases e
      · cases e
    · cases e
  · cases e
def koY (Γ' : am_G) (bl : List am_B) (L : Nat) (h : am_H) (X : Option am_O) (y : koA ⊕ koB) : Prop := match y with
  | .inl (v, T', w') => X = some (.inl v, (koZ L T', koH w' h))
  | .inr (k, ls', st', T', w') => X = am_E Γ' bl (.inl k) ls' st' (koZ L T', koH w' h)
theorem koRun_ok (H : koS Γ Γ' L h) {bl : List am_B} {bs : List Nat} : ∀ (n : Nat) (p : Nat ⊕ List am_A) (ls : List (Option am_V)) (st : List am_V) (T : List am_C) (w : List koO) (y : koA ⊕ koB), koRun Γ bl bs n (p, ls, st, T, w) = some y → koY Γ' bl L h (am_E Γ' bl p ls st (koZ L T, koH w h)) y
  | 0, p, ls, st, T, w, y, e => by cases e
  | n + 1, .inl k, ls, st, T, w, y, e => by
    have e : cond (bs.contains k) (some (.inr (k, ls, st, T, w))) (match bl[k]? with
      | some b => koRun Γ bl bs n (.inr b.2, ls, st, T, w)
      | none => none) = some y := e
    cases z : bs.contains k
    · rw [z, cond_false] at e
      have fx : am_E Γ' bl (.inl k) ls st (koZ L T, koH w h) = am_blk bl k fun is => am_E Γ' bl (.inr is) ls st (koZ L T, koH w h) := am_E_fix _ _ _ _
      cases hb : bl[k]? with
      | none => rw [hb] at e; cases e
      | some b =>
        rw [hb] at e
        have IH := koRun_ok H n _ _ _ _ _ _ e
        rw [fx]
        unfold am_blk
        rw [hb]
        exact IH
    · rw [z, cond_true] at e
      injection e with e
      subst e
      rfl
  | n + 1, .inr [], ls, st, T, w, y, e => by cases e
  | n + 1, .inr ((i, o) :: r), ls, st, T, w, y, e => by
    have fx : am_E Γ' bl (.inr ((i, o) :: r)) ls st (koZ L T, koH w h) = am_ins Γ' (am_E Γ' bl) i o r ls st (koZ L T, koH w h) := am_E_fix _ _ _ _
    rw [fx]
    have go : ∀ (c : Option koC), (∀ p' ls' st' T' w', c = some (p', ls', st', T', w') → am_ins Γ' (am_E Γ' bl) i o r ls st (koZ L T, koH w h) = am_E Γ' bl p' ls' st' (koZ L T', koH w' h)) → (match c with
      | some c => koRun Γ bl bs n c
      | none => none) = some y → koY Γ' bl L h (am_ins Γ' (am_E Γ' bl) i o r ls st (koZ L T, koH w h)) y := fun c hc e => by
      match c, hc, e with
      | none, _, e => cases e
      | some (p', ls', st', T', w'), hc, e =>
        rw [hc _ _ _ _ _ rfl]
        exact koRun_ok H n _ _ _ _ _ _ e
    unfold koRun at e
    split at e
    · split at e
      · injection e with e
        subst e
        rfl
      · cases e
    · split at e
      · injection e with e
        subst e
        rfl
      · obtain ⟨z, e⟩ := ko_cd e
        subst e
        rename_i x
        rw [Bool.or_eq_true, decide_eq_true_eq, decide_eq_true_eq] at z
        show am_bit x (some (.inl (some (am_i x)), (koZ L T, koH w h))) = _
        unfold am_bit
        rw [if_pos z]
      · cases e
    · split at e
      · injection e with e
        subst e
        rfl
      · cases e
    · exact go _ (fun _ _ _ _ _ e => koV_ok H e) e
    · exact go _ (fun _ _ _ _ _ e => koV_ok H e) e
    · exact go _ (fun _ _ _ _ _ e => koV_ok H e) e
    · exact go _ (fun _ _ _ _ _ e => koI_ok e) e
end
theorem koD_ok {f d L : Nat} {h : am_H} : ∀ k, koS (koD f k) (am_D (d + k)) L h
  | 0 => fun c i as T w v T' w' e => by cases e
  | k + 1 => fun c i as T w v T' w' e => by
    have IH := koD_ok (f := f) (d := d) (L := L) (h := h) k
    unfold koD at e
    split at e
    · rename_i q hq
      have hx : (Nat.ble as.length q.1 && as.all am_nol) = true := by
        cases z : (Nat.ble as.length q.1 && as.all am_nol)
        · rw [z] at e; cases e
        · rfl
      rw [hx, cond_true] at e
      split at e
      · rename_i x hr
        injection e with e
        subst e
        have := koRun_ok IH f _ _ _ _ _ _ hr
        show am_ob (am_mt.getD c [])[i]? _ = _
        rw [hq]
        show cond (Nat.ble as.length q.1 && as.all am_nol) _ none = _
        rw [hx]
        exact this
      · cases e
    · cases e
