/-! CONSTRUCTORS, 12: both readings of the system's text -/
abbrev yK : Nat → Int := sy2 syK
abbrev yV : Nat → Int := sy2 syV
abbrev yP : Nat → Int := sy2 syP
theorem coll_f : ∀ (es : List gx_V) (s : List gx_V), gx_fold coll es s = .inr (es.reverse ++ s)
  | [], s => rfl
  | e :: es, s => by
    show gx_b (coll e s) (gx_fold coll es) = _
    show gx_fold coll es (e :: s) = _
    rw [coll_f es (e :: s), List.reverse_cons, List.append_assoc]; rfl
theorem sy_gp {σ : Type} (C : gx_V → σ → gx_R σ) (s : σ) : gp true yK yV yP C 3000 s = gx_fold C syEv s := by
  have hB : ∀ (e : gx_V) (t : Unit) (x : Int × Int), (fun (_ : gx_V) (_ : Unit) => (.inr () : gx_R Unit)) e t = .inl x → 8 ≤ x.1 := fun _ _ _ h => by cases h
  have L1 := gzp_L (C := C) (sy := true) (K := yK) (V := yV) (P := yP) hB 3000 () [] s
  have L2 := gzp_L (C := coll) (sy := true) (K := yK) (V := yV) (P := yP) hB 3000 () [] []
  have ev := sy_evr
  generalize hr : gp true yK yV yP (xl_c fun (_ : gx_V) (_ : Unit) => (.inr () : gx_R Unit)) 3000 ((), []) = r1 at L1 L2 ev
  cases r1 with
  | inl x => cases ev
  | inr q =>
    have get : ∀ {σ : Type} {C : gx_V → σ → gx_R σ} {s : σ} {r2 : gx_R σ}, XL (fun (_ : gx_V) (_ : Unit) => (.inr () : gx_R Unit)) C xm_0 xm_0 () [] s (.inr q) r2 → r2 = gx_b (gx_fold C q.2 s) fun s' => .inr s' := fun {σ C s r2} H => by
      rcases H with ⟨x, e, -⟩ | ⟨x, es, t', e, -⟩ | ⟨b, es, t', e, -, e3⟩
      · cases e
      · cases e
      · injection e with e
        have : q = (t', [] ++ es) := e
        rw [e3, this, List.nil_append]
    have g1 := get L1
    have g2 := get L2
    rw [coll_f] at g2
    have ee := sy_ev
    rw [g2] at ee
    have e4 : q.2.reverse ++ [] = syEv.reverse := by injection ee
    rw [List.append_nil] at e4
    have e5 : q.2 = syEv := by rw [← List.reverse_reverse q.2, e4, List.reverse_reverse]
    rw [g1, e5]
    cases gx_fold C syEv s <;> rfl
theorem sy_no5 : ∀ e ∈ syEv, e.1 ≠ 5 := fun e he h => by
  have := List.all_eq_true.1 sy_e5 e he
  rw [h] at this
  cases this
section
variable {g0 : am_H}
theorem sy_c1 (N : tnB g0) : gx_fold (ce false true yK yV yP) syEv (tgx g0 sT0, 0, 0, 0, 0, 0, []) = .inr (tgx g0 sT1, -1, 0, 0, 1, 0, []) := ct_fold N syEv (s := (sT0, 0, 0, 0, 0, 0, [])) sy_no5 _ (ctck_ok sy_r1)
theorem sy_c2 (N : tnB g0) : gx_fold (ce true true yK yV yP) syEv (tgx g0 (ctst sT1), 0, 0, 0, 0, 0, []) = .inr (tgx g0 sT2, -1, 0, 0, 1, 0, []) := ct_fold N syEv (s := (ctst sT1, 0, 0, 0, 0, 0, [])) sy_no5 _ (ctck_ok sy_r2)
end
/-- tokens, one by one -/
theorem sy_tk (i : Nat) (hi : i < 2900) : syTk[i]? = some (yK i, yV i, yP i) := by
  have k := ch_at (c := 50) (by decide) syK sy_cK i
  have v := ch_at (c := 50) (by decide) syV sy_cV i
  have p := ch_at (c := 50) (by decide) syP sy_cP i
  have gd : ∀ (l : List Int), l.length = 2900 → l[i]? = some (l.getD i 0) := fun l hl => by
    rw [List.getD_eq_getElem?_getD, List.getElem?_eq_getElem (by omega)]; rfl
  have z2 : (syV.flatten.zip syP.flatten)[i]? = some (yV i, yP i) := by
    rw [List.getElem?_zip_eq_some]
    exact ⟨(gd _ sy_len.2.1).trans (by rw [← v]; rfl), (gd _ sy_len.2.2).trans (by rw [← p]; rfl)⟩
  unfold syTk
  rw [List.getElem?_zip_eq_some]
  exact ⟨(gd _ sy_len.1).trans (by rw [← k]; rfl), z2⟩
theorem sy_bey {C : List (List Int)} (hc : chkL 50 C = true) (hl : C.flatten.length = 2900) (i : Nat) (hi : 2900 ≤ i) : sy2 C i = 0 := by
  have := ch_at (c := 50) (by decide) C hc i
  unfold sy2
  rw [this, List.getD_eq_getElem?_getD, List.getElem?_eq_none (by omega)]; rfl
theorem sy_mem {C : List (List Int)} {a b : Int} (hc : chkL 50 C = true) (hr : (C.flatten.all fun c => decide (a ≤ c) && decide (c ≤ b)) = true) (h0 : a ≤ 0 ∧ 0 ≤ b) (i : Nat) : a ≤ sy2 C i ∧ sy2 C i ≤ b := by
  have := ch_at (c := 50) (by decide) C hc i
  unfold sy2
  rw [this, List.getD_eq_getElem?_getD]
  cases e : C.flatten[i]? with
  | none => exact h0
  | some x =>
    have q := List.all_eq_true.1 hr x (List.mem_of_getElem? e)
    rw [Bool.and_eq_true] at q
    exact ⟨of_decide_eq_true q.1, of_decide_eq_true q.2⟩
theorem sy_Z : pc_Z yK yV true 2899 := ⟨by decide, Or.inl sy_k0, fun i _ => sy_mem sy_cV sy_vrg (by decide) i, 2899, Nat.le_refl _, by decide, Or.inl sy_k0⟩
theorem sy_I : pc_I yK 2899 0 := ⟨Nat.zero_le _, fun _ _ => by decide⟩
