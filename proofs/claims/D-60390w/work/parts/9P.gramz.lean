/-! CONSTRUCTORS, 8: the grammar of the system's text is a list of events. Printed by gen/gramz.py -/
section
variable {τ σ : Type} {B : gx_V → τ → gx_R τ} {C : gx_V → σ → gx_R σ} {sy : Bool} {K V P : Nat → Int}
theorem gze_L (hB : ∀ e t x, B e t = .inl x → 8 ≤ x.1) : ∀ (f m deep st i : Nat) (t : τ) (l : List gx_V) (s : σ), XL B C xm_e xm_e t l s (ge sy K V P (xl_c B) f m deep st i (t, l)) (ge sy K V P C f m deep st i s)
  | 0, _, _, _, _, t, l, s => XL_e _
  | f + 1, 0, deep, st, i, t, l, s => by
    have ih := gze_L hB f
    rw [ge, ge]
    split
    · exact XL_C hB fun _ _ _ => XL_k fun j => XL_i (j, st, 0)
    split
    · exact XL_if (XL_C hB fun _ _ _ => XL_k fun j => XL_i (j, st + (V i).toNat, 0))
    split
    · exact XL_if (XL_C hB fun _ _ _ => XL_k fun j => XL_i (j, st, 0))
    split
    · refine XL_k fun j => ?_
      split
      · exact XL_C hB fun _ _ _ => XL_k fun j1 => XL_b (ih _ _ _ _ _ _ _) fun b1 _ _ _ => XL_b (ih _ _ _ _ _ _ _) fun b2 _ _ _ => XL_k fun j2 => XL_C hB fun _ _ _ => XL_i (j2, b2.2.1, 0)
      split
      · exact XL_k fun j1 => XL_k fun j2 => XL_C hB fun _ _ _ => XL_k fun j3 => XL_b (ih _ _ _ _ _ _ _) fun b1 _ _ _ => XL_C hB fun _ _ _ => XL_i (b1.1, b1.2.1, 0)
      split
      · exact XL_C hB fun _ _ _ => XL_k fun j3 => XL_b (ih _ _ _ _ _ _ _) fun b1 _ _ _ => XL_C hB fun _ _ _ => XL_i (b1.1, b1.2.1, 0)
      · exact XL_C hB fun _ _ _ => XL_i (j, st, 0)
    split
    · exact XL_k fun j1 => XL_b (ih _ _ _ _ _ _ _) fun b1 _ _ _ => XL_b (ih _ _ _ _ _ _ _) fun b2 _ _ _ => XL_k fun j2 => XL_i (j2, b2.2.1, 0)
    · exact XL_if (XL_k fun j1 => XL_b (ih _ _ _ _ _ _ _) fun b1 _ _ _ => XL_C hB fun _ _ _ => XL_i (b1.1, b1.2.1, 0))
  | f + 1, 1, deep, st, i, t, l, s => by
    have ih := gze_L hB f
    rw [ge, ge]
    split
    · exact XL_k fun j => XL_b (ih _ _ _ _ _ _ _) fun b1 _ _ _ => XL_C hB fun _ _ _ => ih _ _ _ _ _ _ _
    · exact XL_i (i, st, 0)
  | f + 1, 2, deep, st, i, t, l, s => by
    have ih := gze_L hB f
    rw [ge, ge]
    split
    · exact XL_k fun j => XL_i (j, st, 0)
    · exact XL_b (ih _ _ _ _ _ _ _) fun b1 _ _ _ => XL_b (ih _ _ _ _ _ _ _) fun b2 _ _ _ => XL_b (ih _ _ _ _ _ _ _) fun b3 _ _ _ => XL_i (b3.1, b3.2.1, b3.2.2 + 1)
  | f + 1, m + 3, deep, st, i, t, l, s => by
    have ih := gze_L hB f
    rw [ge, ge]
    · split
      · exact XL_k fun j => XL_i (j, st, 0)
      · exact XL_k fun j => XL_b (ih _ _ _ _ _ _ _) fun b1 _ _ _ => XL_b (ih _ _ _ _ _ _ _) fun b2 _ _ _ => XL_b (ih _ _ _ _ _ _ _) fun b3 _ _ _ => XL_i (b3.1, b3.2.1, b3.2.2 + 1)
    all_goals (intro z; omega)
theorem gze_e_L (hB : ∀ e t x, B e t = .inl x → 8 ≤ x.1) (f deep st i : Nat) (t : τ) (l : List gx_V) (s : σ) : XL B C xm_e xm_e t l s (ge_e sy K V P (xl_c B) f deep st i (t, l)) (ge_e sy K V P C f deep st i s) := XL_b (gze_L hB _ _ _ _ _ _ _ _) fun _ _ _ _ => gze_L hB _ _ _ _ _ _ _ _
theorem gze_c_L (hB : ∀ e t x, B e t = .inl x → 8 ≤ x.1) (f deep st i : Nat) (t : τ) (l : List gx_V) (s : σ) : XL B C xm_s xm_s t l s (ge_c sy K V P (xl_c B) f deep st i (t, l)) (ge_c sy K V P C f deep st i s) := XL_k fun _ => XL_b (gze_e_L hB _ _ _ _ _ _ _) fun b _ _ _ => XL_k fun j2 => XL_i (j2, b.2.1)
theorem gze_let_L (hB : ∀ e t x, B e t = .inl x → 8 ≤ x.1) (f deep st i : Nat) (t : τ) (l : List gx_V) (s : σ) : XL B C xm_s xm_s t l s (ge_let sy K V P (xl_c B) f deep st i (t, l)) (ge_let sy K V P C f deep st i s) := by
  unfold ge_let
  refine XL_k fun j => ?_
  split
  · exact XL_C hB fun _ _ _ => XL_k fun _ => XL_b (gze_e_L hB _ _ _ _ _ _ _) fun b _ _ _ => XL_k fun _ => XL_C hB fun _ _ _ => XL_k fun _ => XL_b (gze_e_L hB _ _ _ _ _ _ _) fun b2 _ _ _ => XL_k fun j4 => XL_C hB fun _ _ _ => XL_i (j4, b2.2.1)
  · exact XL_C hB fun _ _ _ => XL_k fun _ => XL_b (gze_e_L hB _ _ _ _ _ _ _) fun b2 _ _ _ => XL_k fun j4 => XL_C hB fun _ _ _ => XL_i (j4, b2.2.1)
theorem gze_do_L (hB : ∀ e t x, B e t = .inl x → 8 ≤ x.1) (f deep st i : Nat) (t : τ) (l : List gx_V) (s : σ) : XL B C xm_s xm_s t l s (ge_do sy K V P (xl_c B) f deep st i (t, l)) (ge_do sy K V P C f deep st i s) := by
  unfold ge_do
  refine XL_k fun j => ?_
  split
  · exact XL_k fun _ => XL_k fun _ => XL_C hB fun _ _ _ => XL_k fun _ => XL_b (gze_L hB _ _ _ _ _ _ _ _) fun b _ _ _ => XL_C hB fun _ _ _ => XL_C hB fun _ _ _ => XL_k fun j4 => XL_i (j4, b.2.1)
  split
  · exact XL_C hB fun _ _ _ => XL_k fun _ => XL_b (gze_L hB _ _ _ _ _ _ _ _) fun b _ _ _ => XL_C hB fun _ _ _ => XL_C hB fun _ _ _ => XL_k fun j4 => XL_i (j4, b.2.1)
  · exact XL_e _
theorem gze_ret_L (hB : ∀ e t x, B e t = .inl x → 8 ≤ x.1) (f deep st i : Nat) (t : τ) (l : List gx_V) (s : σ) : XL B C xm_s xm_s t l s (ge_ret sy K V P (xl_c B) f deep st i (t, l)) (ge_ret sy K V P C f deep st i s) := by
  unfold ge_ret
  split
  · exact XL_C hB fun _ _ _ => XL_k fun j => XL_C hB fun _ _ _ => XL_i (j, st)
  · exact XL_b (gze_e_L hB _ _ _ _ _ _ _) fun b _ _ _ => XL_k fun j => XL_C hB fun _ _ _ => XL_i (j, b.2.1)
theorem gzs_L (hB : ∀ e t x, B e t = .inl x → 8 ≤ x.1) (g : Nat) : ∀ (f m deep st i : Nat) (t : τ) (l : List gx_V) (s : σ), XL B C xm_s xm_s t l s (gs sy K V P (xl_c B) g f m deep st i (t, l)) (gs sy K V P C g f m deep st i s)
  | 0, _, _, _, _, t, l, s => XL_e _
  | f + 1, 0, deep, st, i, t, l, s => by
    have ih := gzs_L hB g f
    rw [gs, gs]
    split
    · exact XL_b (ih _ _ _ _ _ _ _) fun _ _ _ _ => ih _ _ _ _ _ _ _
    · exact XL_i (i, st)
  | f + 1, m + 1, deep, st, i, t, l, s => by
    have ih := gzs_L hB g f
    rw [gs, gs]
    · refine XL_C hB fun _ _ _ => XL_k fun j => ?_
      split
      · exact gze_let_L hB _ _ _ _ _ _ _
      split
      · refine XL_C hB fun _ _ _ => XL_b (gze_c_L hB _ _ _ _ _ _ _) fun b _ _ _ => XL_C hB fun _ _ _ => XL_k fun _ => XL_b (ih _ _ _ _ _ _ _) fun b2 _ _ _ => XL_k fun j2 => ?_
        split
        · exact XL_C hB fun _ _ _ => XL_k fun _ => XL_k fun _ => XL_b (ih _ _ _ _ _ _ _) fun b3 _ _ _ => XL_k fun j5 => XL_C hB fun _ _ _ => XL_i (j5, b3.2)
        · exact XL_C hB fun _ _ _ => XL_i (j2, b2.2)
      split
      · exact XL_C hB fun _ _ _ => XL_b (gze_c_L hB _ _ _ _ _ _ _) fun b _ _ _ => XL_C hB fun _ _ _ => XL_k fun _ => XL_b (ih _ _ _ _ _ _ _) fun b2 _ _ _ => XL_k fun j2 => XL_C hB fun _ _ _ => XL_i (j2, b2.2)
      split
      · exact gze_do_L hB _ _ _ _ _ _ _
      · exact gze_ret_L hB _ _ _ _ _ _ _
    all_goals (intro z; omega)
theorem gzx_type_L (hB : ∀ e t x, B e t = .inl x → 8 ≤ x.1) (i : Nat) (t : τ) (l : List gx_V) (s : σ) : XL B C xm_t xm_t t l s (gx_type sy K V P (xl_c B) i (t, l)) (gx_type sy K V P C i s) := XL_if (XL_C hB fun _ _ _ => XL_k fun j => XL_i j)
theorem gzp_decl_L (hB : ∀ e t x, B e t = .inl x → 8 ≤ x.1) (fd : Bool) : ∀ (f i n : Nat) (t : τ) (l : List gx_V) (s : σ), XL B C xm_s xm_s t l s (gp_decl sy K V P (xl_c B) fd f i n (t, l)) (gp_decl sy K V P C fd f i n s)
  | 0, _, _, t, l, s => XL_e _
  | f + 1, i, n, t, l, s => by
    unfold gp_decl
    refine XL_if (XL_if (XL_C hB fun _ _ _ => XL_k fun j => ?_))
    split
    · exact XL_k fun _ => gzp_decl_L hB fd f _ _ _ _ _
    · exact XL_k fun j2 => XL_i (j2, n + 1)
theorem gzp_varn_L (hB : ∀ e t x, B e t = .inl x → 8 ≤ x.1) : ∀ (f i n : Nat) (t : τ) (l : List gx_V) (s : σ), XL B C xm_s xm_s t l s (gp_varn sy K V P (xl_c B) f i n (t, l)) (gp_varn sy K V P C f i n s)
  | 0, _, _, t, l, s => XL_e _
  | f + 1, i, n, t, l, s => by
    unfold gp_varn
    refine XL_if (XL_if (XL_C hB fun _ _ _ => XL_k fun j => ?_))
    split
    · exact XL_k fun _ => gzp_varn_L hB f _ _ _ _ _
    · exact XL_k fun j2 => XL_i (j2, n + 1)
theorem gzp_vars_L (hB : ∀ e t x, B e t = .inl x → 8 ≤ x.1) (g : Nat) : ∀ (f i sn fn : Nat) (t : τ) (l : List gx_V) (s : σ), XL B C xm_v xm_v t l s (gp_vars sy K V P (xl_c B) g f i sn fn (t, l)) (gp_vars sy K V P C g f i sn fn s)
  | 0, _, _, _, t, l, s => XL_e _
  | f + 1, i, sn, fn, t, l, s => by
    unfold gp_vars
    split
    · exact XL_k fun _ => XL_b (gzx_type_L hB _ _ _ _) fun _ _ _ _ => XL_b (gzp_decl_L hB _ _ _ _ _ _ _) fun _ _ _ _ => gzp_vars_L hB g f _ _ _ _ _ _
    split
    · exact XL_k fun _ => XL_b (gzx_type_L hB _ _ _ _) fun _ _ _ _ => XL_b (gzp_decl_L hB _ _ _ _ _ _ _) fun _ _ _ _ => gzp_vars_L hB g f _ _ _ _ _ _
    · exact XL_i (i, sn, fn)
theorem gzp_pars_L (hB : ∀ e t x, B e t = .inl x → 8 ≤ x.1) : ∀ (f i n : Nat) (t : τ) (l : List gx_V) (s : σ), XL B C xm_t xm_t t l s (gp_pars sy K V P (xl_c B) f i n (t, l)) (gp_pars sy K V P C f i n s)
  | 0, _, _, t, l, s => XL_e _
  | f + 1, i, n, t, l, s => by
    unfold gp_pars
    split
    · exact XL_k fun j => XL_i j
    · exact XL_k fun _ => XL_b (gzx_type_L hB _ _ _ _) fun _ _ _ _ => XL_if (XL_if (XL_C hB fun _ _ _ => XL_k fun _ => gzp_pars_L hB f _ _ _ _ _))
theorem gzp_locs_L (hB : ∀ e t x, B e t = .inl x → 8 ≤ x.1) (g : Nat) : ∀ (f i n : Nat) (t : τ) (l : List gx_V) (s : σ), XL B C xm_t xm_t t l s (gp_locs sy K V P (xl_c B) g f i n (t, l)) (gp_locs sy K V P C g f i n s)
  | 0, _, _, t, l, s => XL_e _
  | f + 1, i, n, t, l, s => by
    unfold gp_locs
    split
    · exact XL_k fun _ => XL_b (gzx_type_L hB _ _ _ _) fun _ _ _ _ => XL_b (gzp_varn_L hB _ _ _ _ _ _) fun _ _ _ _ => gzp_locs_L hB g f _ _ _ _ _
    · exact XL_i i
theorem gzp_sub_L (hB : ∀ e t x, B e t = .inl x → 8 ≤ x.1) (g st i sn : Nat) (t : τ) (l : List gx_V) (s : σ) : XL B C xm_s xm_s t l s (gp_sub sy K V P (xl_c B) g st i sn (t, l)) (gp_sub sy K V P C g st i sn s) := by
  unfold gp_sub
  refine XL_C hB fun t1 l1 s1 => XL_k fun j => XL_b (m1 := xm_t) (m2 := xm_t) ?_ fun b _ _ _ => XL_if (XL_if (XL_C hB fun _ _ _ => XL_k fun _ => XL_C hB fun _ _ _ => XL_k fun _ => XL_b (gzp_pars_L hB _ _ _ _ _ _) fun b2 _ _ _ => XL_C hB fun _ _ _ => XL_k fun _ => XL_b (gzp_locs_L hB _ _ _ _ _ _ _) fun b3 _ _ _ => XL_C hB fun _ _ _ => XL_b (gzs_L hB _ _ _ _ _ _ _ _ _) fun b4 _ _ _ => XL_k fun j5 => XL_C hB fun _ _ _ => XL_i (j5, b4.2)))
  split
  · exact XL_k fun j1 => XL_i j1
  · exact gzx_type_L hB _ _ _ _
theorem gzp_subs_L (hB : ∀ e t x, B e t = .inl x → 8 ≤ x.1) (g : Nat) : ∀ (f st i sn : Nat) (t : τ) (l : List gx_V) (s : σ), XL B C xm_v xm_v t l s (gp_subs sy K V P (xl_c B) g f st i sn (t, l)) (gp_subs sy K V P C g f st i sn s)
  | 0, _, _, _, t, l, s => XL_e _
  | f + 1, st, i, sn, t, l, s => by
    unfold gp_subs
    split
    · exact XL_b (gzp_sub_L hB _ _ _ _ _ _ _) fun _ _ _ _ => gzp_subs_L hB g f _ _ _ _ _ _
    · exact XL_i (i, st, sn)
theorem gzp_class_L (hB : ∀ e t x, B e t = .inl x → 8 ≤ x.1) (g st i cn vn sn : Nat) (t : τ) (l : List gx_V) (s : σ) : XL B C xm_c xm_c t l s (gp_class sy K V P (xl_c B) g st i cn vn sn (t, l)) (gp_class sy K V P C g st i cn vn sn s) :=
  XL_C hB fun _ _ _ => XL_k fun _ => XL_if (XL_if (XL_C hB fun _ _ _ => XL_k fun _ => XL_k fun _ => XL_C hB fun _ _ _ => XL_b (gzp_vars_L hB _ _ _ _ _ _ _ _) fun b _ _ _ => XL_C hB fun _ _ _ => XL_b (gzp_subs_L hB _ _ _ _ _ _ _ _) fun b2 _ _ _ => XL_k fun j3 => XL_i (j3, b2.2.1, b.2.1, b2.2.2)))
theorem gzp_classes_L (hB : ∀ e t x, B e t = .inl x → 8 ≤ x.1) (g : Nat) : ∀ (f st i cn vn sn : Nat) (t : τ) (l : List gx_V) (s : σ), XL B C xm_0 xm_0 t l s (gp_classes sy K V P (xl_c B) g f st i cn vn sn (t, l)) (gp_classes sy K V P C g f st i cn vn sn s)
  | 0, _, _, _, _, _, t, l, s => XL_e _
  | f + 1, st, i, cn, vn, sn, t, l, s => by
    unfold gp_classes
    split
    · exact XL_i ()
    · exact XL_b (gzp_class_L hB _ _ _ _ _ _ _ _ _) fun _ _ _ _ => gzp_classes_L hB g f _ _ _ _ _ _ _ _
theorem gzp_L (hB : ∀ e t x, B e t = .inl x → 8 ≤ x.1) (g : Nat) (t : τ) (l : List gx_V) (s : σ) : XL B C xm_0 xm_0 t l s (gp sy K V P (xl_c B) g (t, l)) (gp sy K V P C g s) := XL_if (gzp_classes_L hB _ _ _ _ _ _ _ _ _ _)
end
