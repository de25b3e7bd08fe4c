/-! PURE LAYER, 104: the notes that an event adds -/
/-- notes of the entries that an event adds -/
def nE (K P V sc ss : Nat → Int) (h g : am_H) (n : Nat) : List (Int × Int) := match n with
  | 4 => nt_i P V h (g 254 33).toNat
  | 6 => nt_i P V h (g 254 33).toNat
  | 22 => nt_i P V h (g 254 33).toNat
  | 11 => nt_k K P V sc ss h (g 254 39).toNat
  | 40 => nt_c P V sc h (g 254 14).toNat
  | 42 => nt_v K P V sc h (g 254 25).toNat
  | 46 => nt_v K P V sc h (g 254 25).toNat
  | 50 => nt_v K P V sc h (g 254 25).toNat
  | 45 => nt_s K P V sc h (g 254 17).toNat
  | _ => []
def DB (K P V sc ss : Nat → Int) (h g : am_H) (l : List (Int × Int)) (x : am_H) : Prop := mx x h → BN K P V sc ss h g x l ∧ 0 ≤ x 254 33
section
variable {K P V sc ss : Nat → Int} {h g x : am_H} {l : List (Int × Int)}
theorem DB.refl (h33 : 0 ≤ g 254 33) : DB K P V sc ss h g [] g := fun _ => ⟨BN.refl g, h33⟩
theorem DB.put0 (D : DB K P V sc ss h g l x) (k a b t : Int) (hk : k ≠ 3 ∧ k ≠ 4 ∧ k ≠ 13) : DB K P V sc ss h g l (mi_put k a b t x) := fun m => by
  obtain ⟨B, p⟩ := D ((mx_put k a b t x).trans m)
  exact ⟨B.put0 p k a b t hk m, by rw [mi_put_33]; omega⟩
theorem DB.add0 (D : DB K P V sc ss h g l x) (k a b t : Int) (hk : k ≠ 3 ∧ k ≠ 4 ∧ k ≠ 13) : gx_P (mi_add k a b t x) (DB K P V sc ss h g l) := gx_P_q fun _ => gx_P_i (D.put0 k a b t hk)
theorem DB.put (h33 : 0 ≤ g 254 33) (k a b t : Int) : DB K P V sc ss h g (nt_i P V h (g 254 33).toNat) (mi_put k a b t g) := fun m => ⟨(BN.refl g).put h33 k a b t, by rw [mi_put_33]; omega⟩
theorem DB.addi (h33 : 0 ≤ g 254 33) (k a b t : Int) : gx_P (mi_add k a b t g) (DB K P V sc ss h g (nt_i P V h (g 254 33).toNat)) := gx_P_q fun _ => gx_P_i (DB.put h33 k a b t)
theorem DB.n (D : DB K P V sc ss h g l x) {a k : Nat} {v : Int} (ha : a ≠ 254) (hc : mx_c a = none) : DB K P V sc ss h g l (am_up x a k v) := fun m => by
  obtain ⟨B, p⟩ := D (((mx.refl x).n ha hc).trans m)
  exact ⟨B.up ha, by rw [p_up_c _ _ _ _ _ (Ne.symm ha)]; exact p⟩
theorem DB.f (D : DB K P V sc ss h g l x) {k : Nat} {v : Int} (hk : ¬ mx_k k) : DB K P V sc ss h g l (am_up x 254 k v) := fun m => by
  obtain ⟨B, p⟩ := D (((mx.refl x).upf (fun z => absurd z hk)).trans m)
  exact ⟨B.upf hk, by rw [p_up_n _ _ _ _ _ _ (Or.inr (fun z => hk (by unfold mx_k; omega)))]; exact p⟩
theorem DB.blk (D : DB K P V sc ss h g l x) (k : Nat) (a b c e : Int) : DB K P V sc ss h g l (mi_blk k a b c e x) := ((((D.n (by decide) rfl).n (by decide) rfl).n (by decide) rfl).n (by decide) rfl).f (by unfold mx_k; omega)
theorem DB.hh {s : mi_S} {r : gx_R am_H} (H : gx_P r (DB K P V sc ss h s.1 l)) : gx_P (mi_h s r) (fun s1 => DB K P V sc ss h s.1 l s1.1) := gx_P_b fun a e => gx_P_i (H a e)
theorem DB.call (h39 : 0 ≤ g 254 39) (h33 : 0 ≤ g 254 33) (a b : Int) : DB K P V sc ss h g (nt_k K P V sc ss h (g 254 39).toNat) (mi_call a b g) := fun m => by
  have e : mi_call a b g 254 39 = g 254 39 + 1 := by
    unfold mi_call
    rw [p_up_c _ _ _ _ _ (by decide), p_up_c _ _ _ _ _ (by decide), p_up_c _ _ _ _ _ (by decide), p_up_c _ _ _ _ _ (by decide), p_up_s]
  have e2 : ∀ c, c ≠ 39 → mi_call a b g 254 c = g 254 c := fun c hc => by
    unfold mi_call
    rw [p_up_c _ _ _ _ _ (by decide), p_up_c _ _ _ _ _ (by decide), p_up_c _ _ _ _ _ (by decide), p_up_c _ _ _ _ _ (by decide), p_up_n _ _ _ _ _ _ (Or.inr hc)]
  exact ⟨(BN.refl g).kall h39 e (fun c _ hc => e2 c hc), by rw [e2 33 (by decide)]; exact h33⟩
theorem mi_dec_f (x1 x2 x3 x4 x5 x6 : Int) (g : am_H) (c : Nat) (hc : c ≠ 25) : mi_dec x1 x2 x3 x4 x5 x6 g 254 c = g 254 c := by
  unfold mi_dec
  rw [p_up_n _ _ _ _ _ _ (Or.inr hc), p_up_c _ _ _ _ _ (by decide), p_up_c _ _ _ _ _ (by decide), p_up_c _ _ _ _ _ (by decide), p_up_c _ _ _ _ _ (by decide), p_up_c _ _ _ _ _ (by decide), p_up_c _ _ _ _ _ (by decide), p_up_c _ _ _ _ _ (by decide)]
theorem DB.dec (h25 : 0 ≤ g 254 25) (h33 : 0 ≤ g 254 33) (x1 x2 x3 x4 x5 x6 : Int) : DB K P V sc ss h g (nt_v K P V sc h (g 254 25).toNat) (mi_dec x1 x2 x3 x4 x5 x6 g) := fun m =>
  ⟨(BN.refl g).vari h25 (by unfold mi_dec; rw [p_up_s]) (fun c _ hc => mi_dec_f _ _ _ _ _ _ g c hc), by rw [mi_dec_f _ _ _ _ _ _ g 33 (by decide)]; exact h33⟩
/-- every event -/
theorem BN_ev {e : gx_V} {s s' : mi_S} (hm : mi V e s = .inr s') (M : mx s'.1 h) (hp : ∀ c, mx_k c → 0 ≤ s.1 254 c) : BN K P V sc ss h s.1 s'.1 (nE K P V sc ss h s.1 e.1) := by
  refine (show DB K P V sc ss h s.1 (nE K P V sc ss h s.1 e.1) s'.1 from ?_) M |>.1
  have h33 : 0 ≤ s.1 254 33 := hp 33 (by unfold mx_k; omega)
  have h39 : 0 ≤ s.1 254 39 := hp 39 (by unfold mx_k; omega)
  have h25 : 0 ≤ s.1 254 25 := hp 25 (by unfold mx_k; omega)
  have h17 : 0 ≤ s.1 254 17 := hp 17 (by unfold mx_k; omega)
  have h14 : 0 ≤ s.1 254 14 := hp 14 (by unfold mx_k; omega)
  obtain ⟨g, ty, so, bs, oc⟩ := s
  obtain ⟨n, a, b, c⟩ := e
  dsimp only at h33 h39 h25 h17 h14
  have D0 : DB K P V sc ss h g [] g := DB.refl h33
  have two : ∀ (k a b t k2 a2 b2 t2 : Int), (k ≠ 3 ∧ k ≠ 4 ∧ k ≠ 13) → (k2 ≠ 3 ∧ k2 ≠ 4 ∧ k2 ≠ 13) → gx_P (gx_b (mi_add k a b t g) (mi_add k2 a2 b2 t2)) (DB K P V sc ss h g []) := fun k a b t k2 a2 b2 t2 z1 z2 => gx_P_b fun g1 e1 => (D0.add0 k a b t z1 g1 e1).add0 k2 a2 b2 t2 z2
  show DB K P V sc ss h g (nE K P V sc ss h g n) s'.1
  unfold mi at hm
  dsimp only at hm
  split at hm
  · exact DB.hh (s := (g, ty, so, bs, oc)) (D0.add0 _ _ _ _ (by decide)) s' hm
  · exact DB.hh (s := (g, ty, so, bs, oc)) (D0.add0 _ _ _ _ (by decide)) s' hm
  · exact DB.hh (s := (g, ty, so, bs, oc)) (D0.add0 _ _ _ _ (by decide)) s' hm
  · exact DB.hh (s := (g, ty, so, bs, oc)) (DB.addi h33 _ _ _ _) s' hm
  · exact DB.hh (s := (g, ty, so, bs, oc)) (D0.add0 _ _ _ _ (by decide)) s' hm
  · exact DB.hh (s := (g, ty, so, bs, oc)) (DB.addi h33 _ _ _ _) s' hm
  · exact DB.hh (s := (g, ty, so, bs, oc)) (D0.add0 _ _ _ _ (by decide)) s' hm
  · exact DB.hh (s := (g, ty, so, bs, oc)) (D0.add0 _ _ _ _ (by decide)) s' hm
  · exact DB.hh (s := (g, ty, so, bs, oc)) (D0.add0 _ _ _ _ (by decide)) s' hm
  · exact DB.hh (s := (g, ty, so, bs, oc)) (D0.add0 _ _ _ _ (by decide)) s' hm
  · exact (show gx_P (ce_q (g 254 39 < 990) (gx_b (mi_add 9 (g 254 39) 0 0 (mi_call (if c = 1 then a else -1) b g)) fun g1 => (.inr (g1, ty, so, bs, g 254 39 :: oc) : gx_R mi_S))) (fun s1 => DB K P V sc ss h g (nt_k K P V sc ss h (g 254 39).toNat) s1.1) from gx_P_q fun _ => gx_P_b fun g1 e1 => gx_P_i ((DB.call h39 h33 _ _).add0 _ _ _ _ (by decide) g1 e1)) s' hm
  · cases oc with
    | nil => cases hm
    | cons x l => exact (show gx_P (gx_b (mi_add 10 x 0 0 (am_up g 284 x.toNat c)) fun g1 => (.inr (g1, ty, so, bs, l) : gx_R mi_S)) (fun s1 => DB K P V sc ss h g [] s1.1) from gx_P_b fun g1 e1 => gx_P_i ((D0.n (by decide) rfl).add0 _ _ _ _ (by decide) g1 e1)) s' hm
  · exact DB.hh (s := (g, ty, so, bs, oc)) (D0.add0 _ _ _ _ (by decide)) s' hm
  · cases hm; exact D0
  · exact DB.hh (s := (g, ty, so, bs, oc)) (gx_P_b fun g1 e1 => (DB.addi h33 _ _ _ _ g1 e1).add0 _ _ _ _ (by decide)) s' hm
  · exact DB.hh (s := (g, ty, so, bs, oc)) (two _ _ _ _ _ _ _ _ (by decide) (by decide)) s' hm
  · exact (show gx_P (ce_q (0 ≤ g 254 50 ∧ g 254 50 < 99990) (.inr (am_up g 254 50 (g 254 50 + 2), ty, so, (1, g 254 50, 0, g 254 33) :: bs, oc) : gx_R mi_S)) (fun s1 => DB K P V sc ss h g [] s1.1) from gx_P_q fun _ => gx_P_i (D0.f (by unfold mx_k; omega))) s' hm
  · cases bs with
    | nil => cases hm
    | cons b l => exact (show gx_P (ce_q (l.length < 40) (gx_b (mi_add 15 0 b.2.1 0 g) fun g1 => (.inr (mi_blk l.length 1 b.2.1 (g 254 33) b.2.2.2 g1, ty, so, (1, b.2.1, g 254 33, b.2.2.2) :: l, oc) : gx_R mi_S))) (fun s1 => DB K P V sc ss h g [] s1.1) from gx_P_q fun _ => gx_P_b fun g1 e1 => gx_P_i ((D0.add0 _ _ _ _ (by decide) g1 e1).blk _ _ _ _ _)) s' hm
  · cases bs with
    | nil => cases hm
    | cons b l => exact (show gx_P (gx_b (mi_add 16 0 (b.2.1 + 1) 0 (am_up g 254 55 (l.length : Int))) fun g1 => gx_b (mi_add 20 b.2.1 0 0 g1) fun g2 => (.inr (mi_blk l.length 2 b.2.1 (g 254 33) 0 (am_up g2 278 b.2.2.1.toNat (g1 254 33)), ty, so, (2, b.2.1, g 254 33, 0) :: l, oc) : gx_R mi_S)) (fun s1 => DB K P V sc ss h g [] s1.1) from gx_P_b fun g1 e1 => gx_P_b fun g2 e2 => gx_P_i ((((D0.f (by unfold mx_k; omega)).add0 _ _ _ _ (by decide) g1 e1).add0 _ _ _ _ (by decide) g2 e2 |>.n (by decide) rfl).blk _ _ _ _ _)) s' hm
  · cases bs with
    | nil => cases hm
    | cons b l => exact (show gx_P (gx_b (mi_add 20 b.2.1 0 0 (am_up g 254 55 (l.length : Int))) fun g1 => gx_b (mi_add 12 0 0 0 (am_up g1 278 b.2.2.1.toNat (g 254 33))) fun g2 => (.inr (g2, ty, so, l, oc) : gx_R mi_S)) (fun s1 => DB K P V sc ss h g [] s1.1) from gx_P_b fun g1 e1 => gx_P_b fun g2 e2 => gx_P_i (((D0.f (by unfold mx_k; omega)).add0 _ _ _ _ (by decide) g1 e1 |>.n (by decide) rfl).add0 _ _ _ _ (by decide) g2 e2)) s' hm
  · cases bs with
    | nil => cases hm
    | cons b l => exact (show gx_P (gx_b (mi_add 20 (b.2.1 + 1) 0 0 (am_up g 254 55 (l.length : Int))) fun g1 => gx_b (mi_add 12 0 0 0 (am_up g1 278 b.2.2.1.toNat (g 254 33))) fun g2 => (.inr (g2, ty, so, l, oc) : gx_R mi_S)) (fun s1 => DB K P V sc ss h g [] s1.1) from gx_P_b fun g1 e1 => gx_P_b fun g2 e2 => gx_P_i (((D0.f (by unfold mx_k; omega)).add0 _ _ _ _ (by decide) g1 e1 |>.n (by decide) rfl).add0 _ _ _ _ (by decide) g2 e2)) s' hm
  · exact (show gx_P (ce_q (0 ≤ g 254 50 ∧ g 254 50 < 99990) (gx_b (mi_add 20 (g 254 50) 0 0 (am_up g 254 50 (g 254 50 + 2))) fun g1 => gx_b (mi_add 17 0 0 0 g1) fun g2 => (.inr (g2, ty, so, (3, g 254 50, 0, g 254 33) :: bs, oc) : gx_R mi_S))) (fun s1 => DB K P V sc ss h g [] s1.1) from gx_P_q fun _ => gx_P_b fun g1 e1 => gx_P_b fun g2 e2 => gx_P_i (((D0.f (by unfold mx_k; omega)).add0 _ _ _ _ (by decide) g1 e1).add0 _ _ _ _ (by decide) g2 e2)) s' hm
  · cases bs with
    | nil => cases hm
    | cons b l => exact (show gx_P (ce_q (l.length < 40) (gx_b (mi_add 15 0 (b.2.1 + 1) 0 g) fun g1 => (.inr (mi_blk l.length 3 b.2.1 (g 254 33) b.2.2.2 g1, ty, so, (3, b.2.1, g 254 33, b.2.2.2) :: l, oc) : gx_R mi_S))) (fun s1 => DB K P V sc ss h g [] s1.1) from gx_P_q fun _ => gx_P_b fun g1 e1 => gx_P_i ((D0.add0 _ _ _ _ (by decide) g1 e1).blk _ _ _ _ _)) s' hm
  · cases bs with
    | nil => cases hm
    | cons b l => exact (show gx_P (gx_b (mi_add 16 b.2.2.2 b.2.1 0 (am_up g 254 55 (l.length : Int))) fun g1 => gx_b (mi_add 20 (b.2.1 + 1) 0 0 g1) fun g2 => gx_b (mi_add 12 0 0 0 (am_up g2 278 b.2.2.1.toNat (g1 254 33))) fun g3 => (.inr (g3, ty, so, l, oc) : gx_R mi_S)) (fun s1 => DB K P V sc ss h g [] s1.1) from gx_P_b fun g1 e1 => gx_P_b fun g2 e2 => gx_P_b fun g3 e3 => gx_P_i ((((D0.f (by unfold mx_k; omega)).add0 _ _ _ _ (by decide) g1 e1).add0 _ _ _ _ (by decide) g2 e2 |>.n (by decide) rfl).add0 _ _ _ _ (by decide) g3 e3)) s' hm
  · exact DB.hh (s := (g, ty, so, bs, oc)) (D0.add0 _ _ _ _ (by decide)) s' hm
  · exact DB.hh (s := (g, ty, so, bs, oc)) (two _ _ _ _ _ _ _ _ (by decide) (by decide)) s' hm
  · cases hm; exact D0
  · cases hm; exact D0
  · cases hm
    dsimp only
    refine fun m => ⟨?_, ?_⟩
    · refine (BN.refl g).clas h14 ?_ (fun c hc1 hc => ?_)
      · rw [p_up_n _ _ _ _ _ _ (Or.inr (by decide)), p_up_s]
      · rw [p_up_n _ _ _ _ _ _ (Or.inr (by unfold mx_k at hc1; omega)), p_up_n _ _ _ _ _ _ (Or.inr hc), p_up_c _ _ _ _ _ (by decide), p_up_c _ _ _ _ _ (by decide)]
    · rw [p_up_n _ _ _ _ _ _ (Or.inr (by decide)), p_up_n _ _ _ _ _ _ (Or.inr (by decide)), p_up_c _ _ _ _ _ (by decide), p_up_c _ _ _ _ _ (by decide)]; exact h33
  · cases hm; exact D0
  · unfold ce_q at hm
    split at hm
    · split at hm
      · cases hm; exact (DB.dec h25 h33 _ _ _ _ _ _).n (by decide) rfl
      · cases hm; exact ((DB.dec h25 h33 _ _ _ _ _ _).f (by unfold mx_k; omega)).f (by unfold mx_k; omega)
    · cases hm
  · cases hm; exact D0
  · cases hm; exact D0
  · cases hm
    dsimp only
    refine fun m => ⟨?_, ?_⟩
    · refine (BN.refl g).subr h17 ?_ (fun c hc1 hc => ?_)
      · rw [p_up_n _ _ _ _ _ _ (Or.inr (by decide)), p_up_s]
      · rw [p_up_n _ _ _ _ _ _ (Or.inr (by unfold mx_k at hc1; omega)), p_up_n _ _ _ _ _ _ (Or.inr hc), p_up_c _ _ _ _ _ (by decide), p_up_c _ _ _ _ _ (by decide), p_up_c _ _ _ _ _ (by decide), p_up_c _ _ _ _ _ (by decide), p_up_c _ _ _ _ _ (by decide), p_up_c _ _ _ _ _ (by decide), p_up_c _ _ _ _ _ (by decide)]
    · rw [p_up_n _ _ _ _ _ _ (Or.inr (by decide)), p_up_n _ _ _ _ _ _ (Or.inr (by decide)), p_up_c _ _ _ _ _ (by decide), p_up_c _ _ _ _ _ (by decide), p_up_c _ _ _ _ _ (by decide), p_up_c _ _ _ _ _ (by decide), p_up_c _ _ _ _ _ (by decide), p_up_c _ _ _ _ _ (by decide), p_up_c _ _ _ _ _ (by decide)]; exact h33
  · cases hm; exact D0
  · unfold ce_q at hm
    split at hm
    · cases hm; exact (DB.dec h25 h33 _ _ _ _ _ _).n (by decide) rfl
    · cases hm
  · cases hm; exact D0
  · unfold ce_q at hm
    split at hm
    · cases hm; exact (DB.dec h25 h33 _ _ _ _ _ _).n (by decide) rfl
    · cases hm
  · cases hm; exact (D0.n (by decide) rfl).f (by unfold mx_k; omega)
  · exact DB.hh (s := (g, ty, so, bs, oc)) (two _ _ _ _ _ _ _ _ (by decide) (by decide)) s' hm
  · cases hm
end
