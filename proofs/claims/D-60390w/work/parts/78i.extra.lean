/-! PURE LAYER, 140: more that stands at every event: fresh items, where jumps lead, how many words -/
/-- behind BEGIN or ASK, with no DONE and no LABEL between -/
def frn (x : Int) (b : Bool) : Bool := if x = 11 ∨ x = 17 then true else if x = 12 ∨ x = 20 then false else b
def frs (S : am_H) : Nat → Bool
  | 0 => false
  | k + 1 => frn (S 277 k) (frs S k)
def frd (x : Int) : Bool := decide (x = 1 ∨ (3 ≤ x ∧ x ≤ 10) ∨ x = 13 ∨ x = 14 ∨ x = 19)
def frl (b : Bool) : List (Int × Int × Int × Int) → Bool
  | [] => b
  | r :: l => frl (frn r.1 b) l
def frk (b : Bool) : List (Int × Int × Int × Int) → Bool
  | [] => true
  | r :: l => (!(frd r.1) || b) && frk (frn r.1 b) l
theorem frl_at {S : am_H} : ∀ {l : List (Int × Int × Int × Int)} {n : Nat}, (∀ j r, l[j]? = some r → S 277 (n + j) = r.1) → frk (frs S n) l = true → frs S (n + l.length) = frl (frs S n) l ∧ ∀ j, j < l.length → frd (S 277 (n + j)) = true → frs S (n + j) = true
  | [], n, _, _ => ⟨rfl, fun j hj => absurd hj (Nat.not_lt_zero j)⟩
  | r :: l, n, h, k => by
    have h0 := h 0 r rfl
    rw [Nat.add_zero] at h0
    have k' := Bool.and_eq_true_iff.1 (show ((!(frd r.1) || frs S n) && frk (frn r.1 (frs S n)) l) = true from k)
    have e1 : frs S (n + 1) = frn r.1 (frs S n) := by show frn (S 277 n) (frs S n) = _; rw [h0]
    obtain ⟨i1, i2⟩ := frl_at (S := S) (l := l) (n := n + 1) (fun j x hj => by rw [show n + 1 + j = n + (j + 1) by omega]; exact h (j + 1) x hj) (by rw [e1]; exact k'.2)
    refine ⟨?_, fun j hj hd => ?_⟩
    · rw [List.length_cons, show n + (l.length + 1) = n + 1 + l.length by omega, i1, e1]; rfl
    · cases j with
      | zero =>
        rw [Nat.add_zero] at hd ⊢
        rw [h0] at hd
        have := k'.1
        rw [hd] at this
        exact this
      | succ j =>
        rw [show n + (j + 1) = n + 1 + j by omega] at hd ⊢
        exact i2 j (by rw [List.length_cons] at hj; omega) hd
def FR (S : am_H) (p : pr_S) (s : mi_S) : Prop := (p.1 9 = 6 → p.1 16 = 1 → frs S (s.1 254 33).toNat = true) ∧ ∀ k : Nat, (k : Int) < s.1 254 33 → frd (S 277 k) = true → frs S k = true
/-- where jumps lead -/
def jb (S : am_H) (u : Int) : List Nat → List (Int × Int × Int × Int) → Prop
  | z :: pl, b :: bs => (z = 3 ∨ z = 4 → S 277 (b.2.2.2.toNat + 1) = 17 ∧ S 281 b.2.2.2.toNat = u) ∧ jb S u pl bs
  | _, _ => True
def JD (S : am_H) (p : pr_S) (s : mi_S) : Prop := (jb S ((p.1 3 : Int) - 1) p.2.1 s.2.2.2.1 ∧ ∀ k ∈ hol p.2.1 s.2.2.2.1, S 281 k = (p.1 3 : Int) - 1) ∧ ∀ k : Nat, (k : Int) < s.1 254 33 → S 277 k = 15 ∨ S 277 k = 16 → k ∈ hol p.2.1 s.2.2.2.1 ∨ ((k : Int) < S 278 k ∨ S 277 k = 16 ∧ S 277 ((S 278 k).toNat + 1) = 17) ∧ S 281 (S 278 k).toNat = S 281 k
section
variable {K P V : Nat → Int} {pE : pr_S} {S : mi_S} {e : gx_V} {es : List gx_V} {p p1 : pr_S} {s s1 : mi_S} {c c1 : ce_S}
theorem FR_ev (B : bd K V pE S (e :: es) p s c) (hp : pr pw K V e p = .inr p1) (hm : mi V e s = .inr s1) (B1 : bd K V pE S es p1 s1 c1) (M1 : mx s1.1 S.1) (Y1 : my s1.1 S.1) (H : FR S.1 p s) : FR S.1 p1 s1 := by
  have h33 : 0 ≤ s.1 254 33 := B.2.1.1.1.2.2.2.1.1
  by_cases he : e.1 ≤ 34 ∨ e.1 = 49
  · have il := ie_len h33 he B hp hm B1
    have E := fun (j : Nat) (r : Int × Int × Int × Int) (h : (ie e s)[j]? = some r) => (ie_end he hp hm B.2.1.1 B.2.2.1 M1 Y1 h).1
    have key : frk (frs S.1 (s.1 254 33).toNat) (ie e s) = true ∧ (p1.1 9 = 6 → p1.1 16 = 1 → frl (frs S.1 (s.1 254 33).toNat) (ie e s) = true) := by
      have H6 := H.1
      clear E il M1 Y1 B B1 hm H
      obtain ⟨n, x, y, z⟩ := e
      have hp' := hp
      unfold pr at hp'
      split at hp'
      all_goals first
        | (cases hp'; done)
        | (rename_i hn; have hn : n = _ := hn; subst hn)
      all_goals first
        | (exfalso; revert he; dsimp only; omega)
        | skip
      case h_12 =>
        cases hq : p.2.2.1 with
        | nil => rw [hq] at hp'; cases hp'
        | cons o l =>
          rw [hq] at hp'
          obtain ⟨cc, -, q⟩ := pr_q_in hp'
          have b := H6 cc.1.1 cc.1.2
          rw [b]; exact ⟨rfl, fun _ _ => rfl⟩
      all_goals
        obtain ⟨cc, -, q⟩ := pr_q_in hp'
        first
        | (have b := H6 cc.1.1 cc.1.2; rw [b]; exact ⟨rfl, fun _ w => (by first | rfl | (rw [q] at w; cases w))⟩)
        | (refine ⟨(by cases frs S.1 (s.1 254 33).toNat <;> rfl), fun w9 w => ?_⟩
           first
           | rfl
           | (exfalso; rw [q] at w; have w : p.1 16 = 1 := w; have := cc.2.2.2.2; omega)
           | (exfalso; rw [q] at w9; cases w9))
    obtain ⟨k1, k2⟩ := frl_at E key.1
    refine ⟨fun w9 w => ?_, it_all B hp hm B1 H.2 (fun j r hr hd => ?_)⟩
    · rw [show (s1.1 254 33).toNat = (s.1 254 33).toNat + (ie e s).length by omega, k1]
      exact key.2 w9 w
    · exact k2 j (List.getElem?_eq_some_iff.1 hr).1 hd
  · rcases hq_ev B hp hm B1 with ⟨w, -⟩ | ⟨w0, w1, w2, -⟩ | ⟨⟨w0, w1, w2⟩, w3, w4⟩
    · exact absurd w he
    · refine ⟨fun w9 w => ?_, fun k hk => ?_⟩
      · exfalso
        obtain ⟨n, x, y, z⟩ := e
        dsimp only at w0
        subst w0
        obtain ⟨cc, -, q⟩ := pr_q_in hp
        rw [q] at w; cases w
      · rw [w2] at hk; exact H.2 k hk
    · refine ⟨fun w9 w => ?_, fun k hk => ?_⟩
      · exact absurd ((pr_decl w2 hp).2.2.1 w9) w0
      · rw [w4] at hk; exact H.2 k hk
theorem JD_ev (B : bd K V pE S (e :: es) p s c) (hp : pr pw K V e p = .inr p1) (hm : mi V e s = .inr s1) (B1 : bd K V pE S es p1 s1 c1) (M1 : mx s1.1 S.1) (Y1 : my s1.1 S.1) (HH : HS p s) (hb0 : p.1 9 ≠ 6 → p.2.1 = []) (H : JD S.1 p s) : JD S.1 p1 s1 := by
  have h33 : 0 ≤ s.1 254 33 := B.2.1.1.1.2.2.2.1.1
  have lt := B.2.2.1.hol_lt
  by_cases he : e.1 ≤ 34 ∨ e.1 = 49
  · have il := ie_len h33 he B hp hm B1
    have E := fun (j : Nat) (r : Int × Int × Int × Int) (h : (ie e s)[j]? = some r) => (ie_end he hp hm B.2.1.1 B.2.2.1 M1 Y1 h).1
    have E5 := fun (j : Nat) (r : Int × Int × Int × Int) (h : (ie e s)[j]? = some r) => (ie_end he hp hm B.2.1.1 B.2.2.1 M1 Y1 h).2.2.2.2
    have e3 : p1.1 3 = p.1 3 := by
      rcases he with he | he
      · exact pz_ev he hp 3 (by decide)
      · obtain ⟨n, x, y, z⟩ := e
        dsimp only at he
        subst he
        obtain ⟨cc, -, q⟩ := pr_q_in hp
        rw [q]; rfl
    have cl := close_ev B hp hm B1 HH
    have ep := (pe_ev hp).1
    have ex := (pe_ev hp).2
    have eb := be_ev hm
    by_cases pn : pnx e.1
    · rw [pe_n pn] at ep
      rw [be_n pn] at eb
      refine ⟨by rw [ep, eb, e3]; exact H.1, it_all B hp hm B1 (fun k hk hk2 => by rw [ep, eb]; exact H.2 k hk hk2) (fun j r hr hk2 => ?_)⟩
      exfalso
      have a1 := E j r hr
      have := ie_kind pn _ (List.mem_of_getElem? hr)
      omega
    · -- jumps and labels
      have fin : ∀ (pl : List Nat) (bs : List (Int × Int × Int × Int)), p1.2.1 = pl → s1.2.2.2.1 = bs → jb S.1 ((p.1 3 : Int) - 1) pl bs → (∀ k ∈ hol pl bs, k ∈ hol p.2.1 s.2.2.2.1 ∨ ∃ j, k = (s.1 254 33).toNat + j ∧ j < (ie e s).length) → (∀ k ∈ hol p.2.1 s.2.2.2.1, k ∈ hol pl bs ∨ (k : Int) < S.1 278 k ∧ ∃ j, (S.1 278 k).toNat = (s.1 254 33).toNat + j ∧ j < (ie e s).length) → (∀ j r, (ie e s)[j]? = some r → r.1 = 15 ∨ r.1 = 16 → (s.1 254 33).toNat + j ∈ hol pl bs ∨ (S.1 277 ((s.1 254 33).toNat + j) = 16 ∧ S.1 277 ((S.1 278 ((s.1 254 33).toNat + j)).toNat + 1) = 17 ∧ S.1 281 (S.1 278 ((s.1 254 33).toNat + j)).toNat = (p.1 3 : Int) - 1)) → JD S.1 p1 s1 := by
        intro pl bs q1 q2 q3 q3' q4 q5
        have new : ∀ j, j < (ie e s).length → S.1 281 ((s.1 254 33).toNat + j) = (p.1 3 : Int) - 1 := fun j hj => E5 j _ (List.getElem?_eq_getElem hj)
        refine ⟨⟨by rw [q1, q2, e3]; exact q3, fun k hk => ?_⟩, it_all B hp hm B1 (fun k hk hk2 => ?_) (fun j r hr hk2 => ?_)⟩
        · rw [q1, q2] at hk
          rw [e3]
          rcases q3' k hk with z | ⟨j, z1, z2⟩
          · exact H.1.2 k z
          · rw [z1]; exact new j z2
        · rw [q1, q2]
          rcases H.2 k hk hk2 with z | z
          · rcases q4 k z with w | ⟨w1, j, w2, w3⟩
            · exact Or.inl w
            · exact Or.inr ⟨Or.inl w1, by rw [w2, new j w3]; exact (H.1.2 k z).symm⟩
          · exact Or.inr z
        · rw [q1, q2]
          rw [E j r hr] at hk2
          rcases q5 j r hr hk2 with z | ⟨z1, z2, z3⟩
          · exact Or.inl z
          · exact Or.inr ⟨Or.inr ⟨z1, z2⟩, by rw [z3]; exact (E5 j r hr).symm⟩
      have Hb := H.1.1
      have bw0 := B.2.2.1
      clear B B1 M1 Y1 H
      have n8 : e.1 = 24 ∨ e.1 = 25 ∨ e.1 = 26 ∨ e.1 = 27 ∨ e.1 = 28 ∨ e.1 = 30 ∨ e.1 = 31 ∨ e.1 = 32 := by unfold pnx at pn; omega
      obtain ⟨n, x, y, z⟩ := e
      have hd : ∀ z : Nat, ph n = some z → ∃ pl b bs, p.2.1 = z :: pl ∧ s.2.2.2.1 = b :: bs := by
        intro z hz
        obtain ⟨pl, h1⟩ := ex z hz
        rw [h1] at bw0
        cases h2 : s.2.2.2.1 with
        | nil => rw [h2] at bw0; exact bw0.elim
        | cons b bs => exact ⟨pl, b, bs, h1, rfl⟩
      dsimp only at n8
      rcases n8 with h | h | h | h | h | h | h | h
      · subst h
        have ep : p1.2.1 = 0 :: p.2.1 := ep
        have eb : s1.2.2.2.1 = (1, s.1 254 50, 0, s.1 254 33) :: s.2.2.2.1 := eb
        exact fin _ _ ep eb ⟨fun w => (by rcases w with w | w <;> cases w), Hb⟩ (fun k hk => Or.inl hk) (fun k hk => Or.inl hk) (fun j r hr => by cases hr)
      · subst h
        obtain ⟨pl, b, bs, h1, h2⟩ := hd 0 rfl
        have ep : p1.2.1 = 1 :: p.2.1.tail := ep
        have eb : s1.2.2.2.1 = (1, (s.2.2.2.1.headD (0, 0, 0, 0)).2.1, s.1 254 33, (s.2.2.2.1.headD (0, 0, 0, 0)).2.2.2) :: s.2.2.2.1.tail := eb
        rw [h1] at ep Hb
        rw [h2] at eb Hb
        refine fin (1 :: pl) _ ep eb ⟨fun w => (by rcases w with w | w <;> cases w), Hb.2⟩ (fun k hk => ?_) (fun k hk => Or.inl ?_) (fun j r hr _ => Or.inl ?_)
        · rcases List.mem_cons.1 hk with rfl | hk
          · exact Or.inr ⟨0, rfl, by show 0 < 1; decide⟩
          · left; rw [h1, h2]; exact hk
        · rw [h1, h2] at hk
          exact List.mem_cons_of_mem _ hk
        · have : j = 0 := by
            have := (List.getElem?_eq_some_iff.1 hr).1
            have : j < 1 := this
            omega
          subst this
          exact List.mem_cons_self
      · subst h
        obtain ⟨pl, b, bs, h1, h2⟩ := hd 1 rfl
        have ep : p1.2.1 = 2 :: p.2.1.tail := ep
        have eb : s1.2.2.2.1 = (2, (s.2.2.2.1.headD (0, 0, 0, 0)).2.1, s.1 254 33, 0) :: s.2.2.2.1.tail := eb
        have cl := cl.2.1 (Or.inl rfl)
        rw [h1] at ep Hb lt
        rw [h2] at eb Hb cl lt
        have cl : S.1 278 b.2.2.1.toNat = s.1 254 33 + 1 := cl
        have l0 := lt b.2.2.1.toNat (show b.2.2.1.toNat ∈ b.2.2.1.toNat :: hol pl bs from List.mem_cons_self)
        refine fin (2 :: pl) _ ep eb ⟨fun w => (by rcases w with w | w <;> cases w), Hb.2⟩ (fun k hk => ?_) (fun k hk => ?_) (fun j r hr hk2 => Or.inl ?_)
        · rcases List.mem_cons.1 hk with rfl | hk
          · exact Or.inr ⟨0, rfl, by show 0 < 2; decide⟩
          · left; rw [h1, h2]; exact List.mem_cons_of_mem _ hk
        · rw [h1, h2] at hk
          have hk : k ∈ b.2.2.1.toNat :: hol pl bs := hk
          rcases List.mem_cons.1 hk with rfl | hk
          · right; rw [cl]; exact ⟨by omega, 1, by omega, by show 1 < 2; decide⟩
          · exact Or.inl (List.mem_cons_of_mem _ hk)
        · have hj : j < 2 := (List.getElem?_eq_some_iff.1 hr).1
          have : j = 0 ∨ j = 1 := by omega
          rcases this with rfl | rfl
          · exact List.mem_cons_self
          · cases hr; exfalso; dsimp only at hk2; omega
      · subst h
        obtain ⟨pl, b, bs, h1, h2⟩ := hd 1 rfl
        have ep : p1.2.1 = p.2.1.tail := ep
        have eb : s1.2.2.2.1 = s.2.2.2.1.tail := eb
        have cl := cl.1 (Or.inl rfl)
        rw [h1] at ep Hb lt
        rw [h2] at eb Hb cl lt
        have cl : S.1 278 b.2.2.1.toNat = s.1 254 33 := cl
        have l0 := lt b.2.2.1.toNat (show b.2.2.1.toNat ∈ b.2.2.1.toNat :: hol pl bs from List.mem_cons_self)
        refine fin pl bs ep eb Hb.2 (fun k hk => Or.inl (by rw [h1, h2]; exact List.mem_cons_of_mem _ hk)) (fun k hk => ?_) (fun j r hr hk2 => ?_)
        · rw [h1, h2] at hk
          have hk : k ∈ b.2.2.1.toNat :: hol pl bs := hk
          rcases List.mem_cons.1 hk with rfl | hk
          · right; rw [cl]; exact ⟨by omega, 0, by omega, by show 0 < 2; decide⟩
          · exact Or.inl hk
        · have hj : j < 2 := (List.getElem?_eq_some_iff.1 hr).1
          have : j = 0 ∨ j = 1 := by omega
          rcases this with rfl | rfl <;> cases hr <;> exfalso <;> dsimp only at hk2 <;> omega
      · subst h
        obtain ⟨pl, b, bs, h1, h2⟩ := hd 2 rfl
        have ep : p1.2.1 = p.2.1.tail := ep
        have eb : s1.2.2.2.1 = s.2.2.2.1.tail := eb
        have cl := cl.1 (Or.inr rfl)
        rw [h1] at ep Hb lt
        rw [h2] at eb Hb cl lt
        have cl : S.1 278 b.2.2.1.toNat = s.1 254 33 := cl
        have l0 := lt b.2.2.1.toNat (show b.2.2.1.toNat ∈ b.2.2.1.toNat :: hol pl bs from List.mem_cons_self)
        refine fin pl bs ep eb Hb.2 (fun k hk => Or.inl (by rw [h1, h2]; exact List.mem_cons_of_mem _ hk)) (fun k hk => ?_) (fun j r hr hk2 => ?_)
        · rw [h1, h2] at hk
          have hk : k ∈ b.2.2.1.toNat :: hol pl bs := hk
          rcases List.mem_cons.1 hk with rfl | hk
          · right; rw [cl]; exact ⟨by omega, 0, by omega, by show 0 < 2; decide⟩
          · exact Or.inl hk
        · have hj : j < 2 := (List.getElem?_eq_some_iff.1 hr).1
          have : j = 0 ∨ j = 1 := by omega
          rcases this with rfl | rfl <;> cases hr <;> exfalso <;> dsimp only at hk2 <;> omega
      · subst h
        have ep : p1.2.1 = 3 :: p.2.1 := ep
        have eb : s1.2.2.2.1 = (3, s.1 254 50, 0, s.1 254 33) :: s.2.2.2.1 := eb
        have e1 := E 1 _ rfl
        refine fin _ _ ep eb ⟨fun _ => ⟨e1, E5 0 _ rfl⟩, Hb⟩ (fun k hk => Or.inl hk) (fun k hk => Or.inl hk) (fun j r hr hk2 => ?_)
        have hj : j < 2 := (List.getElem?_eq_some_iff.1 hr).1
        have : j = 0 ∨ j = 1 := by omega
        rcases this with rfl | rfl <;> cases hr <;> exfalso <;> dsimp only at hk2 <;> omega
      · subst h
        obtain ⟨pl, b, bs, h1, h2⟩ := hd 3 rfl
        have ep : p1.2.1 = 4 :: p.2.1.tail := ep
        have eb : s1.2.2.2.1 = (3, (s.2.2.2.1.headD (0, 0, 0, 0)).2.1, s.1 254 33, (s.2.2.2.1.headD (0, 0, 0, 0)).2.2.2) :: s.2.2.2.1.tail := eb
        rw [h1] at ep Hb
        rw [h2] at eb Hb
        refine fin (4 :: pl) _ ep eb ⟨fun _ => Hb.1 (Or.inl rfl), Hb.2⟩ (fun k hk => ?_) (fun k hk => Or.inl ?_) (fun j r hr _ => Or.inl ?_)
        · rcases List.mem_cons.1 hk with rfl | hk
          · exact Or.inr ⟨0, rfl, by show 0 < 1; decide⟩
          · left; rw [h1, h2]; exact hk
        · rw [h1, h2] at hk
          exact List.mem_cons_of_mem _ hk
        · have hj : j < 1 := (List.getElem?_eq_some_iff.1 hr).1
          have : j = 0 := by omega
          subst this
          exact List.mem_cons_self
      · subst h
        obtain ⟨pl, b, bs, h1, h2⟩ := hd 4 rfl
        have ep : p1.2.1 = p.2.1.tail := ep
        have eb : s1.2.2.2.1 = s.2.2.2.1.tail := eb
        have cl1 := cl.2.1 (Or.inr rfl)
        have cl2 := cl.2.2 rfl
        have e0 := E 0 _ rfl
        rw [h1] at ep Hb lt
        rw [h2] at eb Hb cl1 cl2 lt
        have cl1 : S.1 278 b.2.2.1.toNat = s.1 254 33 + 1 := cl1
        have cl2 : S.1 278 (s.1 254 33).toNat = b.2.2.2 := cl2
        have l0 := lt b.2.2.1.toNat (show b.2.2.1.toNat ∈ b.2.2.1.toNat :: hol pl bs from List.mem_cons_self)
        refine fin pl bs ep eb Hb.2 (fun k hk => Or.inl (by rw [h1, h2]; exact List.mem_cons_of_mem _ hk)) (fun k hk => ?_) (fun j r hr hk2 => ?_)
        · rw [h1, h2] at hk
          have hk : k ∈ b.2.2.1.toNat :: hol pl bs := hk
          rcases List.mem_cons.1 hk with rfl | hk
          · right; rw [cl1]; exact ⟨by omega, 1, by omega, by show 1 < 3; decide⟩
          · exact Or.inl hk
        · have hj : j < 3 := (List.getElem?_eq_some_iff.1 hr).1
          have : j = 0 ∨ j = 1 ∨ j = 2 := by omega
          rcases this with rfl | rfl | rfl
          · right
            refine ⟨e0, ?_⟩
            show S.1 277 ((S.1 278 (s.1 254 33).toNat).toNat + 1) = 17 ∧ S.1 281 (S.1 278 (s.1 254 33).toNat).toNat = _
            rw [cl2]
            exact Hb.1 (Or.inr rfl)
          · cases hr; exfalso; dsimp only at hk2; omega
          · cases hr; exfalso; dsimp only at hk2; omega
  · have w : s1.1 254 33 = s.1 254 33 := by
      rcases hq_ev B hp hm B1 with ⟨w, -⟩ | ⟨w0, w1, w2, -⟩ | ⟨w, w3, w4⟩
      · exact absurd w he
      · exact w2
      · exact w4
    have he34 : ¬ e.1 ≤ 34 := fun z => he (Or.inl z)
    have pd := (pr_decl he34 hp).1
    have md := mi_decl he34 hp hm
    have md : s1.2.2.2.1 = s.2.2.2.1 := by rw [md]
    unfold JD
    rw [pd.1, md, w]
    refine ⟨?_, H.2⟩
    by_cases z : p.1 9 = 6
    · exfalso
      exact he (Or.inr ((pr_decl he34 hp).2.1 z).1)
    · rw [hb0 z]
      exact ⟨trivial, fun k hk => (by cases hk)⟩
end
