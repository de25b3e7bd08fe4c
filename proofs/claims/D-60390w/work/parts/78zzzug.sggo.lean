/-! SIGNS, 7: the component goes over all instructions, twice -/
def fin (F : List (List Int × Int)) (w : Int × Int) : Int := if w.2 = -1 then w.1 else (F.getD w.2.toNat ([], 0)).2
/-- the end of an instruction -/
def sgE (t : Nat → Int) (n : Nat) : Nat → Nat → Nat
  | 0, k => k
  | m + 1, k => if k < n ∧ t k ≠ 10 ∧ ¬ sbl (t k) ∧ ¬ scm t n k then sgE t n m (k + 1) else k
theorem sgE_rg (t : Nat → Int) (n : Nat) : ∀ m k, k ≤ sgE t n m k ∧ (k ≤ n → sgE t n m k ≤ n) ∧ ∀ j, k ≤ j → j < sgE t n m k → ¬ sbl (t j)
  | 0, k => ⟨Nat.le_refl _, fun h => h, fun j h1 h2 => by unfold sgE at h2; omega⟩
  | m + 1, k => by
    unfold sgE
    split
    · rename_i c
      obtain ⟨h1, h2, h3⟩ := sgE_rg t n m (k + 1)
      refine ⟨by omega, fun _ => h2 (by omega), fun j j1 j2 => ?_⟩
      by_cases z : j = k
      · rw [z]; exact c.2.2.1
      · exact h3 j (by omega) j2
    · exact ⟨Nat.le_refl _, fun h => h, fun j h1 h2 => by omega⟩
/-- all instructions -/
def sgo (t : Nat → Int) (n : Nat) : Nat → Nat → Bool → sgS → (Int × Nat) ⊕ sgS
  | 0, _, _, s => .inr s
  | m + 1, k, th, s =>
    if n ≤ k then .inr s
    else if t k = 10 then sgo t n m (k + 1) false s
    else if sbl (t k) then sgo t n m (k + 1) th s
    else if scm t n k then sgo t n m (lx_line t n n k) th s
    else if th = true then .inl (1, k)
    else match sgC t k (sgE t n n k) s with
      | .inl f => .inl (f, k)
      | .inr s' => sgo t n m (sgE t n n k) true s'
section
variable {d L : Nat} {t : Nat → Int} {n : Nat} {h : am_H}
theorem sc_line (H : sg_T t n h) {x1 x3 : Int} {u4 u5 : Option am_V} : ∀ (m k : Nat), k ≤ n → n ≤ k + m → am_E (am_D (d + 1)) m_11_7 (.inl 6) [some (am_r (am_a 23)), some (am_i x1), some (am_i (k : Int)), some (am_i x3), u4, u5] [] (zS L, h) = am_E (am_D (d + 1)) m_11_7 (.inl 1) [some (am_r (am_a 23)), some (am_i x1), some (am_i (lx_line t n m k : Int)), some (am_i x3), u4, u5] [] (zS L, h)
  | 0, k, hk, hm => by
    have : k = n := by omega
    subst this
    rw [q_11_7_6, sc_here H, p_xI]
    unfold sh
    rw [if_neg (Nat.lt_irrefl k), if_pos rfl]; rfl
  | m + 1, k, hk, hm => by
    have hn := H.2.1
    rw [q_11_7_6, sc_here H, p_xI]
    unfold lx_line sh
    by_cases c : k < n
    · rw [if_pos c]
      by_cases c2 : t k = 10
      · rw [if_pos c2, if_neg (fun z => z.2 c2)]
      · rw [if_neg c2, if_pos ⟨c, c2⟩, p_w (x := (k : Int) + 1) (by omega) (by omega)]
        exact sc_line H m (k + 1) (by omega) (by omega)
    · rw [if_neg c, if_pos rfl, if_neg (fun z => c z.1)]
theorem sc_end (H : sg_T t n h) {x1 x3 : Int} {u4 u5 : Option am_V} : ∀ (m k : Nat), k ≤ n → n ≤ k + m → am_E (am_D (d + 2)) m_11_7 (.inl 8) [some (am_r (am_a 23)), some (am_i x1), some (am_i (k : Int)), some (am_i x3), u4, u5] [] (zS L, h) = am_E (am_D (d + 2)) m_11_7 (.inl 9) [some (am_r (am_a 23)), some (am_i x1), some (am_i (sgE t n m k : Int)), some (am_i x3), u4, u5] [] (zS L, h)
  | 0, k, hk, hm => by
    have : k = n := by omega
    subst this
    rw [q_11_7_8, sc_here H, p_xI]
    unfold sh
    rw [if_neg (Nat.lt_irrefl k), if_pos rfl]; rfl
  | m + 1, k, hk, hm => by
    have hn := H.2.1
    rw [q_11_7_8, sc_here H, p_xI]
    unfold sgE
    by_cases c : k < n
    · rw [sh_t c]
      by_cases c2 : t k = 10
      · rw [if_pos c2, if_neg (fun z => z.2.1 c2)]
      · rw [if_neg c2, sc_here H, p_xI, sh_t c, sc_blank, p_xI]
        by_cases c3 : sbl (t k)
        · rw [pB_t c3, if_neg (show ¬ (1 : Int) = 0 by decide), if_neg (fun z => z.2.2.1 c3)]
        · rw [pB_f c3, if_pos rfl, sc_comm H c, p_xI]
          by_cases c4 : scm t n k
          · rw [pB_t c4, if_neg (show ¬ (1 : Int) = 0 by decide), if_neg (fun z => z.2.2.2 c4)]
          · rw [pB_f c4, if_pos rfl, if_pos ⟨c, c2, c3, c4⟩, p_w (x := (k : Int) + 1) (by omega) (by omega)]
            exact sc_end H m (k + 1) (by omega) (by omega)
    · unfold sh
      rw [if_neg c, if_pos rfl, if_neg (fun z => c z.1)]
def sgF : List (Nat × Nat) := [(23, 12), (23, 13), (23, 15), (23, 16)]
theorem cP.fr {s : sgS} {h h' : am_H} (P : cP s h) (f : p_fr [] [(23, 15), (23, 16)] h h') : cP s h' := by
  obtain ⟨p1, p2, p3, p4, p5⟩ := P
  refine ⟨by rw [f 23 12 rfl rfl]; exact p1, p2, by rw [f 23 13 rfl rfl]; exact p3, p4, fun i q hq => ?_⟩
  rw [f.cell 26 rfl rfl, f.cell 27 rfl rfl, f.cell 25 rfl rfl]
  exact p5 i q hq
theorem bB (th : Bool) : pB (th = true) = if th = true then 1 else 0 := rfl
/-- the first time -/
theorem sc_go1 : ∀ (m k : Nat) (th : Bool) (s : sgS) (u4 u5 : Option am_V) {h : am_H}, n < k + m → k ≤ n → sg_T t n h → SGC h → cP s h → ∃ r h', am_E (am_D (d + 5)) m_11_7 (.inl 1) [some (am_r (am_a 23)), some (am_i 0), some (am_i (k : Int)), some (am_i (pB (th = true))), u4, u5] [] (zS L, h) = pI L r h' ∧ p_fr [25, 26, 27] sgF h h' ∧ match sgo t n m k th s with
      | .inl q => r = q.1 ∧ 0 < r ∧ h' 23 15 = (q.2 : Int)
      | .inr s' => r = 0 ∧ cP s' h'
  | 0, k, th, s, u4, u5, h, hm, hk, H, G, P => by omega
  | m + 1, k, th, s, u4, u5, h, hm, hk, H, G, P => by
    have hn := H.2.1
    rw [q_11_7_1, H.1]
    unfold sgo
    by_cases c0 : n ≤ k
    · rw [if_neg (by omega), if_pos c0]
      exact ⟨0, h, rfl, p_fr.refl h, rfl, P⟩
    have ck : k < n := by omega
    rw [if_pos (by omega), if_neg c0, sc_here H, p_xI, sh_t ck]
    -- one byte further
    have E2 : ∀ {x4 : Int}, am_E (am_D (d + 5)) m_11_7 (.inl 2) [some (am_r (am_a 23)), some (am_i 0), some (am_i (k : Int)), some (am_i (pB (th = true))), some (am_i x4), u5] [] (zS L, h) = am_E (am_D (d + 5)) m_11_7 (.inl 1) [some (am_r (am_a 23)), some (am_i 0), some (am_i ((k + 1 : Nat) : Int)), some (am_i (pB ((if x4 = 10 then false else th) = true))), some (am_i x4), u5] [] (zS L, h) := fun {x4} => by
      rw [q_11_7_2, p_w (x := (k : Int) + 1) (by omega) (by omega)]
      cases th
      · rw [if_pos (show pB (false = true) = 0 from rfl)]
        by_cases z : x4 = 10
        · rw [if_pos z]; rfl
        · rw [if_neg z]; rfl
      · rw [if_neg (show ¬ pB (true = true) = 0 by decide)]
        by_cases z : x4 = 10
        · rw [if_pos z, if_pos z]; rfl
        · rw [if_neg z, if_neg z]; rfl
    by_cases c1 : t k = 10
    · rw [if_pos c1, if_pos c1, E2, if_pos c1]
      exact sc_go1 m (k + 1) false s _ _ (by omega) (by omega) H G P
    rw [if_neg c1, if_neg c1, sc_blank, p_xI]
    by_cases c2 : sbl (t k)
    · rw [pB_t c2, if_neg (show ¬ (1 : Int) = 0 by decide), if_pos c2, E2, if_neg c1]
      exact sc_go1 m (k + 1) th s _ _ (by omega) (by omega) H G P
    rw [pB_f c2, if_pos rfl, if_neg c2, sc_comm H ck, p_xI]
    by_cases c3 : scm t n k
    · have l1 := lx_line_rg t n n k (by omega)
      have l2 : k < lx_line t n n k := by
        obtain ⟨n', hn'⟩ : ∃ n', n = n' + 1 := ⟨n - 1, by omega⟩
        have : lx_line t n n k = lx_line t n (n' + 1) k := by rw [← hn']
        rw [this]
        unfold lx_line
        rw [if_pos ⟨ck, c1⟩]
        have := (lx_line_rg t n n' (k + 1) (by omega)).1
        omega
      rw [pB_t c3, if_neg (show ¬ (1 : Int) = 0 by decide), if_pos c3, sc_line H n k hk (by omega)]
      exact sc_go1 m _ th s _ _ (by omega) (l1.2.1 hk) H G P
    rw [pB_f c3, if_pos rfl, if_neg c3]
    -- an instruction
    obtain ⟨h1, hh1⟩ : ∃ h1, h1 = am_up h 23 15 (k : Int) := ⟨_, rfl⟩
    have H1 : sg_T t n h1 := by rw [hh1]; exact H.next (p_up_c _ _ _ _ _ (by decide)) (p_up_n _ _ _ _ _ _ (Or.inr (by decide)))
    rw [← hh1, sc_end H1 n k hk (by omega)]
    obtain ⟨e, ee⟩ : ∃ e, e = sgE t n n k := ⟨_, rfl⟩
    have r1 := sgE_rg t n n k
    have e1 : k < e := by
      obtain ⟨n', hn'⟩ : ∃ n', n = n' + 1 := ⟨n - 1, by omega⟩
      have : sgE t n n k = sgE t n (n' + 1) k := by rw [← hn']
      rw [ee, this]
      unfold sgE
      rw [if_pos ⟨ck, c1, c2, c3⟩]
      have := (sgE_rg t n n' (k + 1)).1
      omega
    have e2 : e ≤ n := by rw [ee]; exact r1.2.1 hk
    rw [← ee]
    obtain ⟨h2, hh2⟩ : ∃ h2, h2 = am_up h1 23 16 (e : Int) := ⟨_, rfl⟩
    have f2 : p_fr [] [(23, 15), (23, 16)] h h2 := by rw [hh2, hh1]; exact ((p_fr.refl h).upf _ _ _ rfl).upf _ _ _ rfl
    have h15 : h2 23 15 = (k : Int) := by rw [hh2, p_up_n _ _ _ _ _ _ (Or.inr (by decide)), hh1, p_up_s]
    have h16 : h2 23 16 = (e : Int) := by rw [hh2, p_up_s]
    rw [q_11_7_9, ← hh2]
    cases th
    · have z0 : pB (false = true) = 0 := rfl
      rw [z0, if_pos rfl, if_pos rfl, if_neg (by decide)]
      have H2 : sg_T t n h2 := H.next (f2.cell 3 rfl rfl) (f2 23 11 rfl rfl)
      obtain ⟨r, h3, r3, f3, r4⟩ := sc_look (d := d) (L := L) H2 (G.fr (f2.cell 29 rfl rfl) (f2.cell 31 rfl rfl)) (P.fr f2) e2 e1 h15 h16
      rw [r3, p_xI]
      cases hc : sgC t k e s with
      | inl f =>
        rw [hc] at r4
        dsimp only at r4 ⊢
        obtain ⟨rfl, r5⟩ := r4
        rw [if_neg (by omega)]
        exact ⟨r, h3, rfl, (f2.mono rfl rfl).trans (f3.mono rfl rfl), rfl, r5, by rw [f3 23 15 rfl rfl]; exact h15⟩
      | inr s' =>
        rw [hc] at r4
        dsimp only at r4 ⊢
        obtain ⟨rfl, r5⟩ := r4
        rw [if_pos rfl]
        obtain ⟨r, h4, r6, f4, r7⟩ := sc_go1 m e true s' (some (am_i (t k))) (some (am_i 0)) (h := h3) (by omega) e2 (H2.next (f3.cell 3 rfl rfl) (f3 23 11 rfl rfl)) (G.fr (by rw [f3.cell 29 rfl rfl, f2.cell 29 rfl rfl]) (by rw [f3.cell 31 rfl rfl, f2.cell 31 rfl rfl])) r5
        exact ⟨r, h4, r6, ((f2.mono rfl rfl).trans (f3.mono rfl rfl)).trans f4, r7⟩
    · have z0 : pB (true = true) = 1 := rfl
      rw [z0, if_neg (show ¬ (1 : Int) = 0 by decide), if_pos rfl]
      exact ⟨1, h2, rfl, f2.mono rfl rfl, rfl, by decide, h15⟩
end
