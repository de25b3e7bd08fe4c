/-! PURE LAYER, 122: the model's load(), behind the tokens -/
def mq_C : List Nat := [285, 286, 287, 288, 302] ++ mp_C2
def mq_F : List (Nat × Nat) := [(254, 4), (254, 69), (254, 70), (254, 72)] ++ mp_F3
theorem p_fr_w {cs cs' : List Nat} {fs fs' : List (Nat × Nat)} {h h' : am_H} (f : p_fr cs fs h h') (hc : ∀ a, cs'.contains a = false → cs.contains a = false) (hf : ∀ q, fs'.contains q = false → fs.contains q = false) : p_fr cs' fs' h h' := fun a j h1 h2 => f a j (hc a h1) (hf _ h2)
theorem contains_app {α : Type} [BEq α] {a b : List α} {x : α} (h : (a ++ b).contains x = false) : a.contains x = false ∧ b.contains x = false := by
  rw [List.contains_append] at h
  exact Bool.or_eq_false_iff.1 h
theorem mq_w {h h' : am_H} (f : p_fr mp_C2 mp_F3 h h') : p_fr mq_C mq_F h h' := p_fr_w f (fun a h => (contains_app h).2) (fun q h => (contains_app h).2)
theorem mq_mt (h : am_H) : p_fr mq_C mq_F h (mt_0 h) := fun a j h1 h2 => by
  have n : ∀ b k, mq_F.contains (b, k) = true → ¬ (a = b ∧ j = k) := fun b k hb z => by rw [z.1, z.2, hb] at h2; cases h2
  unfold mt_0
  rw [p_up, if_neg (n 254 49 rfl), p_up, if_neg (n 254 48 rfl), p_up, if_neg (n 254 39 rfl), p_up, if_neg (n 254 33 rfl), p_up, if_neg (n 254 25 rfl), p_up, if_neg (n 254 17 rfl), p_up, if_neg (n 254 16 rfl), p_up, if_neg (n 254 14 rfl), p_up, if_neg (n 254 11 rfl)]
section
variable {K P V sc ss : Nat → Int} {t : Nat → Int} {n : Nat} {F : List (List Int)} {Z G : Nat} {h3 : am_H} {mn mM : Int} (d L : Nat)
/-- what the model is given -/
def mG (t : Nat → Int) (n : Nat) (F : List (List Int)) (K V P sc ss : Nat → Int) (Z : Nat) (mn mM : Int) (h3 : am_H) : Prop := tokR t n F K V P Z h3 ∧ (∀ k, k < n → h3 256 k = t k) ∧ SYw h3 F sc ss ∧ ([109, 97, 105, 110] ∈ F ∧ mn = (F.idxOf [109, 97, 105, 110] : Nat)) ∧ ([77, 97, 105, 110] ∈ F ∧ mM = (F.idxOf [77, 97, 105, 110] : Nat)) ∧ (∀ s : Nat, s < 60 → h3 300 s = 0 ∨ h3 300 s = 1) ∧ (h3 254 10 = 0 ∧ 0 ≤ h3 254 51 ∧ h3 254 51 ≤ 142) ∧ h3 254 3 = (n : Int)
/-- the rest of load() -/
noncomputable def mLd (d L : Nat) (x1 : Int) (h3 : am_H) : Option am_O := am_xV (zS L) (am_D (d + 15) 17 51 [am_r (am_a 254)] (zS L, h3)) (am_up1 (zS L)) fun h4 => if (0 : Int) < h4 254 11 then some (.inl (some (am_i (h4 254 11))), (zS L, (am_up h4 254 4 (h4 254 12)))) else am_xV (zS L) (am_D (d + 15) 17 60 [am_r (am_a 254)] (zS L, (am_up (am_up h4 254 4 (h4 254 12)) 254 69 0))) (am_up1 (zS L)) fun h5 => am_xV (zS L) (am_D (d + 15) 17 62 [am_r (am_a 254)] (zS L, h5)) (am_up1 (zS L)) fun h6 => am_E (am_D (d + 15)) m_17_68 (.inl 3) [some (am_r (am_a 254)), some (am_i x1), some (am_i 0)] [] (zS L, h6)
theorem m_load1 (A : mG t n F K V P sc ss Z mn mM h3) (hcl : am_cl 168 ≤ 10000) (hg : 3 * Z + 2 ≤ G) (hg2 : G ≤ 900000) (x1 : Int) :
    (∃ e : Int × Int, (0 < e.1 ∧ e.1 < 8) ∧ (∀ {σ : Type} (C : gx_V → σ → gx_R σ) (s : σ), ∃ es p, gx_fold (pr pw (kM K Z) V) es pr_0 = .inr p ∧ gp false K V P C G s = gx_b (gx_fold C es s) fun _ => .inl e) ∧ ∃ h', mLd d L x1 h3 = pI L e.1 h' ∧ h' 254 4 = e.2 ∧ p_fr mq_C mq_F h3 h' ∧ 0 ≤ h' 254 51 ∧ h' 254 51 ≤ 142) ∨
    (∃ es p S, gx_fold (pr pw (kM K Z) V) es pr_0 = .inr p ∧ (p.1 9 = 0 ∨ p.1 9 = 3) ∧ p.1 14 = 0 ∧ (∀ {σ : Type} (C : gx_V → σ → gx_R σ) (s : σ), gp false K V P C G s = gx_fold C es s) ∧ gx_fold (mi V) es (mt_0 h3, -1, 0, [], []) = .inr S ∧ rm pr_0 (mt_0 h3, -1, 0, [], []) ∧ (S.1 297 = h3 297 ∧ S.1 300 = h3 300 ∧ S.1 301 = h3 301) ∧
      ∃ hr h1, hA S.1 hr ∧ (∀ a, a ≠ 254 → h1 a = ml_x (kM K Z) V sc ss hr a) ∧ (∀ j, j ≠ 69 → j ≠ 70 → j ≠ 72 → h1 254 j = hr 254 j) ∧ p_fr mq_C mq_F h3 h1 ∧ (0 ≤ h1 254 51 ∧ h1 254 51 ≤ 142) ∧
        ((∃ x, x ∈ ml_n (kM K Z) P V sc ss S.1 ∧ (∀ q ∈ ml_n (kM K Z) P V sc ss S.1, nle x q) ∧ mLd d L x1 h3 = pI L x.1 (am_up h1 254 4 x.2)) ∨
         (ml_n (kM K Z) P V sc ss S.1 = [] ∧ ((m_mainf V mn mM S.1 (S.1 254 17).toNat 0 (-1) = -1 ∧ mLd d L x1 h3 = pI L 7 (am_up (am_up (am_up h1 254 69 7) 254 70 (n : Int)) 254 4 (n : Int))) ∨
          (m_mainf V mn mM S.1 (S.1 254 17).toNat 0 (-1) ≠ -1 ∧ h1 254 72 = m_mainf V mn mM S.1 (S.1 254 17).toNat 0 (-1) ∧ h1 254 69 = 0 ∧
            mLd d L x1 h3 = am_E (am_D (d + 15)) m_17_68 (.inl 7) [some (am_r (am_a 254)), some (am_i x1), some (am_i 0)] [] (zS L, am_up (am_up (am_up (am_up h1 254 4 (h1 254 70)) 254 4 (-1)) 254 71 1) 254 74 (h1 258 0))))))) := by
  obtain ⟨T, ht, Y, m1, m2, h300, ⟨p10, p51⟩, p3⟩ := A
  have pre : mt_pre (kM K Z) V P Z h3 := ⟨T.mpT, p10, p51⟩
  have hpos : ∀ S h, ∀ q ∈ ml_n (kM K Z) P V S h h3, True := fun _ _ _ _ => trivial
  rcases mt_texts d L T.tx hg hg2 pre T.I with ⟨e, e8, HF, gb, h', D, f1, B⟩ | ⟨es, p, S, h1, ⟨⟨ph, hph, pd⟩, h14⟩, HS, hm, Rm, h', D, gb, i, st, N, f2⟩
  · left
    refine ⟨e, ⟨B.2.1, e8⟩, HF, am_up h' 254 4 e.2, ?_, p_up_s _ _ _ _, ?_, ?_⟩
    · unfold mLd
      rw [D, p_xV, B.2.2.1, if_pos B.2.1, B.2.2.2.1]
    · have f3 : p_fr mp_C2 mp_F3 gb h' := p_fr_w B.1 (fun _ z => z) (fun q z => by
        unfold mp_F3 at z
        rw [List.contains_cons] at z
        exact (Bool.or_eq_false_iff.1 z).2)
      have := (mq_mt h3).trans (mq_w (f1.trans f3))
      intro a j z1 z2
      rw [p_up, if_neg (fun z => by rw [z.1, z.2] at z2; cases z2)]
      exact this a j z1 z2
    · rw [p_up_n _ _ _ _ _ _ (Or.inr (by decide))]
      exact B.2.2.2.2.2.2.2.2.1
  · right
    have Rv := rv_run es h1 hm (rv_0 (-1) 0 rfl)
    have hw : ∀ k, p.2.2.2 k ≤ 2100 := by
      have : ∀ (es : List gx_V) (q : pr_S), (∀ k, q.2.2.2 k ≤ 2100) → gx_fold (pr pw (kM K Z) V) es q = .inr p → ∀ k, p.2.2.2 k ≤ 2100 := by
        intro es
        induction es with
        | nil => intro q hq h; cases h; exact hq
        | cons e es ih => intro q hq h; obtain ⟨p1, a1, a2⟩ := gx_b_ok h; exact ih p1 (pr_le a1) a2
      exact this es pr_0 (fun k => Nat.zero_le _) h1
    have c : ∀ a, mp_C2.contains a = false → a ≠ 254 → S.1 a = h3 a := fun a ha h4 => by
      rw [f2.cell a ha (by unfold mp_F3 mp_F2; simp [h4])]
      funext k
      exact mt_0_n h3 a k (by omega)
    have Ag := hA_of N (h' 254 12)
    obtain ⟨hr, ehr⟩ : ∃ hr, hr = am_up (am_up h' 254 4 (h' 254 12)) 254 69 0 := ⟨_, rfl⟩
    rw [← ehr] at Ag
    have e257 : hr 257 = h3 257 := by rw [Ag.1 257 (by decide) (by decide) (by decide) (by decide)]; exact c 257 rfl (by decide)
    have e258 : hr 258 = h3 258 := by rw [Ag.1 258 (by decide) (by decide) (by decide) (by decide)]; exact c 258 rfl (by decide)
    have s0 : mc_same h3 hr := fun a ha => by
      rw [Ag.1 a (by omega) (by omega) (by omega) (by omega)]
      refine c a ?_ (by omega)
      rcases ha with e | e | e | e | e | e | e | e | e <;> subst e <;> rfl
    obtain ⟨MT, MK, MY, MI, MC, M6⟩ := ml_pre Ag Rv Rm hw T e257 e258 (fun s hs => by rw [s0 300 (by omega)]; exact h300 s hs)
    have MA := T.A ht Y hcl
    have MM := T.M ht m1 m2
    have ck := ml_checks (d + 10) L (P := P) MA s0 MT MK MY MI MC (some (am_i x1))
    have h69 : hr 254 69 = 0 := by rw [ehr]; exact p_up_s _ _ _ _
    have en : ml_n (kM K Z) P V sc ss hr = ml_n (kM K Z) P V sc ss S.1 := hA_n Ag Rv.1.2.2.2.1.1 Rv.1.2.2.2.2.1
    have pos : ∀ q ∈ ml_n (kM K Z) P V sc ss hr, 0 < q.1 := by
      intro q hq
      unfold ml_n at hq
      rcases List.mem_append.1 hq with z | z
      · rcases List.mem_append.1 z with z | z
        · obtain ⟨k, -, -, z⟩ := (nt_cs_mem _ _).1 z
          rw [nt_c_at z]; dsimp only; omega
        · rcases List.mem_append.1 z with z | z
          · obtain ⟨k, -, -, z⟩ := (nt_ss_mem _ _).1 z
            rcases nt_s_at z with z | z
            · rw [z]; dsimp only; omega
            · rw [(nt_ty_at z).2.2]; dsimp only; omega
          · obtain ⟨k, -, -, z⟩ := (nt_vs_mem _ _).1 z
            rcases nt_v_at z with z | z
            · rw [z]; dsimp only; omega
            · rw [(nt_ty_at z).2.2]; dsimp only; omega
      · rcases List.mem_append.1 z with z | z
        · obtain ⟨k, -, -, z⟩ := (nt_is_mem _ _).1 z
          rcases nt_i_at z with ⟨-, z⟩ | ⟨-, z⟩
          · rw [z]; dsimp only; omega
          · have := (vnt_at z).2; omega
        · obtain ⟨k, -, -, z⟩ := (nt_ks_mem _ _).1 z
          unfold nt_k nt_k2 nt_cv at z
          repeat' (first | (rcases List.mem_append.1 z with z | z) | (split at z))
          all_goals first
            | (cases z; done)
            | (rw [List.mem_singleton.1 z]; dsimp only; omega)
    obtain ⟨hx, x1', x2', x3', x4', x5'⟩ := ml_end (d + 10) L (P := P) (ss := ss) (sc := sc) MM s0 MT M6 h69 pos (some (am_i x1))
    have eL : mLd d L x1 h3 = am_E (am_D (d + 15)) m_17_68 (.inl 3) [some (am_r (am_a 254)), some (am_i x1), some (am_i (hr 254 39))] [] (zS L, mnotes (ml_n (kM K Z) P V sc ss hr) (ml_x (kM K Z) V sc ss hr)) := by
      unfold mLd
      have n11 : h' 254 11 = 0 := N.fa
      rw [D, p_xV, if_neg (by rw [n11]; decide), ← ehr]
      exact ck
    have fh : p_fr mq_C mq_F h3 hx := by
      intro a j z1 z2
      have nd : ∀ b k, mq_F.contains (b, k) = true → ¬ (a = b ∧ j = k) := fun b k hb z => by rw [z.1, z.2, hb] at z2; cases z2
      have ncl : ∀ b, mq_C.contains b = true → a ≠ b := fun b hb z => by rw [z, hb] at z1; cases z1
      have base : hr a j = h3 a j := by
        rw [ehr, p_up, if_neg (nd 254 69 rfl), p_up, if_neg (nd 254 4 rfl)]
        have n1 := N.1 a j (by
          unfold mp_C
          simp [ncl 280 rfl, ncl 284 rfl, ncl 290 rfl, ncl 291 rfl, ncl 292 rfl]) (by
          unfold mp_F
          simp [nd 254 10 rfl, nd 254 11 rfl, nd 254 12 rfl, nd 254 48 rfl, nd 254 49 rfl, nd 254 51 rfl, nd 254 61 rfl, nd 254 62 rfl])
        rw [n1]
        exact ((mq_mt h3).trans (mq_w f2)) a j z1 z2
      by_cases h254 : a = 254
      · subst h254
        rw [x2' j (fun z => nd 254 69 rfl ⟨rfl, z⟩) (fun z => nd 254 70 rfl ⟨rfl, z⟩) (fun z => nd 254 72 rfl ⟨rfl, z⟩)]
        exact base
      · rw [x1' a h254]
        have g := (mc_G.kxs (K := kM K Z) (nm := V) (sc := sc) (ss := ss) (h := hr) (hr 254 39).toNat 0 _ (mc_G.ia (nm := V) (h := hr) (hr 254 33).toNat 0 _ ((mc_E.refl hr).own (hr 254 17).toNat 0 hr).G)).1 a h254 (ncl 278 rfl) (fun z => by
          have := ncl 285 rfl; have := ncl 286 rfl; have := ncl 287 rfl; have := ncl 288 rfl
          omega) (ncl 302 rfl)
        have g' : ml_x (kM K Z) V sc ss hr a = hr a := g
        rw [g']
        exact base
    have l51 : 0 ≤ hx 254 51 ∧ hx 254 51 ≤ 142 := by
      rw [x2' 51 (by decide) (by decide) (by decide), ehr, p_up_n _ _ _ _ _ _ (Or.inr (by decide)), p_up_n _ _ _ _ _ _ (Or.inr (by decide))]
      exact N.lv
    refine ⟨es, p, S, h1, by rw [pd.1]; exact hph, h14, HS, hm, mt_rm pre (-1) 0, ⟨c 297 rfl (by decide), c 300 rfl (by decide), c 301 rfl (by decide)⟩, hr, hx, Ag, x1', x2', fh, l51, ?_⟩
    have x5'' := eL.trans x5'
    have r3 : hr 254 3 = (n : Int) := by
      rw [Ag.2.1 3 (by decide) (by decide) (by decide) (by decide) (by decide) (by decide) (by decide) (by decide) (by decide) (by decide), ← p3]
      exact ((mq_mt h3).trans (mq_w f2)) 254 3 rfl rfl
    have e72 : hx 254 72 = m_mainf V mn mM S.1 (S.1 254 17).toNat 0 (-1) := by
      rw [x3', hA_main Ag, Ag.2.1 17 (by decide) (by decide) (by decide) (by decide) (by decide) (by decide) (by decide) (by decide) (by decide) (by decide)]
    rw [en] at x4'
    rcases nfold_0 (ml_n (kM K Z) P V sc ss S.1) (hr 254 70) (by rw [← en]; exact pos) with ⟨nil, nf⟩ | ⟨mem, least⟩
    · right
      refine ⟨nil, ?_⟩
      rw [nf] at x4'
      injection x4' with y1 y2
      rw [if_neg (by rw [y1]; decide)] at x5''
      by_cases cm : m_mainf V mn mM S.1 (S.1 254 17).toNat 0 (-1) = -1
      · left
        rw [if_pos (by rw [e72]; exact cm), r3] at x5''
        exact ⟨cm, x5''⟩
      · right
        rw [if_neg (by rw [e72]; exact cm)] at x5''
        exact ⟨cm, e72, y1, x5''⟩
    · left
      refine ⟨nfold (ml_n (kM K Z) P V sc ss S.1) (0, hr 254 70), mem, least, ?_⟩
      have p0 := pos _ (by rw [en]; exact mem)
      rw [← x4'] at p0 ⊢
      rw [if_pos p0] at x5''
      exact x5''
end
