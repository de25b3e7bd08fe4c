/-! CHIPS, 33: rings: the model -/
def fw (f : Nat → Nat → Prop) (k a b : Nat) : Prop := f a b ∨ (f a k ∧ f k b)
def fmid (f : Nat → Nat → Prop) (k a b x y : Nat) : Prop := (x < a ∨ (x = a ∧ y < b)) ∧ fw f k x y ∨ ¬ (x < a ∨ (x = a ∧ y < b)) ∧ f x y
def wit (f : Nat → Nat → Prop) : Nat → Nat → Nat → Prop
  | 0 => f
  | k + 1 => fw (wit f k) k
theorem fw_k (f : Nat → Nat → Prop) (k a b : Nat) : (fw f k a k ↔ f a k) ∧ (fw f k k b ↔ f k b) := by
  unfold fw
  exact ⟨⟨fun z => z.elim id (fun w => w.1), Or.inl⟩, ⟨fun z => z.elim id (fun w => w.2), Or.inl⟩⟩
theorem fmid_k (f : Nat → Nat → Prop) (k a b x y : Nat) : (fmid f k a b x k ↔ f x k) ∧ (fmid f k a b k y ↔ f k y) := by
  unfold fmid
  constructor
  · rw [(fw_k f k x y).1]
    by_cases z : x < a ∨ (x = a ∧ k < b)
    · exact ⟨fun w => w.elim (·.2) (·.2), fun w => Or.inl ⟨z, w⟩⟩
    · exact ⟨fun w => w.elim (·.2) (·.2), fun w => Or.inr ⟨z, w⟩⟩
  · rw [(fw_k f k x y).2]
    by_cases z : k < a ∨ (k = a ∧ y < b)
    · exact ⟨fun w => w.elim (·.2) (·.2), fun w => Or.inl ⟨z, w⟩⟩
    · exact ⟨fun w => w.elim (·.2) (·.2), fun w => Or.inr ⟨z, w⟩⟩
theorem wit_mono {f : Nat → Nat → Prop} : ∀ (k : Nat) {a b : Nat}, f a b → wit f k a b
  | 0, _, _, h => h
  | k + 1, _, _, h => Or.inl (wit_mono k h)
theorem wit_cl {f : Nat → Nat → Prop} : ∀ (k j : Nat) {a b : Nat}, j < k → wit f k a j → wit f k j b → wit f k a b
  | 0, j, a, b, hj, _, _ => by omega
  | k + 1, j, a, b, hj, h1, h2 => by
    by_cases e : j = k
    · subst e
      exact Or.inr ⟨(fw_k _ j a b).1.1 h1, (fw_k _ j a b).2.1 h2⟩
    · have c := fun {a b} => wit_cl (f := f) k j (a := a) (b := b) (by omega)
      rcases h1 with h1 | ⟨h1, h1'⟩
      · rcases h2 with h2 | ⟨h2, h2'⟩
        · exact Or.inl (c h1 h2)
        · exact Or.inr ⟨c h1 h2, h2'⟩
      · rcases h2 with h2 | ⟨h2, h2'⟩
        · exact Or.inr ⟨h1, c h1' h2⟩
        · exact Or.inr ⟨h1, h2'⟩
theorem rch_trans {V : Nat → Int} {chs : List cCh} {a b c : Nat} (h1 : rch V chs a b) (h2 : rch V chs b c) : rch V chs a c := fun S s1 s2 =>
  h2 S (fun x hx => s2 b x (h1 S s1 s2) hx) s2
theorem wit_rch {V : Nat → Int} {chs : List cCh} : ∀ (k : Nat) {a b : Nat}, wit (ed V chs) k a b → rch V chs a b
  | 0, a, b, h => fun S s1 _ => s1 b h
  | k + 1, a, b, h => by
    rcases h with h | ⟨h1, h2⟩
    · exact wit_rch k h
    · exact rch_trans (wit_rch k h1) (wit_rch k h2)
theorem wit_all {V : Nat → Int} {chs : List cCh} (a b : Nat) : wit (ed V chs) chs.length a b ↔ rch V chs a b := by
  refine ⟨wit_rch _, fun h => h (fun x => wit (ed V chs) chs.length a x) (fun x hx => wit_mono _ hx) (fun x y hx hxy => ?_)⟩
  exact wit_cl chs.length x (ed_rg hxy).1 hx (wit_mono _ hxy)
section
variable {d L : Nat} {K V P : Nat → Int} {W : Nat → List Int} {Z : Nat} {chs : List cCh} {ch : cCh} {c : Nat} {h h' : am_H}
/-- the table of the model -/
def wR (f : Nat → Nat → Prop) (n : Nat) (h : am_H) : Prop := ∀ a b, a < n → b < n → (h 352 (16 * a + b) = 0 ∨ h 352 (16 * a + b) = 1) ∧ (h 352 (16 * a + b) = 1 ↔ f a b)
theorem wR.cg {f g : Nat → Nat → Prop} {n : Nat} (R : wR f n h) (e : ∀ a b, a < n → b < n → (f a b ↔ g a b)) : wR g n h := fun a b ha hb => ⟨(R a b ha hb).1, by rw [(R a b ha hb).2, e a b ha hb]⟩
theorem wR.mid {f : Nat → Nat → Prop} {n k a b : Nat} (hn : n ≤ 16) (R : wR (fmid f k a b) n h) (ha : a < n) (hb : b < n) {v : Int} (hv : v = 0 ∨ v = 1) (e : v = 1 ↔ fw f k a b) : wR (fmid f k a (b + 1)) n (am_up h 352 (16 * a + b) v) := fun x y hx hy => by
  by_cases z : x = a ∧ y = b
  · obtain ⟨rfl, rfl⟩ := z
    rw [p_up_s]
    refine ⟨hv, e.trans ?_⟩
    unfold fmid
    exact ⟨fun w => Or.inl ⟨by omega, w⟩, fun w => w.elim (·.2) (fun u => absurd u.1 (by omega))⟩
  · rw [p_up_n _ _ _ _ _ _ (Or.inr (by omega))]
    refine ⟨(R x y hx hy).1, (R x y hx hy).2.trans ?_⟩
    unfold fmid
    have : (x < a ∨ (x = a ∧ y < b)) ↔ (x < a ∨ (x = a ∧ y < b + 1)) := by omega
    rw [this]
theorem mn_w10 {f : Nat → Nat → Prop} {n k a : Nat} (hn : n ≤ 16) (hk : k < n) (ha : a < n) : ∀ (m b : Nat) {h : am_H}, b + m = n → h 254 122 = (n : Int) → wR (fmid f k a b) n h → ∃ h' u3, am_E (am_D d) m_17_168 (.inl 10) [some (am_r (am_a 254)), some (am_i (k : Int)), some (am_i (a : Int)), some (am_i (b : Int))] [] (zS L, h) = am_E (am_D d) m_17_168 (.inl 9) [some (am_r (am_a 254)), some (am_i (k : Int)), some (am_i ((a + 1 : Nat) : Int)), u3] [] (zS L, h') ∧ wR (fmid f k a n) n h' ∧ p_fr [352] [] h h'
  | 0, b, h, hm, hh, R => by
    rw [q_17_168_10, hh, if_neg (by omega), p_w (by omega) (by omega)]
    exact ⟨h, _, rfl, by rw [show n = b by omega]; rw [show n = b by omega] at R; exact R, p_fr.refl h⟩
  | m + 1, b, h, hm, hh, R => by
    have hb : b < n := by omega
    have r1 := R a b ha hb
    have r2 := R a k ha hk
    have r3 := R k b hk hb
    rw [(fmid_k f k a b a b).1] at r2
    rw [(fmid_k f k a b a b).2] at r3
    have r1' : h 352 (16 * a + b) = 1 ↔ f a b := r1.2.trans (by unfold fmid; exact ⟨fun w => w.elim (fun u => absurd u.1 (by omega)) (·.2), fun w => Or.inr ⟨by omega, w⟩⟩)
    have nx : ∀ v : Int, (v = 0 ∨ v = 1) → (v = 1 ↔ fw f k a b) → ∃ h' u3, am_E (am_D d) m_17_168 (.inl 10) [some (am_r (am_a 254)), some (am_i (k : Int)), some (am_i (a : Int)), some (am_i ((b + 1 : Nat) : Int))] [] (zS L, am_up h 352 (16 * a + b) v) = am_E (am_D d) m_17_168 (.inl 9) [some (am_r (am_a 254)), some (am_i (k : Int)), some (am_i ((a + 1 : Nat) : Int)), u3] [] (zS L, h') ∧ wR (fmid f k a n) n h' ∧ p_fr [352] [] h h' := by
      intro v hv e
      obtain ⟨h', u3, q1, q2, q3⟩ := mn_w10 hn hk ha m (b + 1) (h := am_up h 352 (16 * a + b) v) (by omega) (by rw [p_up_c _ _ _ _ _ (by decide)]; exact hh) (R.mid hn ha hb hv e)
      exact ⟨h', u3, q1, q2, ((p_fr.refl h).upc _ _ _ rfl).trans q3⟩
    have i1 : ((16 : Int) * (a : Int) + (b : Int)).toNat = 16 * a + b := by omega
    have i2 : ((16 : Int) * (a : Int) + (k : Int)).toNat = 16 * a + k := by omega
    have i3 : ((16 : Int) * (k : Int) + (b : Int)).toNat = 16 * k + b := by omega
    rw [q_17_168_10, hh, if_pos (by omega), p_w (x := 16 * (a : Int)) (by omega) (by omega), p_w (x := 16 * (a : Int) + (b : Int)) (by omega) (by omega), p_idx (by omega) (by omega), i1, p_w (x := 16 * (a : Int) + (k : Int)) (by omega) (by omega), p_idx (by omega) (by omega), i2, p_w (x := 16 * (k : Int)) (by omega) (by omega), p_w (x := 16 * (k : Int) + (b : Int)) (by omega) (by omega), p_w (x := (b : Int) + 1) (by omega) (by omega)]
    by_cases y1 : h 352 (16 * a + b) = 0
    · rw [if_pos y1]
      by_cases y2 : h 352 (16 * a + k) = 0
      · rw [if_pos y2, p_bit0, p_idx (by omega) (by omega), i1]
        exact nx 0 (Or.inl rfl) ⟨fun z => absurd z (by decide), fun z => by
          rcases z with w | ⟨w, -⟩
          · have := r1'.2 w; omega
          · have := r2.2.2 w; omega⟩
      · rw [if_neg y2, p_idx (by omega) (by omega), i3]
        by_cases y3 : h 352 (16 * k + b) = 0
        · rw [if_pos y3, p_bit0, p_idx (by omega) (by omega), i1]
          exact nx 0 (Or.inl rfl) ⟨fun z => absurd z (by decide), fun z => by
            rcases z with w | ⟨-, w⟩
            · have := r1'.2 w; omega
            · have := r3.2.2 w; omega⟩
        · rw [if_neg y3, p_bit1, p_idx (by omega) (by omega), i1]
          exact nx 1 (Or.inr rfl) ⟨fun _ => Or.inr ⟨r2.2.1 (by omega), r3.2.1 (by omega)⟩, fun _ => rfl⟩
    · rw [if_neg y1, p_bit1, p_idx (by omega) (by omega), i1]
      exact nx 1 (Or.inr rfl) ⟨fun _ => Or.inl (r1'.1 (by omega)), fun _ => rfl⟩
theorem mn_w9 {f : Nat → Nat → Prop} {n k : Nat} (hn : n ≤ 16) (hk : k < n) : ∀ (m a : Nat) {h : am_H} (u3 : Option am_V), a + m = n → h 254 122 = (n : Int) → wR (fmid f k a 0) n h → ∃ h' w2 w3, am_E (am_D d) m_17_168 (.inl 9) [some (am_r (am_a 254)), some (am_i (k : Int)), some (am_i (a : Int)), u3] [] (zS L, h) = am_E (am_D d) m_17_168 (.inl 8) [some (am_r (am_a 254)), some (am_i ((k + 1 : Nat) : Int)), w2, w3] [] (zS L, h') ∧ wR (fw f k) n h' ∧ p_fr [352] [] h h'
  | 0, a, h, u3, hm, hh, R => by
    rw [q_17_168_9, hh, if_neg (by omega), p_w (by omega) (by omega)]
    refine ⟨h, _, _, rfl, R.cg (fun x y hx hy => ?_), p_fr.refl h⟩
    unfold fmid
    exact ⟨fun w => w.elim (·.2) (fun u => absurd u.1 (by omega)), fun w => Or.inl ⟨by omega, w⟩⟩
  | m + 1, a, h, u3, hm, hh, R => by
    rw [q_17_168_9, hh, if_pos (by omega)]
    obtain ⟨h1, u3, q1, q2, q3⟩ := mn_w10 (d := d) (L := L) hn hk (show a < n by omega) n 0 (by omega) hh R
    rw [show ((0 : Nat) : Int) = 0 from rfl] at q1
    rw [q1]
    obtain ⟨h2, u2, u3, s1, s2, s3⟩ := mn_w9 hn hk m (a + 1) u3 (by omega) (by rw [q3 254 122 rfl rfl]; exact hh) (q2.cg (fun x y hx hy => by
      unfold fmid
      have : (x < a ∨ (x = a ∧ y < n)) ↔ (x < a + 1 ∨ (x = a + 1 ∧ y < 0)) := by omega
      rw [this]))
    exact ⟨h2, u2, u3, s1, s2, q3.trans s3⟩
theorem mn_w8 {f : Nat → Nat → Prop} {n : Nat} (hn : n ≤ 16) : ∀ (m k : Nat) {h : am_H} (u2 u3 : Option am_V), k + m = n → h 254 122 = (n : Int) → wR (wit f k) n h → ∃ h' w2 w3, am_E (am_D d) m_17_168 (.inl 8) [some (am_r (am_a 254)), some (am_i (k : Int)), u2, u3] [] (zS L, h) = am_E (am_D d) m_17_168 (.inl 17) [some (am_r (am_a 254)), some (am_i 0), w2, w3] [] (zS L, h') ∧ wR (wit f n) n h' ∧ p_fr [352] [] h h'
  | 0, k, h, u2, u3, hm, hh, R => by
    rw [q_17_168_8, hh, if_neg (by omega)]
    exact ⟨h, _, _, rfl, by rw [show n = k by omega]; rw [show n = k by omega] at R; exact R, p_fr.refl h⟩
  | m + 1, k, h, u2, u3, hm, hh, R => by
    rw [q_17_168_8, hh, if_pos (by omega)]
    obtain ⟨h1, w2, w3, q1, q2, q3⟩ := mn_w9 (d := d) (L := L) (f := wit f k) hn (show k < n by omega) n 0 u3 (by omega) hh (R.cg (fun x y hx hy => by
      unfold fmid
      exact ⟨fun w => Or.inr ⟨by omega, w⟩, fun w => w.elim (fun u => absurd u.1 (by omega)) (·.2)⟩))
    rw [show ((0 : Nat) : Int) = 0 from rfl] at q1
    rw [q1]
    obtain ⟨h2, u2, u3, s1, s2, s3⟩ := mn_w8 hn m (k + 1) w2 w3 (by omega) (by rw [q3 254 122 rfl rfl]; exact hh) q2
    exact ⟨h2, u2, u3, s1, s2, q3.trans s3⟩
theorem mn_wz (u2 u3 : Option am_V) : ∀ (m j : Nat) {h : am_H}, j + m = 256 → (∀ a, a < j → h 352 a = 0) → ∃ h', am_E (am_D d) m_17_168 (.inl 1) [some (am_r (am_a 254)), some (am_i (j : Int)), u2, u3] [] (zS L, h) = am_E (am_D d) m_17_168 (.inl 3) [some (am_r (am_a 254)), some (am_i 0), u2, u3] [] (zS L, h') ∧ (∀ a, a < 256 → h' 352 a = 0) ∧ p_fr [352] [] h h'
  | 0, j, h, hm, H => by
    rw [q_17_168_1, if_neg (by omega)]
    exact ⟨h, rfl, fun a ha => H a (by omega), p_fr.refl h⟩
  | m + 1, j, h, hm, H => by
    rw [q_17_168_1, if_pos (by omega), p_bit0, p_idx (by omega) (by omega), Int.toNat_natCast, p_w (by omega) (by omega)]
    obtain ⟨h', r1, r2, r3⟩ := mn_wz u2 u3 m (j + 1) (h := am_up h 352 j 0) (by omega) (fun a ha => by
      by_cases ea : a = j
      · rw [ea, p_up_s]
      · rw [p_up_n _ _ _ _ _ _ (Or.inr ea)]; exact H a (by omega))
    exact ⟨h', r1, r2, ((p_fr.refl h).upc _ _ _ rfl).trans r3⟩
/-- edges of the chips before c, and of the first parts of chip c -/
def edb (V : Nat → Int) (chs : List cCh) (c : Nat) (ps : List (Nat × List cLk)) (a b : Nat) : Prop := (a < c ∧ ed V chs a b) ∨ (a = c ∧ ∃ q ∈ ps, kOf V chs (V q.1) = some (2 + b))
theorem mI.w (I : mI K V chs c h) (f1 : p_fr [352] [] h h') : mI K V chs c h' := fun c' ch' hl hc' => by
  obtain ⟨x1, x2⟩ := I c' ch' hl hc'
  refine ⟨fun j hj => by rw [f1.cell 347 rfl rfl]; exact x1 j hj, fun a q ha => by rw [f1.cell 349 rfl rfl]; exact x2 a q ha⟩
theorem mn_we4 (hc : chs[c]? = some ch) : ∀ (m p : Nat) {h : am_H} (u3 : Option am_V), p + m = ch.2.2.2.1.length → mQ K V P W Z chs h → mI K V chs chs.length h → wR (edb V chs c (ch.2.2.2.1.take p)) chs.length h → ∃ h' w2, am_E (am_D d) m_17_168 (.inl 4) [some (am_r (am_a 254)), some (am_i (c : Int)), some (am_i ((oT chs c + p : Nat) : Int)), u3] [] (zS L, h) = am_E (am_D d) m_17_168 (.inl 3) [some (am_r (am_a 254)), some (am_i ((c + 1 : Nat) : Int)), w2, u3] [] (zS L, h') ∧ wR (edb V chs (c + 1) []) chs.length h' ∧ p_fr [352] [] h h'
  | 0, p, h, u3, hm, Q, I, R => by
    have l16 := Q.2.1.2
    have hcl := (List.getElem?_eq_some_iff.1 hc).1
    have on := oT_n hc
    rw [q_17_168_4, p_w (by omega) (by omega), p_idx (by omega) (by omega), show ((c : Int) + 1).toNat = c + 1 by omega, (Q.2.2.2.2.1 (c + 1) (by omega)).2.1, on, if_neg (by omega)]
    rw [List.take_of_length_le (by omega)] at R
    refine ⟨h, _, rfl, R.cg (fun a b ha hb => ?_), p_fr.refl h⟩
    unfold edb
    constructor
    · rintro (⟨z1, z2⟩ | ⟨z1, q, z3, z4⟩)
      · exact Or.inl ⟨by omega, z2⟩
      · exact Or.inl ⟨by omega, ch, q, by rw [z1]; exact hc, z3, z4⟩
    · rintro (⟨z1, z2⟩ | ⟨z1, q, z3, z4⟩)
      · by_cases e : a = c
        · obtain ⟨ch', q, y1, y2, y3⟩ := z2
          rw [e, hc] at y1; cases y1
          exact Or.inr ⟨e, q, y2, y3⟩
        · exact Or.inl ⟨by omega, z2⟩
      · exact absurd z3 List.not_mem_nil
  | m + 1, p, h, u3, hm, Q, I, R => by
    have l16 := Q.2.1.2
    have hcl := (List.getElem?_eq_some_iff.1 hc).1
    have on := oT_n hc
    have b2 := Q.2.2.1.2.1
    have tk : oT chs (c + 1) ≤ (aT chs).length := flat_le _ chs (c + 1)
    have hpl : p < ch.2.2.2.1.length := by omega
    obtain ⟨q, hqe⟩ : ∃ q, q = ch.2.2.2.1[p] := ⟨_, rfl⟩
    have hqp : ch.2.2.2.1[p]? = some q := by rw [hqe]; exact List.getElem?_eq_getElem hpl
    have k9 := (I c ch hcl hc).2 p q hqp
    have nx : ∀ {h1 : am_H}, p_fr [352] [] h h1 → wR (edb V chs c (ch.2.2.2.1.take (p + 1))) chs.length h1 → ∃ h' w2, am_E (am_D d) m_17_168 (.inl 4) [some (am_r (am_a 254)), some (am_i (c : Int)), some (am_i ((oT chs c + (p + 1) : Nat) : Int)), u3] [] (zS L, h1) = am_E (am_D d) m_17_168 (.inl 3) [some (am_r (am_a 254)), some (am_i ((c + 1 : Nat) : Int)), w2, u3] [] (zS L, h') ∧ wR (edb V chs (c + 1) []) chs.length h' ∧ p_fr [352] [] h h' := fun {h1} f1 R1 => by
      obtain ⟨h', u2, r1, r2, r3⟩ := mn_we4 hc m (p + 1) u3 (by omega) (Q.fr (f1.mono rfl rfl)) (I.w f1) R1
      exact ⟨h', u2, r1, r2, f1.trans r3⟩
    have tks : ∀ a b, edb V chs c (ch.2.2.2.1.take (p + 1)) a b ↔ edb V chs c (ch.2.2.2.1.take p) a b ∨ (a = c ∧ kOf V chs (V q.1) = some (2 + b)) := fun a b => by
      rw [List.take_succ_eq_append_getElem hpl, ← hqe]
      unfold edb
      constructor
      · rintro (z | ⟨z1, q', z2, z3⟩)
        · exact Or.inl (Or.inl z)
        · rcases List.mem_append.1 z2 with w | w
          · exact Or.inl (Or.inr ⟨z1, q', w, z3⟩)
          · rw [List.mem_singleton.1 w] at z3; exact Or.inr ⟨z1, z3⟩
      · rintro ((z | ⟨z1, q', z2, z3⟩) | ⟨z1, z2⟩)
        · exact Or.inl z
        · exact Or.inr ⟨z1, q', List.mem_append_left _ z2, z3⟩
        · exact Or.inr ⟨z1, q, List.mem_append_right _ (List.mem_singleton.2 rfl), z2⟩
    rw [q_17_168_4, p_w (x := (c : Int) + 1) (by omega) (by omega), p_idx (by omega) (by omega), show ((c : Int) + 1).toNat = c + 1 by omega, (Q.2.2.2.2.1 (c + 1) (by omega)).2.1, on, if_pos (by omega), p_idx (by omega) (by omega), Int.toNat_natCast, k9, p_w (x := ((oT chs c + p : Nat) : Int) + 1) (by omega) (by omega), show ((oT chs c + p : Nat) : Int) + 1 = ((oT chs c + (p + 1) : Nat) : Int) by omega]
    by_cases k1 : 1 < kInt (kOf V chs (V q.1))
    · obtain ⟨b, hb⟩ : ∃ b, kOf V chs (V q.1) = some (2 + b) := by
        cases hk : kOf V chs (V q.1) with
        | none => rw [hk] at k1; exact absurd k1 (by decide)
        | some k =>
          rw [hk] at k1
          have : (1 : Int) < (k : Int) := k1
          exact ⟨k - 2, by rw [show 2 + (k - 2) = k by omega]⟩
      have bl := kOf_rg hb
      have ki : kInt (kOf V chs (V q.1)) = ((2 + b : Nat) : Int) := by rw [hb]; rfl
      rw [if_pos k1, p_idx (by omega) (by omega), Int.toNat_natCast, k9, ki, p_bit1, p_w (x := 16 * (c : Int)) (by omega) (by omega), p_w (x := 16 * (c : Int) + ((2 + b : Nat) : Int)) (by omega) (by omega), p_w (by omega) (by omega), p_idx (by omega) (by omega), show (16 * (c : Int) + ((2 + b : Nat) : Int) - 2).toNat = 16 * c + b by omega]
      refine nx ((p_fr.refl h).upc _ _ _ rfl) (fun x y hx hy => ?_)
      rw [tks]
      by_cases e : x = c ∧ y = b
      · obtain ⟨rfl, rfl⟩ := e
        rw [p_up_s]
        exact ⟨Or.inr rfl, fun _ => Or.inr ⟨rfl, hb⟩, fun _ => rfl⟩
      · rw [p_up_n _ _ _ _ _ _ (Or.inr (by omega))]
        refine ⟨(R x y hx hy).1, fun z => Or.inl ((R x y hx hy).2.1 z), fun z => ?_⟩
        rcases z with w | ⟨w1, w2⟩
        · exact (R x y hx hy).2.2 w
        · rw [hb] at w2
          have := Option.some.inj w2
          exact absurd ⟨w1, by omega⟩ e
    · rw [if_neg k1]
      refine nx (p_fr.refl h) (R.cg (fun x y hx hy => ?_))
      rw [tks]
      refine ⟨Or.inl, fun z => ?_⟩
      rcases z with w | ⟨w1, w2⟩
      · exact w
      · rw [w2] at k1
        have : ¬ (1 : Int) < ((2 + y : Nat) : Int) := k1
        omega
theorem mn_we3 : ∀ (m c : Nat) {h : am_H} (u2 u3 : Option am_V), c + m = chs.length → mQ K V P W Z chs h → mI K V chs chs.length h → wR (edb V chs c []) chs.length h → ∃ h' w2, am_E (am_D d) m_17_168 (.inl 3) [some (am_r (am_a 254)), some (am_i (c : Int)), u2, u3] [] (zS L, h) = am_E (am_D d) m_17_168 (.inl 8) [some (am_r (am_a 254)), some (am_i 0), w2, u3] [] (zS L, h') ∧ wR (ed V chs) chs.length h' ∧ p_fr [352] [] h h'
  | 0, c, h, u2, u3, hm, Q, I, R => by
    rw [q_17_168_3, Q.2.1.1, if_neg (by omega)]
    refine ⟨h, _, rfl, R.cg (fun x y hx hy => ?_), p_fr.refl h⟩
    unfold edb
    refine ⟨fun z => ?_, fun z => Or.inl ⟨by omega, z⟩⟩
    rcases z with w | ⟨-, q, w, -⟩
    · exact w.2
    · exact absurd w List.not_mem_nil
  | m + 1, c, h, u2, u3, hm, Q, I, R => by
    have l16 := Q.2.1.2
    have hc : chs[c]? = some chs[c] := List.getElem?_eq_getElem (by omega)
    rw [q_17_168_3, Q.2.1.1, if_pos (by omega), p_idx (by omega) (by omega), Int.toNat_natCast, (Q.2.2.2.2.1 c (by omega)).2.1]
    obtain ⟨h1, w2, r1, r2, r3⟩ := mn_we4 (d := d) (L := L) hc chs[c].2.2.2.1.length 0 u3 (by omega) Q I (by rw [List.take_zero]; exact R)
    rw [show oT chs c + 0 = oT chs c from rfl] at r1
    rw [r1]
    obtain ⟨h2, w2, s1, s2, s3⟩ := mn_we3 m (c + 1) w2 u3 (by omega) (Q.fr (r3.mono rfl rfl)) (I.w r3) r2
    exact ⟨h2, w2, s1, s2, r3.trans s3⟩
/-- names stand in order -/
theorem pos_lt {f : Nat → Nat × Nat × Nat} {lo hi : Nat} (hf : posF K V chs f lo hi) : ∀ (m c : Nat) {ch ch' : cCh}, chs[c]? = some ch → chs[c + m + 1]? = some ch' → ch.1 < ch'.1
  | 0, c, ch, ch', h1, h2 => by
    obtain ⟨p1, p2, p3, p4, p5, p6⟩ := hf c ch h1
    have := p6 ch' h2
    have := pinT_rg p2
    have := ptsT_le _ _ _ p4 lksT_le
    omega
  | m + 1, c, ch, ch', h1, h2 => by
    have hl := (List.getElem?_eq_some_iff.1 h2).1
    have h3 : chs[c + 1]? = some chs[c + 1] := List.getElem?_eq_getElem (by omega)
    have a := pos_lt hf 0 c h1 h3
    have b := pos_lt hf m (c + 1) h3 (by rw [show c + 1 + m + 1 = c + (m + 1) + 1 by omega]; exact h2)
    omega
theorem mn_w17b (hP : ∀ x y, x < y → y ≤ Z → P x < P y) (hk : ∀ ch ∈ chs, ch.1 ≤ Z) {t : Nat} (u2 u3 : Option am_V) : ∀ (m c : Nat) {h : am_H}, c + m = chs.length → mQ K V P W Z chs h → nR (some (P t, 6)) h → (∀ c' ch, c ≤ c' → chs[c']? = some ch → t < ch.1) → am_E (am_D (d + 1)) m_17_168 (.inl 17) [some (am_r (am_a 254)), some (am_i (c : Int)), u2, u3] [] (zS L, h) = pV L h
  | 0, c, h, hm, Q, N, H => by rw [q_17_168_17, Q.2.1.1, if_neg (by omega)]
  | m + 1, c, h, hm, Q, N, H => by
    have l16 := Q.2.1.2
    have z2 := Q.1.1.1
    have hc : chs[c]? = some chs[c] := List.getElem?_eq_getElem (by omega)
    have hz := hk _ (List.mem_of_getElem? hc)
    have pl := hP _ _ (H c _ (Nat.le_refl _) hc) hz
    rw [q_17_168_17, Q.2.1.1, if_pos (by omega), p_w (x := 17 * (c : Int)) (by omega) (by omega), p_idx (by omega) (by omega), p_w (x := (c : Int) + 1) (by omega) (by omega)]
    have ih := mn_w17b hP hk u2 u3 m (c + 1) (by omega) Q N (fun c' ch h1 h2 => H c' ch (by omega) h2)
    by_cases y : h 352 (17 * (c : Int)).toNat = 0
    · rw [if_pos y]; exact ih
    · obtain ⟨n1, n2, n3⟩ := N
      dsimp only at n1 n2 n3
      rw [if_neg y, p_idx (by omega) (by omega), Int.toNat_natCast, Q.2.2.2.1 c _ hc, D_17_58, n1, n3, if_pos (by decide), p_idx (by omega) (by omega), Int.toNat_natCast, (Q.1.2.1 _ hz).2.1, if_pos pl, p_xV]
      exact ih
theorem mn_w17a (hP : ∀ x y, x < y → y ≤ Z → P x < P y) (hk : ∀ ch ∈ chs, ch.1 ≤ Z) (hm : ∀ (c c' : Nat) (ch ch' : cCh), c < c' → chs[c]? = some ch → chs[c']? = some ch' → ch.1 < ch'.1) (u2 u3 : Option am_V) : ∀ (m c : Nat) {h : am_H}, c + m = chs.length → mQ K V P W Z chs h → wR (rch V chs) chs.length h → h 254 69 = 0 → (∀ c', c' < c → ¬ rch V chs c' c') → (∃ c ch h', chs[c]? = some ch ∧ rch V chs c c ∧ (∀ c', c' < c → ¬ rch V chs c' c') ∧ am_E (am_D (d + 1)) m_17_168 (.inl 17) [some (am_r (am_a 254)), some (am_i ((chs.length - m : Nat) : Int)), u2, u3] [] (zS L, h) = pV L h' ∧ h' 254 69 = 6 ∧ h' 254 70 = P ch.1 ∧ p_fr [] ntF h h') ∨ ((∀ c, c < chs.length → ¬ rch V chs c c) ∧ am_E (am_D (d + 1)) m_17_168 (.inl 17) [some (am_r (am_a 254)), some (am_i ((chs.length - m : Nat) : Int)), u2, u3] [] (zS L, h) = pV L h)
  | 0, c, h, hm', Q, R, N, H => by
    right
    refine ⟨fun c' hc' => H c' (by omega), ?_⟩
    rw [q_17_168_17, Q.2.1.1, if_neg (by omega)]
  | m + 1, c, h, hm', Q, R, N, H => by
    have l16 := Q.2.1.2
    have z2 := Q.1.1.1
    have hc : chs[c]? = some chs[c] := List.getElem?_eq_getElem (by omega)
    have hz := hk _ (List.mem_of_getElem? hc)
    have rc := R c c (by omega) (by omega)
    rw [show 16 * c + c = 17 * c by omega] at rc
    rw [show chs.length - (m + 1) = c by omega, q_17_168_17, Q.2.1.1, if_pos (by omega), p_w (x := 17 * (c : Int)) (by omega) (by omega), p_idx (by omega) (by omega), p_w (x := (c : Int) + 1) (by omega) (by omega), show (17 * (c : Int)).toNat = 17 * c by omega]
    by_cases y : h 352 (17 * c) = 0
    · have nr : ¬ rch V chs c c := fun w => by have := rc.2.2 w; omega
      rw [if_pos y]
      have ih := mn_w17a hP hk hm u2 u3 m (c + 1) (by omega) Q R N (fun c' hc' => by
        by_cases e : c' = c
        · rw [e]; exact nr
        · exact H c' (by omega))
      rw [show chs.length - m = c + 1 by omega] at ih
      exact ih
    · have yr : rch V chs c c := rc.2.1 (by omega)
      left
      obtain ⟨h1, r1, r2, r3⟩ := mn_note (d := d) (L := L) (P := P) (F := none) N (show (0 : Int) < 6 by decide) (show chs[c].1 < 2002 by omega) ((Q.1.2.1 _ hz).2.1)
      have r2' : nR (some (P chs[c].1, 6)) h1 := r2
      rw [if_neg y, p_idx (by omega) (by omega), Int.toNat_natCast, Q.2.2.2.1 c _ hc, r1, p_xV]
      have fin := mn_w17b (d := d) (L := L) hP hk u2 u3 m (c + 1) (by omega) (Q.fr (nt_q r3)) r2' (fun c' ch h1 h2 => hm c c' _ ch (by omega) hc h2)
      exact ⟨c, _, h1, hc, yr, H, fin, r2'.1, r2'.2.2, r3⟩
/-- checkRing -/
theorem mn_ring (hP : ∀ x y, x < y → y ≤ Z → P x < P y) (hk : ∀ ch ∈ chs, ch.1 ≤ Z) {f : Nat → Nat × Nat × Nat} {lo hi : Nat} (hf : posF K V chs f lo hi) (Q : mQ K V P W Z chs h) (I : mI K V chs chs.length h) (N : h 254 69 = 0) : (∃ c ch h', chs[c]? = some ch ∧ rch V chs c c ∧ (∀ c', c' < c → ¬ rch V chs c' c') ∧ am_D (d + 2) 17 168 [am_r (am_a 254)] (zS L, h) = pV L h' ∧ h' 254 69 = 6 ∧ h' 254 70 = P ch.1 ∧ p_fr [352] ntF h h') ∨ ((∀ c, c < chs.length → ¬ rch V chs c c) ∧ ∃ h', am_D (d + 2) 17 168 [am_r (am_a 254)] (zS L, h) = pV L h' ∧ p_fr [352] [] h h') := by
  have l16 := Q.2.1.2
  obtain ⟨h1, r1, z1, f1⟩ := mn_wz (d := d + 1) (L := L) none none 256 0 (h := h) (by omega) (fun a ha => by omega)
  obtain ⟨h2, w2, r2, R2, f2⟩ := mn_we3 (d := d + 1) (L := L) chs.length 0 none none (by omega) (Q.fr (f1.mono rfl rfl)) (I.w f1) (fun x y hx hy => by
    rw [z1 _ (by omega)]
    refine ⟨Or.inl rfl, fun z => absurd z (by decide), fun z => ?_⟩
    rcases z with ⟨w, -⟩ | ⟨-, q, w, -⟩
    · omega
    · exact absurd w List.not_mem_nil)
  have f12 := f1.trans f2
  have Q2 := Q.fr (f12.mono rfl rfl)
  obtain ⟨h3, w2, w3, r3, R3, f3⟩ := mn_w8 (d := d + 1) (L := L) (f := ed V chs) l16 chs.length 0 w2 none (by omega) Q2.2.1.1 R2
  have f13 := f12.trans f3
  have Q3 := Q.fr (f13.mono rfl rfl)
  have R3' : wR (rch V chs) chs.length h3 := R3.cg (fun x y _ _ => wit_all x y)
  rw [show ((0 : Nat) : Int) = 0 from rfl] at r1 r2 r3
  rw [D_17_168, r1, r2, r3]
  have hm : ∀ (c c' : Nat) (ch ch' : cCh), c < c' → chs[c]? = some ch → chs[c']? = some ch' → ch.1 < ch'.1 := fun c c' ch ch' hl h1 h2 => pos_lt hf (c' - c - 1) c h1 (by rw [show c + (c' - c - 1) + 1 = c' by omega]; exact h2)
  have fin := mn_w17a (d := d) (L := L) hP hk hm w2 w3 chs.length 0 (by omega) Q3 R3' (by rw [f13 254 69 rfl rfl]; exact N) (fun c' hc' => by omega)
  rw [Nat.sub_self, show ((0 : Nat) : Int) = 0 from rfl] at fin
  rcases fin with ⟨c, ch, h', i1, i2, i3, i4, i5, i6, i7⟩ | ⟨i1, i2⟩
  · exact Or.inl ⟨c, ch, h', i1, i2, i3, i4, i5, i6, (f13.mono rfl rfl).trans (i7.mono rfl rfl)⟩
  · exact Or.inr ⟨i1, h3, i2, f13⟩
end
