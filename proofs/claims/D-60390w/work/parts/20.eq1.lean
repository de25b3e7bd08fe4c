/-! block equations, printed by gen/eqs.py: q_c_i_k: class c, method i, block k; D_c_i: the call itself; (zS L, h): shapes and numbers -/
-- TowerComputer.spell(Ljava/lang/String;I)I
theorem q_0_3_0 (d L : Nat) (h : am_H) (X1 : am_R) (x2 : Int) :
    am_E (am_D d) m_0_3 (.inl 0) [some (am_r (am_a 1)), some (am_r (X1)), some (am_i x2), none] [] (zS L, h) =
    am_E (am_D d) m_0_3 (.inl 1) [some (am_r (am_a 1)), some (am_r (X1)), some (am_i x2), some (am_i 0)] [] (zS L, h) := (am_cut _ _ 8 0 _ _ _).trans rfl
theorem D_0_3 (d L : Nat) (h : am_H) (X1 : am_R) (x2 : Int) :
    am_D (d + 1) 0 3 [am_r (am_a 1), am_r (X1), am_i x2] (zS L, h) =
    am_E (am_D d) m_0_3 (.inl 1) [some (am_r (am_a 1)), some (am_r (X1)), some (am_i x2), some (am_i 0)] [] (zS L, h) := (q_0_3_0 d L h X1 x2)
set_option maxRecDepth 20000 in
theorem q_0_3_1 (d L : Nat) (h : am_H) (X1 : am_R) (x2 : Int) (x3 : Int) :
    am_E (am_D d) m_0_3 (.inl 1) [some (am_r (am_a 1)), some (am_r (X1)), some (am_i x2), some (am_i x3)] [] (zS L, h) =
    am_ct (X1) fun j1 => cond (Nat.blt j1 am_ns) (if (x3 : Int) < (am_sl j1 : Nat) then am_ct (X1) fun j6 => cond (Nat.blt j6 am_ns) (am_idx x3 (am_sl j6) fun k5 => am_idx (am_w (x2 + x3)) 16000 fun k7 => am_E (am_D d) m_0_3 (.inl 1) [some (am_r (am_a 1)), some (am_r (X1)), some (am_i x2), some (am_i (am_w (x3 + 1)))] [] (zS L, (am_up h 3 k7 (am_s8 (am_s8 (am_sc j6 k5)))))) none else am_ct (X1) fun j2 => cond (Nat.blt j2 am_ns) (am_idx (am_w (x2 + (am_sl j2 : Nat))) 16000 fun k3 => am_ct (X1) fun j4 => cond (Nat.blt j4 am_ns) (some (.inl (some (am_i (am_w ((am_w (x2 + (am_sl j4 : Nat))) + 1)))), (zS L, (am_up h 3 k3 (am_s8 32))))) none) none) none := (am_cut _ _ 36 1 _ _ _).trans rfl
-- TowerComputer.name(Ljava/lang/String;)I
set_option maxRecDepth 20000 in
theorem q_0_4_0 (d L : Nat) (h : am_H) (X1 : am_R) :
    am_E (am_D d) m_0_4 (.inl 0) [some (am_r (am_a 1)), some (am_r (X1))] [] (zS L, h) =
    am_xI (zS L) (am_D d 0 3 [am_r (am_a 1), am_r (X1), am_i 0] (zS L, h)) (am_up1 (zS L)) fun v2 h1 => am_ct (X1) fun j3 => cond (Nat.blt j3 am_ns) (am_xI (zS L) (am_D d 9 1 [am_r (am_a 4), am_r (am_a 3), am_i 0, am_i ((am_sl j3 : Nat))] (zS L, h1)) (am_up1 (zS L)) fun v5 h4 => some (.inl (some (am_i v5)), (zS L, h4))) none := (am_cut _ _ 19 0 _ _ _).trans rfl
theorem D_0_4 (d L : Nat) (h : am_H) (X1 : am_R) :
    am_D (d + 1) 0 4 [am_r (am_a 1), am_r (X1)] (zS L, h) =
    am_xI (zS L) (am_D d 0 3 [am_r (am_a 1), am_r (X1), am_i 0] (zS L, h)) (am_up1 (zS L)) fun v2 h1 => am_ct (X1) fun j3 => cond (Nat.blt j3 am_ns) (am_xI (zS L) (am_D d 9 1 [am_r (am_a 4), am_r (am_a 3), am_i 0, am_i ((am_sl j3 : Nat))] (zS L, h1)) (am_up1 (zS L)) fun v5 h4 => some (.inl (some (am_i v5)), (zS L, h4))) none := (q_0_4_0 d L h X1)
-- TowerComputer.put(I)V
theorem q_0_5_0 (d L : Nat) (h : am_H) (x1 : Int) :
    am_E (am_D d) m_0_5 (.inl 0) [some (am_r (am_a 1)), some (am_i x1), none] [] (zS L, h) =
    am_E (am_D d) m_0_5 (.inl 1) [some (am_r (am_a 1)), some (am_i x1), some (am_i 0)] [] (zS L, h) := (am_cut _ _ 8 0 _ _ _).trans rfl
theorem D_0_5 (d L : Nat) (h : am_H) (x1 : Int) :
    am_D (d + 1) 0 5 [am_r (am_a 1), am_i x1] (zS L, h) =
    am_E (am_D d) m_0_5 (.inl 1) [some (am_r (am_a 1)), some (am_i x1), some (am_i 0)] [] (zS L, h) := (q_0_5_0 d L h x1)
set_option maxRecDepth 20000 in
theorem q_0_5_1 (d L : Nat) (h : am_H) (x1 : Int) (x2 : Int) :
    am_E (am_D d) m_0_5 (.inl 1) [some (am_r (am_a 1)), some (am_i x1), some (am_i x2)] [] (zS L, h) =
    if (x2 : Int) < 4 then am_idx (h 1 2) 4000 fun k1 => am_E (am_D d) m_0_5 (.inl 1) [some (am_r (am_a 1)), some (am_i x1), some (am_i (am_w (x2 + 1)))] [] (zS L, (am_up (am_up h 2 k1 (am_s8 (am_s8 (am_shr x1 (am_w (24 - (am_w (8 * x2)))))))) 1 2 (am_w (h 1 2 + 1)))) else some (.inl none, (zS L, h)) := (am_cut _ _ 30 1 _ _ _).trans rfl
-- TowerComputer.feed(IIIII)Z
set_option maxRecDepth 20000 in
theorem q_0_6_0 (d L : Nat) (h : am_H) (x1 : Int) (x2 : Int) (x3 : Int) (x4 : Int) (x5 : Int) :
    am_E (am_D d) m_0_6 (.inl 0) [some (am_r (am_a 1)), some (am_i x1), some (am_i x2), some (am_i x3), some (am_i x4), some (am_i x5)] [] (zS L, h) =
    if (4000 : Int) < am_w (h 1 2 + 20) then am_bit 0 (some (.inl (some (am_i 0)), (zS L, h))) else am_xV (zS L) (am_D d 0 5 [am_r (am_a 1), am_i x1] (zS L, h)) (am_up1 (zS L)) fun h1 => am_xV (zS L) (am_D d 0 5 [am_r (am_a 1), am_i x2] (zS L, h1)) (am_up1 (zS L)) fun h2 => am_xV (zS L) (am_D d 0 5 [am_r (am_a 1), am_i x3] (zS L, h2)) (am_up1 (zS L)) fun h3 => am_xV (zS L) (am_D d 0 5 [am_r (am_a 1), am_i x4] (zS L, h3)) (am_up1 (zS L)) fun h4 => am_xV (zS L) (am_D d 0 5 [am_r (am_a 1), am_i x5] (zS L, h4)) (am_up1 (zS L)) fun h5 => am_bit 1 (some (.inl (some (am_i 1)), (zS L, h5))) := (am_cut _ _ 30 0 _ _ _).trans rfl
theorem D_0_6 (d L : Nat) (h : am_H) (x1 : Int) (x2 : Int) (x3 : Int) (x4 : Int) (x5 : Int) :
    am_D (d + 1) 0 6 [am_r (am_a 1), am_i x1, am_i x2, am_i x3, am_i x4, am_i x5] (zS L, h) =
    if (4000 : Int) < am_w (h 1 2 + 20) then am_bit 0 (some (.inl (some (am_i 0)), (zS L, h))) else am_xV (zS L) (am_D d 0 5 [am_r (am_a 1), am_i x1] (zS L, h)) (am_up1 (zS L)) fun h1 => am_xV (zS L) (am_D d 0 5 [am_r (am_a 1), am_i x2] (zS L, h1)) (am_up1 (zS L)) fun h2 => am_xV (zS L) (am_D d 0 5 [am_r (am_a 1), am_i x3] (zS L, h2)) (am_up1 (zS L)) fun h3 => am_xV (zS L) (am_D d 0 5 [am_r (am_a 1), am_i x4] (zS L, h3)) (am_up1 (zS L)) fun h4 => am_xV (zS L) (am_D d 0 5 [am_r (am_a 1), am_i x5] (zS L, h4)) (am_up1 (zS L)) fun h5 => am_bit 1 (some (.inl (some (am_i 1)), (zS L, h5))) := (q_0_6_0 d L h x1 x2 x3 x4 x5)
-- TowerComputer.load(I)I
set_option maxRecDepth 20000 in
theorem q_0_7_0 (d L : Nat) (h : am_H) (x1 : Int) :
    am_E (am_D d) m_0_7 (.inl 0) [some (am_r (am_a 1)), some (am_i x1), none, none] [] (zS L, h) =
    if (x1 : Int) < 0 then some (.inl (some (am_i (-1))), (zS L, h)) else if (h 1 2 : Int) < x1 then some (.inl (some (am_i (-1))), (zS L, h)) else am_E (am_D d) m_0_7 (.inl 3) [some (am_r (am_a 1)), some (am_i x1), some (am_i 0), none] [] (zS L, h) := (am_cut _ _ 19 0 _ _ _).trans rfl
theorem D_0_7 (d L : Nat) (h : am_H) (x1 : Int) :
    am_D (d + 1) 0 7 [am_r (am_a 1), am_i x1] (zS L, h) =
    if (x1 : Int) < 0 then some (.inl (some (am_i (-1))), (zS L, h)) else if (h 1 2 : Int) < x1 then some (.inl (some (am_i (-1))), (zS L, h)) else am_E (am_D d) m_0_7 (.inl 3) [some (am_r (am_a 1)), some (am_i x1), some (am_i 0), none] [] (zS L, h) := (q_0_7_0 d L h x1)
set_option maxRecDepth 20000 in
theorem q_0_7_3 (d L : Nat) (h : am_H) (x1 : Int) (x2 : Int) (u3 : Option am_V) :
    am_E (am_D d) m_0_7 (.inl 3) [some (am_r (am_a 1)), some (am_i x1), some (am_i x2), u3] [] (zS L, h) =
    if (x2 : Int) < x1 then am_idx x2 4000 fun k2 => am_idx x2 16000 fun k3 => am_E (am_D d) m_0_7 (.inl 3) [some (am_r (am_a 1)), some (am_i x1), some (am_i (am_w (x2 + 1))), u3] [] (zS L, (am_up h 3 k3 (am_s8 (h 2 k2)))) else if (h 1 19 : Int) = 0 then am_E (am_D d) m_0_7 (.inl 5) [some (am_r (am_a 1)), some (am_i x1), some (am_i x2), u3] [] (zS L, (am_up h 1 2 (0))) else am_xV (zS L) (am_D d 7 28 [am_r (am_a 212)] (zS L, (am_up h 1 2 (0)))) (am_up1 (zS L)) fun h1 => am_E (am_D d) m_0_7 (.inl 5) [some (am_r (am_a 1)), some (am_i x1), some (am_i x2), u3] [] (zS L, h1) := (am_cut _ _ 28 3 _ _ _).trans rfl
set_option maxRecDepth 20000 in
theorem q_0_7_5 (d L : Nat) (h : am_H) (x1 : Int) (u2 : Option am_V) (u3 : Option am_V) :
    am_E (am_D d) m_0_7 (.inl 5) [some (am_r (am_a 1)), some (am_i x1), u2, u3] [] (zS L, h) =
    am_bit 1 (am_xV (zS L) (am_D d 9 4 [am_r (am_a 4), am_i (h 1 6)] (zS L, (am_up h 1 19 (1)))) (am_up1 (zS L)) fun h1 => am_xI (zS L) (am_D d 7 26 [am_r (am_a 212), am_i x1, am_i 0] (zS L, (am_up (am_up (am_up h1 8 3 (h1 1 4)) 8 4 (h1 1 7)) 12 3 (h1 1 5)))) (am_up1 (zS L)) fun v3 h2 => if (v3 : Int) = 0 then am_E (am_D d) m_0_7 (.inl 7) [some (am_r (am_a 1)), some (am_i x1), some (am_i v3), u3] [am_i 1, am_r (am_a 1)] (zS L, h2) else am_E (am_D d) m_0_7 (.inl 7) [some (am_r (am_a 1)), some (am_i x1), some (am_i v3), u3] [am_i 0, am_r (am_a 1)] (zS L, h2)) := (am_cut _ _ 41 5 _ _ _).trans rfl
set_option maxRecDepth 20000 in
theorem q_0_7_7 (d L : Nat) (h : am_H) (u1 : Option am_V) (x2 : Int) (u3 : Option am_V) (s0 : Int) :
    am_E (am_D d) m_0_7 (.inl 7) [some (am_r (am_a 1)), u1, some (am_i x2), u3] [am_i s0, am_r (am_a 1)] (zS L, h) =
    am_bit s0 (am_idx 0 4500 fun k1 => if (s0 : Int) = 0 then some (.inl (some (am_i x2)), (zS L, (am_up (am_up (am_up h 1 18 (s0)) 1 3 (h 212 10)) 1 17 (h 243 k1)))) else am_xV (zS L) (am_D d 14 29 [am_r (am_a 12), am_r (am_a 8), am_i (h 1 4), am_r (am_a 217), am_i 1] (zS L, (am_up (am_up (am_up h 1 18 (s0)) 1 3 (h 212 10)) 1 17 (h 243 k1)))) (am_up1 (zS L)) fun h2 => am_xV (zS L) (am_D d 7 27 [am_r (am_a 212), am_r (am_a 211)] (zS L, h2)) (am_up1 (zS L)) fun h3 => am_xI (zS L) (am_D d 14 2 [am_r (am_a 12), am_i 129] (zS L, h3)) (am_up1 (zS L)) fun v5 h4 => am_xV (zS L) (am_D d 14 9 [am_r (am_a 12), am_i v5] (zS L, h4)) (am_up1 (zS L)) fun h6 => am_xV (zS L) (am_D d 14 29 [am_r (am_a 12), am_r (am_a 8), am_i (h2 8 3), am_r (am_a 217), am_i 0] (zS L, h6)) (am_up1 (zS L)) fun h7 => am_xV (zS L) (am_D d 14 30 [am_r (am_a 12), am_i 0] (zS L, h7)) (am_up1 (zS L)) fun h8 => some (.inl (some (am_i 0)), (zS L, h8))) := (am_cut _ _ 67 7 _ _ _).trans rfl
-- TowerComputer.command(II)I
set_option maxRecDepth 20000 in
theorem q_0_8_0 (d L : Nat) (h : am_H) (x1 : Int) (x2 : Int) :
    am_E (am_D d) m_0_8 (.inl 0) [some (am_r (am_a 1)), some (am_i x1), some (am_i x2)] [] (zS L, h) =
    if (h 1 18 : Int) = 0 then some (.inl (some (am_i (-1))), (zS L, h)) else if (x1 : Int) < 0 then some (.inl (some (am_i (-1))), (zS L, h)) else if (x1 : Int) < h 235 3 then if (x2 : Int) < 0 then some (.inl (some (am_i (-1))), (zS L, h)) else if (2 : Int) < x2 then some (.inl (some (am_i (-1))), (zS L, h)) else am_xI (zS L) (am_D d 8 2 [am_r (am_a 235), am_i x1, am_i x2] (zS L, h)) (am_up1 (zS L)) fun v2 h1 => some (.inl (some (am_i v2)), (zS L, h1)) else some (.inl (some (am_i (-1))), (zS L, h)) := (am_cut _ _ 44 0 _ _ _).trans rfl
theorem D_0_8 (d L : Nat) (h : am_H) (x1 : Int) (x2 : Int) :
    am_D (d + 1) 0 8 [am_r (am_a 1), am_i x1, am_i x2] (zS L, h) =
    if (h 1 18 : Int) = 0 then some (.inl (some (am_i (-1))), (zS L, h)) else if (x1 : Int) < 0 then some (.inl (some (am_i (-1))), (zS L, h)) else if (x1 : Int) < h 235 3 then if (x2 : Int) < 0 then some (.inl (some (am_i (-1))), (zS L, h)) else if (2 : Int) < x2 then some (.inl (some (am_i (-1))), (zS L, h)) else am_xI (zS L) (am_D d 8 2 [am_r (am_a 235), am_i x1, am_i x2] (zS L, h)) (am_up1 (zS L)) fun v2 h1 => some (.inl (some (am_i v2)), (zS L, h1)) else some (.inl (some (am_i (-1))), (zS L, h)) := (q_0_8_0 d L h x1 x2)
-- TowerComputer.signs(I)I
set_option maxRecDepth 20000 in
theorem q_0_9_0 (d L : Nat) (h : am_H) (x1 : Int) :
    am_E (am_D d) m_0_9 (.inl 0) [some (am_r (am_a 1)), some (am_i x1), none] [] (zS L, h) =
    if (x1 : Int) < 0 then some (.inl (some (am_i (-1))), (zS L, h)) else if (h 1 2 : Int) < x1 then some (.inl (some (am_i (-1))), (zS L, h)) else am_xV (zS L) (am_D d 0 10 [am_r (am_a 1), am_i x1] (zS L, h)) (am_up1 (zS L)) fun h1 => am_xV (zS L) (am_D d 1 1 [am_r (am_a 34)] (zS L, h1)) (am_up1 (zS L)) fun h2 => am_xI (zS L) (am_D d 11 6 [am_r (am_a 23), am_i x1] (zS L, h2)) (am_up1 (zS L)) fun v4 h3 => some (.inl (some (am_i v4)), (zS L, (am_up h3 1 3 (h3 23 14)))) := (am_cut _ _ 34 0 _ _ _).trans rfl
theorem D_0_9 (d L : Nat) (h : am_H) (x1 : Int) :
    am_D (d + 1) 0 9 [am_r (am_a 1), am_i x1] (zS L, h) =
    if (x1 : Int) < 0 then some (.inl (some (am_i (-1))), (zS L, h)) else if (h 1 2 : Int) < x1 then some (.inl (some (am_i (-1))), (zS L, h)) else am_xV (zS L) (am_D d 0 10 [am_r (am_a 1), am_i x1] (zS L, h)) (am_up1 (zS L)) fun h1 => am_xV (zS L) (am_D d 1 1 [am_r (am_a 34)] (zS L, h1)) (am_up1 (zS L)) fun h2 => am_xI (zS L) (am_D d 11 6 [am_r (am_a 23), am_i x1] (zS L, h2)) (am_up1 (zS L)) fun v4 h3 => some (.inl (some (am_i v4)), (zS L, (am_up h3 1 3 (h3 23 14)))) := (q_0_9_0 d L h x1)
-- TowerComputer.take(I)V
theorem q_0_10_0 (d L : Nat) (h : am_H) (x1 : Int) :
    am_E (am_D d) m_0_10 (.inl 0) [some (am_r (am_a 1)), some (am_i x1), none] [] (zS L, h) =
    am_E (am_D d) m_0_10 (.inl 1) [some (am_r (am_a 1)), some (am_i x1), some (am_i 0)] [] (zS L, h) := (am_cut _ _ 8 0 _ _ _).trans rfl
theorem D_0_10 (d L : Nat) (h : am_H) (x1 : Int) :
    am_D (d + 1) 0 10 [am_r (am_a 1), am_i x1] (zS L, h) =
    am_E (am_D d) m_0_10 (.inl 1) [some (am_r (am_a 1)), some (am_i x1), some (am_i 0)] [] (zS L, h) := (q_0_10_0 d L h x1)
set_option maxRecDepth 20000 in
theorem q_0_10_1 (d L : Nat) (h : am_H) (x1 : Int) (x2 : Int) :
    am_E (am_D d) m_0_10 (.inl 1) [some (am_r (am_a 1)), some (am_i x1), some (am_i x2)] [] (zS L, h) =
    if (x2 : Int) < x1 then am_idx x2 4000 fun k1 => am_idx x2 16000 fun k2 => am_E (am_D d) m_0_10 (.inl 1) [some (am_r (am_a 1)), some (am_i x1), some (am_i (am_w (x2 + 1)))] [] (zS L, (am_up h 3 k2 (am_s8 (h 2 k1)))) else some (.inl none, (zS L, (am_up h 1 2 (0)))) := (am_cut _ _ 22 1 _ _ _).trans rfl
-- TowerComputer.code(I)I
set_option maxRecDepth 20000 in
theorem q_0_11_0 (d L : Nat) (h : am_H) (x1 : Int) :
    am_E (am_D d) m_0_11 (.inl 0) [some (am_r (am_a 1)), some (am_i x1)] [] (zS L, h) =
    if (x1 : Int) < 0 then some (.inl (some (am_i (-1))), (zS L, h)) else if (x1 : Int) < h 23 12 then am_idx x1 1500 fun k1 => some (.inl (some (am_i (h 24 k1))), (zS L, h)) else some (.inl (some (am_i (-1))), (zS L, h)) := (am_cut _ _ 25 0 _ _ _).trans rfl
theorem D_0_11 (d L : Nat) (h : am_H) (x1 : Int) :
    am_D (d + 1) 0 11 [am_r (am_a 1), am_i x1] (zS L, h) =
    if (x1 : Int) < 0 then some (.inl (some (am_i (-1))), (zS L, h)) else if (x1 : Int) < h 23 12 then am_idx x1 1500 fun k1 => some (.inl (some (am_i (h 24 k1))), (zS L, h)) else some (.inl (some (am_i (-1))), (zS L, h)) := (q_0_11_0 d L h x1)
-- TowerComputer.go(I)I
set_option maxRecDepth 20000 in
theorem q_0_12_0 (d L : Nat) (h : am_H) (x1 : Int) :
    am_E (am_D d) m_0_12 (.inl 0) [some (am_r (am_a 1)), some (am_i x1)] [] (zS L, h) =
    if (x1 : Int) < 0 then some (.inl (some (am_i (-1))), (zS L, h)) else if (20000 : Int) < x1 then some (.inl (some (am_i (-1))), (zS L, h)) else am_xI (zS L) (am_D d 1 2 [am_r (am_a 34), am_i x1] (zS L, h)) (am_up1 (zS L)) fun v2 h1 => some (.inl (some (am_i v2)), (zS L, h1)) := (am_cut _ _ 22 0 _ _ _).trans rfl
theorem D_0_12 (d L : Nat) (h : am_H) (x1 : Int) :
    am_D (d + 1) 0 12 [am_r (am_a 1), am_i x1] (zS L, h) =
    if (x1 : Int) < 0 then some (.inl (some (am_i (-1))), (zS L, h)) else if (20000 : Int) < x1 then some (.inl (some (am_i (-1))), (zS L, h)) else am_xI (zS L) (am_D d 1 2 [am_r (am_a 34), am_i x1] (zS L, h)) (am_up1 (zS L)) fun v2 h1 => some (.inl (some (am_i v2)), (zS L, h1)) := (q_0_12_0 d L h x1)
-- TowerComputer.isAddress(I)Z
set_option maxRecDepth 20000 in
theorem q_0_13_0 (d L : Nat) (h : am_H) (x0 : Int) :
    am_E (am_D d) m_0_13 (.inl 0) [some (am_i x0)] [] (zS L, h) =
    if (x0 : Int) < 0 then am_bit 0 (some (.inl (some (am_i 0)), (zS L, h))) else if (x0 : Int) < 32768 then am_bit 1 (some (.inl (some (am_i 1)), (zS L, h))) else am_bit 0 (some (.inl (some (am_i 0)), (zS L, h))) := (am_cut _ _ 19 0 _ _ _).trans rfl
theorem D_0_13 (d L : Nat) (h : am_H) (x0 : Int) :
    am_D (d + 1) 0 13 [am_i x0] (zS L, h) =
    if (x0 : Int) < 0 then am_bit 0 (some (.inl (some (am_i 0)), (zS L, h))) else if (x0 : Int) < 32768 then am_bit 1 (some (.inl (some (am_i 1)), (zS L, h))) else am_bit 0 (some (.inl (some (am_i 0)), (zS L, h))) := (q_0_13_0 d L h x0)
-- TowerComputer.set(II)Z
set_option maxRecDepth 20000 in
theorem q_0_14_0 (d L : Nat) (h : am_H) (x1 : Int) (x2 : Int) :
    am_E (am_D d) m_0_14 (.inl 0) [some (am_r (am_a 1)), some (am_i x1), some (am_i x2)] [] (zS L, h) =
    am_xI (zS L) (am_D d 0 13 [am_i x1] (zS L, h)) (am_up1 (zS L)) fun v2 h1 => if (v2 : Int) = 0 then am_bit 0 (some (.inl (some (am_i 0)), (zS L, h1))) else am_idx x1 32768 fun k3 => am_bit 1 (some (.inl (some (am_i 1)), (zS L, (am_up h1 35 k3 (am_s16 (am_s16 x2)))))) := (am_cut _ _ 19 0 _ _ _).trans rfl
theorem D_0_14 (d L : Nat) (h : am_H) (x1 : Int) (x2 : Int) :
    am_D (d + 1) 0 14 [am_r (am_a 1), am_i x1, am_i x2] (zS L, h) =
    am_xI (zS L) (am_D d 0 13 [am_i x1] (zS L, h)) (am_up1 (zS L)) fun v2 h1 => if (v2 : Int) = 0 then am_bit 0 (some (.inl (some (am_i 0)), (zS L, h1))) else am_idx x1 32768 fun k3 => am_bit 1 (some (.inl (some (am_i 1)), (zS L, (am_up h1 35 k3 (am_s16 (am_s16 x2)))))) := (q_0_14_0 d L h x1 x2)
-- TowerComputer.store(I)I
set_option maxRecDepth 20000 in
theorem q_0_15_0 (d L : Nat) (h : am_H) (x1 : Int) :
    am_E (am_D d) m_0_15 (.inl 0) [some (am_r (am_a 1)), some (am_i x1)] [] (zS L, h) =
    am_xI (zS L) (am_D d 0 13 [am_i x1] (zS L, h)) (am_up1 (zS L)) fun v2 h1 => if (v2 : Int) = 0 then some (.inl (some (am_i 100000)), (zS L, h1)) else am_idx x1 32768 fun k3 => some (.inl (some (am_i (h1 35 k3))), (zS L, h1)) := (am_cut _ _ 18 0 _ _ _).trans rfl
theorem D_0_15 (d L : Nat) (h : am_H) (x1 : Int) :
    am_D (d + 1) 0 15 [am_r (am_a 1), am_i x1] (zS L, h) =
    am_xI (zS L) (am_D d 0 13 [am_i x1] (zS L, h)) (am_up1 (zS L)) fun v2 h1 => if (v2 : Int) = 0 then some (.inl (some (am_i 100000)), (zS L, h1)) else am_idx x1 32768 fun k3 => some (.inl (some (am_i (h1 35 k3))), (zS L, h1)) := (q_0_15_0 d L h x1)
-- TowerComputer.register(I)I
set_option maxRecDepth 20000 in
theorem q_0_16_0 (d L : Nat) (h : am_H) (x1 : Int) :
    am_E (am_D d) m_0_16 (.inl 0) [some (am_r (am_a 1)), some (am_i x1)] [] (zS L, h) =
    if (x1 : Int) = 0 then some (.inl (some (am_i (h 34 2))), (zS L, h)) else if (x1 : Int) = 1 then some (.inl (some (am_i (h 34 3))), (zS L, h)) else if (x1 : Int) = 2 then some (.inl (some (am_i (h 34 4))), (zS L, h)) else if (x1 : Int) = 3 then some (.inl (some (am_i (h 23 12))), (zS L, h)) else if (x1 : Int) = 4 then some (.inl (some (am_i (h 34 5))), (zS L, h)) else if (x1 : Int) = 5 then some (.inl (some (am_i (h 23 13))), (zS L, h)) else some (.inl (some (am_i 0)), (zS L, h)) := (am_cut _ _ 33 0 _ _ _).trans rfl
theorem D_0_16 (d L : Nat) (h : am_H) (x1 : Int) :
    am_D (d + 1) 0 16 [am_r (am_a 1), am_i x1] (zS L, h) =
    if (x1 : Int) = 0 then some (.inl (some (am_i (h 34 2))), (zS L, h)) else if (x1 : Int) = 1 then some (.inl (some (am_i (h 34 3))), (zS L, h)) else if (x1 : Int) = 2 then some (.inl (some (am_i (h 34 4))), (zS L, h)) else if (x1 : Int) = 3 then some (.inl (some (am_i (h 23 12))), (zS L, h)) else if (x1 : Int) = 4 then some (.inl (some (am_i (h 34 5))), (zS L, h)) else if (x1 : Int) = 5 then some (.inl (some (am_i (h 23 13))), (zS L, h)) else some (.inl (some (am_i 0)), (zS L, h)) := (q_0_16_0 d L h x1)
-- TowerComputer.chips(I)I
set_option maxRecDepth 20000 in
theorem q_0_17_0 (d L : Nat) (h : am_H) (x1 : Int) :
    am_E (am_D d) m_0_17 (.inl 0) [some (am_r (am_a 1)), some (am_i x1), none] [] (zS L, h) =
    if (x1 : Int) < 0 then some (.inl (some (am_i (-1))), (zS L, h)) else if (h 1 2 : Int) < x1 then some (.inl (some (am_i (-1))), (zS L, h)) else am_xV (zS L) (am_D d 0 10 [am_r (am_a 1), am_i x1] (zS L, h)) (am_up1 (zS L)) fun h1 => am_xI (zS L) (am_D d 4 13 [am_r (am_a 36), am_i x1] (zS L, h1)) (am_up1 (zS L)) fun v3 h2 => if (v3 : Int) = 0 then am_E (am_D d) m_0_17 (.inl 4) [some (am_r (am_a 1)), some (am_i x1), some (am_i v3)] [am_i 1, am_r (am_a 1)] (zS L, (am_up h2 1 3 (h2 36 8))) else am_E (am_D d) m_0_17 (.inl 4) [some (am_r (am_a 1)), some (am_i x1), some (am_i v3)] [am_i 0, am_r (am_a 1)] (zS L, (am_up h2 1 3 (h2 36 8))) := (am_cut _ _ 36 0 _ _ _).trans rfl
theorem D_0_17 (d L : Nat) (h : am_H) (x1 : Int) :
    am_D (d + 1) 0 17 [am_r (am_a 1), am_i x1] (zS L, h) =
    if (x1 : Int) < 0 then some (.inl (some (am_i (-1))), (zS L, h)) else if (h 1 2 : Int) < x1 then some (.inl (some (am_i (-1))), (zS L, h)) else am_xV (zS L) (am_D d 0 10 [am_r (am_a 1), am_i x1] (zS L, h)) (am_up1 (zS L)) fun h1 => am_xI (zS L) (am_D d 4 13 [am_r (am_a 36), am_i x1] (zS L, h1)) (am_up1 (zS L)) fun v3 h2 => if (v3 : Int) = 0 then am_E (am_D d) m_0_17 (.inl 4) [some (am_r (am_a 1)), some (am_i x1), some (am_i v3)] [am_i 1, am_r (am_a 1)] (zS L, (am_up h2 1 3 (h2 36 8))) else am_E (am_D d) m_0_17 (.inl 4) [some (am_r (am_a 1)), some (am_i x1), some (am_i v3)] [am_i 0, am_r (am_a 1)] (zS L, (am_up h2 1 3 (h2 36 8))) := (q_0_17_0 d L h x1)
set_option maxRecDepth 20000 in
theorem q_0_17_4 (d L : Nat) (h : am_H) (x1 : Int) (x2 : Int) (s0 : Int) :
    am_E (am_D d) m_0_17 (.inl 4) [some (am_r (am_a 1)), some (am_i x1), some (am_i x2)] [am_i s0, am_r (am_a 1)] (zS L, h) =
    am_bit s0 (if (s0 : Int) = 0 then some (.inl (some (am_i x2)), (zS L, (am_up h 1 24 (s0)))) else am_xI (zS L) (am_D d 2 3 [am_r (am_a 195)] (zS L, (am_up h 1 24 (s0)))) (am_up1 (zS L)) fun v2 h1 => am_bit v2 (if (v2 : Int) = 0 then some (.inl (some (am_i 6)), (zS L, (am_up (am_up h1 1 24 (v2)) 1 3 (x1)))) else some (.inl (some (am_i 0)), (zS L, (am_up h1 1 24 (v2)))))) := (am_cut _ _ 26 4 _ _ _).trans rfl
-- TowerComputer.isPin(IZ)Z
set_option maxRecDepth 20000 in
theorem q_0_18_0 (d L : Nat) (h : am_H) (x1 : Int) (x2 : Int) :
    am_E (am_D d) m_0_18 (.inl 0) [some (am_r (am_a 1)), some (am_i x1), some (am_i x2), none] [] (zS L, h) =
    if (h 1 24 : Int) = 0 then am_bit 0 (some (.inl (some (am_i 0)), (zS L, h))) else if (x1 : Int) < 0 then am_bit 0 (some (.inl (some (am_i 0)), (zS L, h))) else if (x2 : Int) = 0 then am_obj (zS L, h) (am_dec (h 195 18)) 3 fun a1 r2 => if (x1 : Int) < h a1 3 then am_bit 1 (some (.inl (some (am_i 1)), (zS L, h))) else am_bit 0 (some (.inl (some (am_i 0)), (zS L, h))) else am_obj (zS L, h) (am_dec (h 195 18)) 3 fun a3 r4 => am_obj (zS L, h) (am_dec (h 195 18)) 3 fun a5 r6 => if (x1 : Int) < am_w (h a3 2 - h a5 3) then am_bit 1 (some (.inl (some (am_i 1)), (zS L, h))) else am_bit 0 (some (.inl (some (am_i 0)), (zS L, h))) := (am_cut _ _ 44 0 _ _ _).trans rfl
theorem D_0_18 (d L : Nat) (h : am_H) (x1 : Int) (x2 : Int) :
    am_D (d + 1) 0 18 [am_r (am_a 1), am_i x1, am_i x2] (zS L, h) =
    if (h 1 24 : Int) = 0 then am_bit 0 (some (.inl (some (am_i 0)), (zS L, h))) else if (x1 : Int) < 0 then am_bit 0 (some (.inl (some (am_i 0)), (zS L, h))) else if (x2 : Int) = 0 then am_obj (zS L, h) (am_dec (h 195 18)) 3 fun a1 r2 => if (x1 : Int) < h a1 3 then am_bit 1 (some (.inl (some (am_i 1)), (zS L, h))) else am_bit 0 (some (.inl (some (am_i 0)), (zS L, h))) else am_obj (zS L, h) (am_dec (h 195 18)) 3 fun a3 r4 => am_obj (zS L, h) (am_dec (h 195 18)) 3 fun a5 r6 => if (x1 : Int) < am_w (h a3 2 - h a5 3) then am_bit 1 (some (.inl (some (am_i 1)), (zS L, h))) else am_bit 0 (some (.inl (some (am_i 0)), (zS L, h))) := (q_0_18_0 d L h x1 x2)
-- TowerComputer.drive(II)Z
set_option maxRecDepth 20000 in
theorem q_0_19_0 (d L : Nat) (h : am_H) (x1 : Int) (x2 : Int) :
    am_E (am_D d) m_0_19 (.inl 0) [some (am_r (am_a 1)), some (am_i x1), some (am_i x2)] [] (zS L, h) =
    am_xI (zS L) (am_D d 0 18 [am_r (am_a 1), am_i x1, am_i 0] (zS L, h)) (am_up1 (zS L)) fun v2 h1 => if (v2 : Int) = 0 then am_bit 0 (some (.inl (some (am_i 0)), (zS L, h1))) else am_xV (zS L) (am_D d 2 13 [am_r (am_a 195), am_i x1, am_i x2] (zS L, h1)) (am_up1 (zS L)) fun h3 => am_bit 1 (some (.inl (some (am_i 1)), (zS L, h3))) := (am_cut _ _ 19 0 _ _ _).trans rfl
theorem D_0_19 (d L : Nat) (h : am_H) (x1 : Int) (x2 : Int) :
    am_D (d + 1) 0 19 [am_r (am_a 1), am_i x1, am_i x2] (zS L, h) =
    am_xI (zS L) (am_D d 0 18 [am_r (am_a 1), am_i x1, am_i 0] (zS L, h)) (am_up1 (zS L)) fun v2 h1 => if (v2 : Int) = 0 then am_bit 0 (some (.inl (some (am_i 0)), (zS L, h1))) else am_xV (zS L) (am_D d 2 13 [am_r (am_a 195), am_i x1, am_i x2] (zS L, h1)) (am_up1 (zS L)) fun h3 => am_bit 1 (some (.inl (some (am_i 1)), (zS L, h3))) := (q_0_19_0 d L h x1 x2)
-- TowerComputer.pin(I)I
set_option maxRecDepth 20000 in
theorem q_0_20_0 (d L : Nat) (h : am_H) (x1 : Int) :
    am_E (am_D d) m_0_20 (.inl 0) [some (am_r (am_a 1)), some (am_i x1)] [] (zS L, h) =
    am_xI (zS L) (am_D d 0 18 [am_r (am_a 1), am_i x1, am_i 1] (zS L, h)) (am_up1 (zS L)) fun v2 h1 => if (v2 : Int) = 0 then some (.inl (some (am_i (-1))), (zS L, h1)) else am_obj (zS L, h1) (am_dec (h1 195 18)) 3 fun a3 r4 => am_xI (zS L) (am_D d 2 14 [am_r (am_a 195), am_i (am_w (h1 a3 3 + x1))] (zS L, h1)) (am_up1 (zS L)) fun v6 h5 => some (.inl (some (am_i v6)), (zS L, h5)) := (am_cut _ _ 24 0 _ _ _).trans rfl
theorem D_0_20 (d L : Nat) (h : am_H) (x1 : Int) :
    am_D (d + 1) 0 20 [am_r (am_a 1), am_i x1] (zS L, h) =
    am_xI (zS L) (am_D d 0 18 [am_r (am_a 1), am_i x1, am_i 1] (zS L, h)) (am_up1 (zS L)) fun v2 h1 => if (v2 : Int) = 0 then some (.inl (some (am_i (-1))), (zS L, h1)) else am_obj (zS L, h1) (am_dec (h1 195 18)) 3 fun a3 r4 => am_xI (zS L) (am_D d 2 14 [am_r (am_a 195), am_i (am_w (h1 a3 3 + x1))] (zS L, h1)) (am_up1 (zS L)) fun v6 h5 => some (.inl (some (am_i v6)), (zS L, h5)) := (q_0_20_0 d L h x1)
-- TowerComputer.tick()I
theorem q_0_21_0 (d L : Nat) (h : am_H)  :
    am_E (am_D d) m_0_21 (.inl 0) [some (am_r (am_a 1))] [] (zS L, h) =
    if (h 1 24 : Int) = 0 then some (.inl (some (am_i (-1))), (zS L, h)) else am_xI (zS L) (am_D d 2 15 [am_r (am_a 195)] (zS L, h)) (am_up1 (zS L)) fun v2 h1 => some (.inl (some (am_i v2)), (zS L, h1)) := (am_cut _ _ 16 0 _ _ _).trans rfl
theorem D_0_21 (d L : Nat) (h : am_H)  :
    am_D (d + 1) 0 21 [am_r (am_a 1)] (zS L, h) =
    if (h 1 24 : Int) = 0 then some (.inl (some (am_i (-1))), (zS L, h)) else am_xI (zS L) (am_D d 2 15 [am_r (am_a 195)] (zS L, h)) (am_up1 (zS L)) fun v2 h1 => some (.inl (some (am_i v2)), (zS L, h1)) := (q_0_21_0 d L h )
-- TowerComputer.gates(I)I
set_option maxRecDepth 20000 in
theorem q_0_22_0 (d L : Nat) (h : am_H) (x1 : Int) :
    am_E (am_D d) m_0_22 (.inl 0) [some (am_r (am_a 1)), some (am_i x1)] [] (zS L, h) =
    if (h 1 24 : Int) = 0 then some (.inl (some (am_i (-1))), (zS L, h)) else if (x1 : Int) = 0 then some (.inl (some (am_i (h 195 10))), (zS L, h)) else if (x1 : Int) = 1 then some (.inl (some (am_i (h 195 11))), (zS L, h)) else if (x1 : Int) = 2 then am_obj (zS L, h) (am_dec (h 195 18)) 3 fun a1 r2 => some (.inl (some (am_i (h a1 3))), (zS L, h)) else if (x1 : Int) = 3 then am_obj (zS L, h) (am_dec (h 195 18)) 3 fun a3 r4 => am_obj (zS L, h) (am_dec (h 195 18)) 3 fun a5 r6 => some (.inl (some (am_i (am_w (h a3 2 - h a5 3)))), (zS L, h)) else if (x1 : Int) = 4 then some (.inl (some (am_i (h 36 6))), (zS L, h)) else if (x1 : Int) = 5 then some (.inl (some (am_i (h 195 16))), (zS L, h)) else if (x1 : Int) = 6 then some (.inl (some (am_i (h 195 17))), (zS L, h)) else if (x1 : Int) = 7 then am_xI (zS L) (am_D d 2 16 [am_r (am_a 195)] (zS L, h)) (am_up1 (zS L)) fun v8 h7 => some (.inl (some (am_i v8)), (zS L, h7)) else some (.inl (some (am_i (-1))), (zS L, h)) := (am_cut _ _ 53 0 _ _ _).trans rfl
theorem D_0_22 (d L : Nat) (h : am_H) (x1 : Int) :
    am_D (d + 1) 0 22 [am_r (am_a 1), am_i x1] (zS L, h) =
    if (h 1 24 : Int) = 0 then some (.inl (some (am_i (-1))), (zS L, h)) else if (x1 : Int) = 0 then some (.inl (some (am_i (h 195 10))), (zS L, h)) else if (x1 : Int) = 1 then some (.inl (some (am_i (h 195 11))), (zS L, h)) else if (x1 : Int) = 2 then am_obj (zS L, h) (am_dec (h 195 18)) 3 fun a1 r2 => some (.inl (some (am_i (h a1 3))), (zS L, h)) else if (x1 : Int) = 3 then am_obj (zS L, h) (am_dec (h 195 18)) 3 fun a3 r4 => am_obj (zS L, h) (am_dec (h 195 18)) 3 fun a5 r6 => some (.inl (some (am_i (am_w (h a3 2 - h a5 3)))), (zS L, h)) else if (x1 : Int) = 4 then some (.inl (some (am_i (h 36 6))), (zS L, h)) else if (x1 : Int) = 5 then some (.inl (some (am_i (h 195 16))), (zS L, h)) else if (x1 : Int) = 6 then some (.inl (some (am_i (h 195 17))), (zS L, h)) else if (x1 : Int) = 7 then am_xI (zS L) (am_D d 2 16 [am_r (am_a 195)] (zS L, h)) (am_up1 (zS L)) fun v8 h7 => some (.inl (some (am_i v8)), (zS L, h7)) else some (.inl (some (am_i (-1))), (zS L, h)) := (q_0_22_0 d L h x1)
-- TowerComputer.keys(I)Z
set_option maxRecDepth 20000 in
theorem q_0_23_0 (d L : Nat) (h : am_H) (x1 : Int) :
    am_E (am_D d) m_0_23 (.inl 0) [some (am_r (am_a 1)), some (am_i x1), none] [] (zS L, h) =
    if (x1 : Int) < 0 then am_bit 0 (some (.inl (some (am_i 0)), (zS L, h))) else if (200 : Int) < x1 then am_bit 0 (some (.inl (some (am_i 0)), (zS L, h))) else if (h 1 2 : Int) < x1 then am_bit 0 (some (.inl (some (am_i 0)), (zS L, h))) else am_E (am_D d) m_0_23 (.inl 3) [some (am_r (am_a 1)), some (am_i x1), some (am_i 0)] [] (zS L, h) := (am_cut _ _ 24 0 _ _ _).trans rfl
theorem D_0_23 (d L : Nat) (h : am_H) (x1 : Int) :
    am_D (d + 1) 0 23 [am_r (am_a 1), am_i x1] (zS L, h) =
    if (x1 : Int) < 0 then am_bit 0 (some (.inl (some (am_i 0)), (zS L, h))) else if (200 : Int) < x1 then am_bit 0 (some (.inl (some (am_i 0)), (zS L, h))) else if (h 1 2 : Int) < x1 then am_bit 0 (some (.inl (some (am_i 0)), (zS L, h))) else am_E (am_D d) m_0_23 (.inl 3) [some (am_r (am_a 1)), some (am_i x1), some (am_i 0)] [] (zS L, h) := (q_0_23_0 d L h x1)
set_option maxRecDepth 20000 in
theorem q_0_23_3 (d L : Nat) (h : am_H) (x1 : Int) (x2 : Int) :
    am_E (am_D d) m_0_23 (.inl 3) [some (am_r (am_a 1)), some (am_i x1), some (am_i x2)] [] (zS L, h) =
    if (x2 : Int) < x1 then am_idx x2 4000 fun k1 => am_idx x2 200 fun k2 => am_E (am_D d) m_0_23 (.inl 3) [some (am_r (am_a 1)), some (am_i x1), some (am_i (am_w (x2 + 1)))] [] (zS L, (am_up h 22 k2 (am_s8 (h 2 k1)))) else am_bit 1 (some (.inl (some (am_i 1)), (zS L, (am_up (am_up h 1 15 (x1)) 1 2 (0))))) := (am_cut _ _ 26 3 _ _ _).trans rfl
-- TowerComputer.run(I)I
set_option maxRecDepth 20000 in
theorem q_0_24_0 (d L : Nat) (h : am_H) (x1 : Int) :
    am_E (am_D d) m_0_24 (.inl 0) [some (am_r (am_a 1)), some (am_i x1), none] [] (zS L, h) =
    if (h 1 18 : Int) = 0 then some (.inl (some (am_i (-1))), (zS L, h)) else if (x1 : Int) < 0 then some (.inl (some (am_i (-1))), (zS L, h)) else if (5000 : Int) < x1 then some (.inl (some (am_i (-1))), (zS L, h)) else am_E (am_D d) m_0_24 (.inl 3) [some (am_r (am_a 1)), some (am_i x1), some (am_i 0)] [] (zS L, h) := (am_cut _ _ 23 0 _ _ _).trans rfl
theorem D_0_24 (d L : Nat) (h : am_H) (x1 : Int) :
    am_D (d + 1) 0 24 [am_r (am_a 1), am_i x1] (zS L, h) =
    if (h 1 18 : Int) = 0 then some (.inl (some (am_i (-1))), (zS L, h)) else if (x1 : Int) < 0 then some (.inl (some (am_i (-1))), (zS L, h)) else if (5000 : Int) < x1 then some (.inl (some (am_i (-1))), (zS L, h)) else am_E (am_D d) m_0_24 (.inl 3) [some (am_r (am_a 1)), some (am_i x1), some (am_i 0)] [] (zS L, h) := (q_0_24_0 d L h x1)
set_option maxRecDepth 20000 in
theorem q_0_24_3 (d L : Nat) (h : am_H) (x1 : Int) (x2 : Int) :
    am_E (am_D d) m_0_24 (.inl 3) [some (am_r (am_a 1)), some (am_i x1), some (am_i x2)] [] (zS L, h) =
    if (x2 : Int) < h 1 15 then am_idx x2 200 fun k4 => am_idx x2 200 fun k5 => am_E (am_D d) m_0_24 (.inl 3) [some (am_r (am_a 1)), some (am_i x1), some (am_i (am_w (x2 + 1)))] [] (zS L, (am_up h 19 k5 (am_s8 (h 22 k4)))) else am_xI (zS L) (am_D d 10 7 [am_r (am_a 17), am_i x1, am_i (h 1 17)] (zS L, (am_up h 17 5 (h 1 15)))) (am_up1 (zS L)) fun v2 h1 => if (v2 : Int) = 0 then some (.inl (some (am_i v2)), (zS L, (am_up (am_up h1 1 16 (am_w (h1 1 15 - h1 17 6))) 1 3 ((-1))))) else am_idx (h1 17 10) 42 fun k3 => some (.inl (some (am_i v2)), (zS L, (am_up (am_up h1 1 16 (am_w (h1 1 15 - h1 17 6))) 1 3 (h1 21 k3)))) := (am_cut _ _ 59 3 _ _ _).trans rfl
-- TowerComputer.place()I
theorem q_0_25_0 (d L : Nat) (h : am_H)  :
    am_E (am_D d) m_0_25 (.inl 0) [some (am_r (am_a 1))] [] (zS L, h) =
    some (.inl (some (am_i (h 1 3))), (zS L, h)) := (am_cut _ _ 8 0 _ _ _).trans rfl
theorem D_0_25 (d L : Nat) (h : am_H)  :
    am_D (d + 1) 0 25 [am_r (am_a 1)] (zS L, h) =
    some (.inl (some (am_i (h 1 3))), (zS L, h)) := (q_0_25_0 d L h )
-- TowerComputer.error()I
theorem q_0_26_0 (d L : Nat) (h : am_H)  :
    am_E (am_D d) m_0_26 (.inl 0) [some (am_r (am_a 1))] [] (zS L, h) =
    some (.inl (some (am_i (h 17 13))), (zS L, h)) := (am_cut _ _ 9 0 _ _ _).trans rfl
theorem D_0_26 (d L : Nat) (h : am_H)  :
    am_D (d + 1) 0 26 [am_r (am_a 1)] (zS L, h) =
    some (.inl (some (am_i (h 17 13))), (zS L, h)) := (q_0_26_0 d L h )
-- TowerComputer.fetch()J
set_option maxRecDepth 20000 in
theorem q_0_27_0 (d L : Nat) (h : am_H)  :
    am_E (am_D d) m_0_27 (.inl 0) [some (am_r (am_a 1)), none, none, none, none, none] [] (zS L, h) =
    am_E (am_D d) m_0_27 (.inl 1) [some (am_r (am_a 1)), some (am_i ((if (7 : Int) ≤ h 17 7 then 7 else h 17 7))), some (am_r (am_a 20)), some (am_l (am_Lshl ((if (7 : Int) ≤ h 17 7 then 7 else h 17 7)) 56)), none, some (am_i 0)] [] (zS L, h) := (am_cut _ _ 23 0 _ _ _).trans rfl
theorem D_0_27 (d L : Nat) (h : am_H)  :
    am_D (d + 1) 0 27 [am_r (am_a 1)] (zS L, h) =
    am_E (am_D d) m_0_27 (.inl 1) [some (am_r (am_a 1)), some (am_i ((if (7 : Int) ≤ h 17 7 then 7 else h 17 7))), some (am_r (am_a 20)), some (am_l (am_Lshl ((if (7 : Int) ≤ h 17 7 then 7 else h 17 7)) 56)), none, some (am_i 0)] [] (zS L, h) := (q_0_27_0 d L h )
set_option maxRecDepth 20000 in
theorem q_0_27_1 (d L : Nat) (h : am_H) (x1 : Int) (X2 : am_R) (x3 : Int) (x5 : Int) :
    am_E (am_D d) m_0_27 (.inl 1) [some (am_r (am_a 1)), some (am_i x1), some (am_r (X2)), some (am_l (x3)), none, some (am_i x5)] [] (zS L, h) =
    if (x5 : Int) < x1 then am_arr (zS L, h) (X2) 2 fun a2 n3 _ => am_idx x5 n3 fun k1 => am_E (am_D d) m_0_27 (.inl 1) [some (am_r (am_a 1)), some (am_i x1), some (am_r (X2)), some (am_l (am_Lor x3 (am_Lshl (am_Land (h a2 k1) 255) (am_w (48 - (am_w (8 * x5))))))), none, some (am_i (am_w (x5 + 1)))] [] (zS L, h) else am_E (am_D d) m_0_27 (.inl 3) [some (am_r (am_a 1)), some (am_i x1), some (am_r (X2)), some (am_l (x3)), none, some (am_i x1)] [] (zS L, h) := (am_cut _ _ 28 1 _ _ _).trans rfl
set_option maxRecDepth 20000 in
theorem q_0_27_3 (d L : Nat) (h : am_H) (x1 : Int) (X2 : am_R) (x3 : Int) (x5 : Int) :
    am_E (am_D d) m_0_27 (.inl 3) [some (am_r (am_a 1)), some (am_i x1), some (am_r (X2)), some (am_l (x3)), none, some (am_i x5)] [] (zS L, h) =
    if (x5 : Int) < h 17 7 then am_arr (zS L, h) (X2) 2 fun a2 n3 _ => am_idx x5 n3 fun k1 => am_arr (zS L, h) (X2) 2 fun a5 n6 _ => am_idx (am_w (x5 - x1)) n6 fun k4 => cond (Nat.beq a5 0) none (am_E (am_D d) m_0_27 (.inl 3) [some (am_r (am_a 1)), some (am_i x1), some (am_r (X2)), some (am_l (x3)), none, some (am_i (am_w (x5 + 1)))] [] (zS L, (am_up h a5 k4 (am_s8 (h a2 k1))))) else if (x1 : Int) = 0 then some (.inl (some (am_l (0))), (zS L, (am_up h 17 7 (am_w (h 17 7 - x1))))) else some (.inl (some (am_l (x3))), (zS L, (am_up h 17 7 (am_w (h 17 7 - x1))))) := (am_cut _ _ 35 3 _ _ _).trans rfl
-- TowerComputer.row(I)J
theorem q_0_28_0 (d L : Nat) (h : am_H) (x1 : Int) :
    am_E (am_D d) m_0_28 (.inl 0) [some (am_r (am_a 1)), some (am_i x1), none, none, none] [] (zS L, h) =
    am_E (am_D d) m_0_28 (.inl 1) [some (am_r (am_a 1)), some (am_i x1), some (am_l (0)), none, some (am_i 3)] [] (zS L, h) := (am_cut _ _ 10 0 _ _ _).trans rfl
theorem D_0_28 (d L : Nat) (h : am_H) (x1 : Int) :
    am_D (d + 1) 0 28 [am_r (am_a 1), am_i x1] (zS L, h) =
    am_E (am_D d) m_0_28 (.inl 1) [some (am_r (am_a 1)), some (am_i x1), some (am_l (0)), none, some (am_i 3)] [] (zS L, h) := (q_0_28_0 d L h x1)
set_option maxRecDepth 20000 in
theorem q_0_28_1 (d L : Nat) (h : am_H) (x1 : Int) (x2 : Int) (x4 : Int) :
    am_E (am_D d) m_0_28 (.inl 1) [some (am_r (am_a 1)), some (am_i x1), some (am_l (x2)), none, some (am_i x4)] [] (zS L, h) =
    if (x4 : Int) < 0 then some (.inl (some (am_l (x2))), (zS L, h)) else if (x1 : Int) < 0 then some (.inl (some (am_l (x2))), (zS L, h)) else if (x1 : Int) < 32 then am_idx (am_w ((am_w (16384 + (am_w (4 * x1)))) + x4)) 32768 fun k1 => am_E (am_D d) m_0_28 (.inl 1) [some (am_r (am_a 1)), some (am_i x1), some (am_l (am_Lor (am_Lshl x2 16) (am_Land (h 18 k1) 65535))), none, some (am_i (am_w (x4 + (-1))))] [] (zS L, h) else some (.inl (some (am_l (x2))), (zS L, h)) := (am_cut _ _ 39 1 _ _ _).trans rfl
-- TowerComputer.word(I)I
set_option maxRecDepth 20000 in
theorem q_0_29_0 (d L : Nat) (h : am_H) (x1 : Int) :
    am_E (am_D d) m_0_29 (.inl 0) [some (am_r (am_a 1)), some (am_i x1)] [] (zS L, h) =
    if (x1 : Int) < 2048 then am_E (am_D d) m_0_29 (.inl 1) [some (am_r (am_a 1)), some (am_i x1)] [] (zS L, h) else if (x1 : Int) < 14336 then am_idx x1 32768 fun k1 => some (.inl (some (am_i (h 18 k1))), (zS L, h)) else am_E (am_D d) m_0_29 (.inl 1) [some (am_r (am_a 1)), some (am_i x1)] [] (zS L, h) := (am_cut _ _ 19 0 _ _ _).trans rfl
theorem D_0_29 (d L : Nat) (h : am_H) (x1 : Int) :
    am_D (d + 1) 0 29 [am_r (am_a 1), am_i x1] (zS L, h) =
    if (x1 : Int) < 2048 then am_E (am_D d) m_0_29 (.inl 1) [some (am_r (am_a 1)), some (am_i x1)] [] (zS L, h) else if (x1 : Int) < 14336 then am_idx x1 32768 fun k1 => some (.inl (some (am_i (h 18 k1))), (zS L, h)) else am_E (am_D d) m_0_29 (.inl 1) [some (am_r (am_a 1)), some (am_i x1)] [] (zS L, h) := (q_0_29_0 d L h x1)
set_option maxRecDepth 20000 in
theorem q_0_29_1 (d L : Nat) (h : am_H) (x1 : Int) :
    am_E (am_D d) m_0_29 (.inl 1) [some (am_r (am_a 1)), some (am_i x1)] [] (zS L, h) =
    if (x1 : Int) < 16384 then some (.inl (some (am_i 100000)), (zS L, h)) else if (x1 : Int) < 16512 then am_idx x1 32768 fun k1 => some (.inl (some (am_i (h 18 k1))), (zS L, h)) else some (.inl (some (am_i 100000)), (zS L, h)) := (am_cut _ _ 25 1 _ _ _).trans rfl
-- TowerComputer.blocks()I
theorem q_0_30_0 (d L : Nat) (h : am_H)  :
    am_E (am_D d) m_0_30 (.inl 0) [some (am_r (am_a 1))] [] (zS L, h) =
    am_idx 18 32768 fun k1 => some (.inl (some (am_i (h 18 k1))), (zS L, h)) := (am_cut _ _ 11 0 _ _ _).trans rfl
theorem D_0_30 (d L : Nat) (h : am_H)  :
    am_D (d + 1) 0 30 [am_r (am_a 1)] (zS L, h) =
    am_idx 18 32768 fun k1 => some (.inl (some (am_i (h 18 k1))), (zS L, h)) := (q_0_30_0 d L h )
-- TowerComputer.count(I)I
theorem q_0_31_0 (d L : Nat) (h : am_H) (x1 : Int) :
    am_E (am_D d) m_0_31 (.inl 0) [some (am_r (am_a 1)), some (am_i x1), none, none] [] (zS L, h) =
    am_E (am_D d) m_0_31 (.inl 1) [some (am_r (am_a 1)), some (am_i x1), some (am_i 0), some (am_i 0)] [] (zS L, h) := (am_cut _ _ 10 0 _ _ _).trans rfl
theorem D_0_31 (d L : Nat) (h : am_H) (x1 : Int) :
    am_D (d + 1) 0 31 [am_r (am_a 1), am_i x1] (zS L, h) =
    am_E (am_D d) m_0_31 (.inl 1) [some (am_r (am_a 1)), some (am_i x1), some (am_i 0), some (am_i 0)] [] (zS L, h) := (q_0_31_0 d L h x1)
set_option maxRecDepth 20000 in
theorem q_0_31_1 (d L : Nat) (h : am_H) (x1 : Int) (x2 : Int) (x3 : Int) :
    am_E (am_D d) m_0_31 (.inl 1) [some (am_r (am_a 1)), some (am_i x1), some (am_i x2), some (am_i x3)] [] (zS L, h) =
    am_xI (zS L) (am_D d 0 30 [am_r (am_a 1)] (zS L, h)) (am_up1 (zS L)) fun v2 h1 => if (x3 : Int) < v2 then am_idx (am_w (16640 + x3)) 32768 fun k5 => am_E (am_D d) m_0_31 (.inl 1) [some (am_r (am_a 1)), some (am_i x1), some (am_i (am_w (x2 + h1 18 k5))), some (am_i (am_w (x3 + 1)))] [] (zS L, h1) else if (x1 : Int) = 0 then some (.inl (some (am_i (h1 1 2))), (zS L, h1)) else if (x1 : Int) = 1 then some (.inl (some (am_i (h1 17 8))), (zS L, h1)) else if (x1 : Int) = 2 then some (.inl (some (am_i (h1 17 11))), (zS L, h1)) else if (x1 : Int) = 3 then some (.inl (some (am_i x2)), (zS L, h1)) else if (x1 : Int) = 4 then am_xI (zS L) (am_D d 0 30 [am_r (am_a 1)] (zS L, h1)) (am_up1 (zS L)) fun v4 h3 => some (.inl (some (am_i v4)), (zS L, h3)) else if (x1 : Int) = 5 then some (.inl (some (am_i (h1 17 7))), (zS L, h1)) else if (x1 : Int) = 6 then some (.inl (some (am_i (h1 1 16))), (zS L, h1)) else if (x1 : Int) = 7 then if (h1 1 18 : Int) = 0 then some (.inl (some (am_i 0)), (zS L, h1)) else some (.inl (some (am_i 1)), (zS L, h1)) else some (.inl (some (am_i (-1))), (zS L, h1)) := (am_cut _ _ 57 1 _ _ _).trans rfl
-- TowerComputer$Bare.begin()V
theorem q_1_1_0 (d L : Nat) (h : am_H)  :
    am_E (am_D d) m_1_1 (.inl 0) [some (am_r (am_a 34)), none] [] (zS L, h) =
    am_E (am_D d) m_1_1 (.inl 1) [some (am_r (am_a 34)), some (am_i 0)] [] (zS L, h) := (am_cut _ _ 8 0 _ _ _).trans rfl
theorem D_1_1 (d L : Nat) (h : am_H)  :
    am_D (d + 1) 1 1 [am_r (am_a 34)] (zS L, h) =
    am_E (am_D d) m_1_1 (.inl 1) [some (am_r (am_a 34)), some (am_i 0)] [] (zS L, h) := (q_1_1_0 d L h )
set_option maxRecDepth 20000 in
theorem q_1_1_1 (d L : Nat) (h : am_H) (x1 : Int) :
    am_E (am_D d) m_1_1 (.inl 1) [some (am_r (am_a 34)), some (am_i x1)] [] (zS L, h) =
    if (x1 : Int) < 32768 then am_idx x1 32768 fun k1 => am_E (am_D d) m_1_1 (.inl 1) [some (am_r (am_a 34)), some (am_i (am_w (x1 + 1)))] [] (zS L, (am_up h 35 k1 (am_s16 0))) else some (.inl none, (zS L, (am_up (am_up (am_up (am_up h 34 2 (0)) 34 3 (0)) 34 4 (0)) 34 5 (0)))) := (am_cut _ _ 28 1 _ _ _).trans rfl
-- TowerComputer$Bare.go(I)I
theorem q_1_2_0 (d L : Nat) (h : am_H) (x1 : Int) :
    am_E (am_D d) m_1_2 (.inl 0) [some (am_r (am_a 34)), some (am_i x1), none] [] (zS L, h) =
    am_E (am_D d) m_1_2 (.inl 1) [some (am_r (am_a 34)), some (am_i x1), some (am_i 0)] [] (zS L, h) := (am_cut _ _ 8 0 _ _ _).trans rfl
theorem D_1_2 (d L : Nat) (h : am_H) (x1 : Int) :
    am_D (d + 1) 1 2 [am_r (am_a 34), am_i x1] (zS L, h) =
    am_E (am_D d) m_1_2 (.inl 1) [some (am_r (am_a 34)), some (am_i x1), some (am_i 0)] [] (zS L, h) := (q_1_2_0 d L h x1)
set_option maxRecDepth 20000 in
theorem q_1_2_1 (d L : Nat) (h : am_H) (x1 : Int) (x2 : Int) :
    am_E (am_D d) m_1_2 (.inl 1) [some (am_r (am_a 34)), some (am_i x1), some (am_i x2)] [] (zS L, h) =
    if (x2 : Int) < x1 then if (h 34 4 : Int) < h 23 12 then am_idx (h 34 4) 1500 fun k1 => am_xV (zS L) (am_D d 1 3 [am_r (am_a 34), am_i (h 24 k1)] (zS L, h)) (am_up1 (zS L)) fun h2 => am_E (am_D d) m_1_2 (.inl 1) [some (am_r (am_a 34)), some (am_i x1), some (am_i (am_w (x2 + 1)))] [] (zS L, h2) else some (.inl (some (am_i x2)), (zS L, (am_up h 34 5 (am_w (h 34 5 + x2))))) else some (.inl (some (am_i x2)), (zS L, (am_up h 34 5 (am_w (h 34 5 + x2))))) := (am_cut _ _ 40 1 _ _ _).trans rfl
-- TowerComputer$Bare.one(I)V
set_option maxRecDepth 20000 in
theorem q_1_3_0 (d L : Nat) (h : am_H) (x1 : Int) :
    am_E (am_D d) m_1_3 (.inl 0) [some (am_r (am_a 34)), some (am_i x1), none, none] [] (zS L, h) =
    if (x1 : Int) < 32768 then some (.inl none, (zS L, (am_up (am_up h 34 4 (am_w (h 34 4 + 1))) 34 2 (x1)))) else if (am_and x1 4096 : Int) = 0 then am_E (am_D d) m_1_3 (.inl 3) [some (am_r (am_a 34)), some (am_i x1), some (am_i (am_and (h 34 2) 32767)), none] [am_i (h 34 2), am_i (h 34 3), am_i (am_and (am_shr x1 6) 63)] (zS L, (am_up h 34 4 (am_w (h 34 4 + 1)))) else am_idx (am_and (h 34 2) 32767) 32768 fun k1 => am_E (am_D d) m_1_3 (.inl 3) [some (am_r (am_a 34)), some (am_i x1), some (am_i (am_and (h 34 2) 32767)), none] [am_i (h 35 k1), am_i (h 34 3), am_i (am_and (am_shr x1 6) 63)] (zS L, (am_up h 34 4 (am_w (h 34 4 + 1)))) := (am_cut _ _ 42 0 _ _ _).trans rfl
theorem D_1_3 (d L : Nat) (h : am_H) (x1 : Int) :
    am_D (d + 1) 1 3 [am_r (am_a 34), am_i x1] (zS L, h) =
    if (x1 : Int) < 32768 then some (.inl none, (zS L, (am_up (am_up h 34 4 (am_w (h 34 4 + 1))) 34 2 (x1)))) else if (am_and x1 4096 : Int) = 0 then am_E (am_D d) m_1_3 (.inl 3) [some (am_r (am_a 34)), some (am_i x1), some (am_i (am_and (h 34 2) 32767)), none] [am_i (h 34 2), am_i (h 34 3), am_i (am_and (am_shr x1 6) 63)] (zS L, (am_up h 34 4 (am_w (h 34 4 + 1)))) else am_idx (am_and (h 34 2) 32767) 32768 fun k1 => am_E (am_D d) m_1_3 (.inl 3) [some (am_r (am_a 34)), some (am_i x1), some (am_i (am_and (h 34 2) 32767)), none] [am_i (h 35 k1), am_i (h 34 3), am_i (am_and (am_shr x1 6) 63)] (zS L, (am_up h 34 4 (am_w (h 34 4 + 1)))) := (q_1_3_0 d L h x1)
set_option maxRecDepth 20000 in
theorem q_1_3_3 (d L : Nat) (h : am_H) (x1 : Int) (x2 : Int) (u3 : Option am_V) (s0 : Int) (s1 : Int) (s2 : Int) :
    am_E (am_D d) m_1_3 (.inl 3) [some (am_r (am_a 34)), some (am_i x1), some (am_i x2), u3] [am_i s0, am_i s1, am_i s2] (zS L, h) =
    am_xI (zS L) (am_D d 10 5 [am_i s2, am_i s1, am_i s0] (zS L, h)) (am_up1 (zS L)) fun v2 h1 => if (am_and x1 8 : Int) = 0 then if (am_and x1 32 : Int) = 0 then am_E (am_D d) m_1_3 (.inl 5) [some (am_r (am_a 34)), some (am_i x1), some (am_i x2), some (am_i v2)] [] (zS L, h1) else am_E (am_D d) m_1_3 (.inl 5) [some (am_r (am_a 34)), some (am_i x1), some (am_i x2), some (am_i v2)] [] (zS L, (am_up h1 34 2 (v2))) else am_idx x2 32768 fun k3 => if (am_and x1 32 : Int) = 0 then am_E (am_D d) m_1_3 (.inl 5) [some (am_r (am_a 34)), some (am_i x1), some (am_i x2), some (am_i v2)] [] (zS L, (am_up h1 35 k3 (am_s16 (am_s16 v2)))) else am_E (am_D d) m_1_3 (.inl 5) [some (am_r (am_a 34)), some (am_i x1), some (am_i x2), some (am_i v2)] [] (zS L, (am_up (am_up h1 35 k3 (am_s16 (am_s16 v2))) 34 2 (v2))) := (am_cut _ _ 34 3 _ _ _).trans rfl
set_option maxRecDepth 20000 in
theorem q_1_3_5 (d L : Nat) (h : am_H) (x1 : Int) (x2 : Int) (x3 : Int) :
    am_E (am_D d) m_1_3 (.inl 5) [some (am_r (am_a 34)), some (am_i x1), some (am_i x2), some (am_i x3)] [] (zS L, h) =
    if (am_and x1 16 : Int) = 0 then am_xI (zS L) (am_D d 10 6 [am_i (am_and x1 7), am_i x3] (zS L, h)) (am_up1 (zS L)) fun v2 h1 => if (v2 : Int) = 0 then some (.inl none, (zS L, h1)) else some (.inl none, (zS L, (am_up h1 34 4 (x2)))) else am_xI (zS L) (am_D d 10 6 [am_i (am_and x1 7), am_i x3] (zS L, (am_up h 34 3 (x3)))) (am_up1 (zS L)) fun v4 h3 => if (v4 : Int) = 0 then some (.inl none, (zS L, h3)) else some (.inl none, (zS L, (am_up h3 34 4 (x2)))) := (am_cut _ _ 37 5 _ _ _).trans rfl
-- TowerComputer$Board.wire()I
set_option maxRecDepth 20000 in
theorem q_2_1_0 (d L : Nat) (h : am_H)  :
    am_E (am_D d) m_2_1 (.inl 0) [some (am_r (am_a 195))] [] (zS L, h) =
    am_idx (h 195 3) 40002 fun k1 => am_bit 0 (am_idx (h 195 3) 40002 fun k2 => some (.inl (some (am_i (am_w ((am_w (h 195 3 + 1)) - 1)))), (zS L, (am_up (am_up (am_up h 196 k1 (h 195 3)) 197 k2 (0)) 195 3 (am_w (h 195 3 + 1)))))) := (am_cut _ _ 29 0 _ _ _).trans rfl
theorem D_2_1 (d L : Nat) (h : am_H)  :
    am_D (d + 1) 2 1 [am_r (am_a 195)] (zS L, h) =
    am_idx (h 195 3) 40002 fun k1 => am_bit 0 (am_idx (h 195 3) 40002 fun k2 => some (.inl (some (am_i (am_w ((am_w (h 195 3 + 1)) - 1)))), (zS L, (am_up (am_up (am_up h 196 k1 (h 195 3)) 197 k2 (0)) 195 3 (am_w (h 195 3 + 1)))))) := (q_2_1_0 d L h )
-- TowerComputer$Board.find(I)I
theorem q_2_2_0 (d L : Nat) (h : am_H) (x1 : Int) :
    am_E (am_D d) m_2_2 (.inl 0) [some (am_r (am_a 195)), some (am_i x1), none] [] (zS L, h) =
    am_E (am_D d) m_2_2 (.inl 1) [some (am_r (am_a 195)), some (am_i x1), some (am_i x1)] [] (zS L, h) := (am_cut _ _ 8 0 _ _ _).trans rfl
theorem D_2_2 (d L : Nat) (h : am_H) (x1 : Int) :
    am_D (d + 1) 2 2 [am_r (am_a 195), am_i x1] (zS L, h) =
    am_E (am_D d) m_2_2 (.inl 1) [some (am_r (am_a 195)), some (am_i x1), some (am_i x1)] [] (zS L, h) := (q_2_2_0 d L h x1)
set_option maxRecDepth 20000 in
theorem q_2_2_1 (d L : Nat) (h : am_H) (u1 : Option am_V) (x2 : Int) :
    am_E (am_D d) m_2_2 (.inl 1) [some (am_r (am_a 195)), u1, some (am_i x2)] [] (zS L, h) =
    am_idx x2 40002 fun k1 => if (h 196 k1 : Int) = x2 then some (.inl (some (am_i x2)), (zS L, h)) else am_idx x2 40002 fun k2 => am_E (am_D d) m_2_2 (.inl 1) [some (am_r (am_a 195)), u1, some (am_i (h 196 k2))] [] (zS L, h) := (am_cut _ _ 19 1 _ _ _).trans rfl
-- TowerComputer$Board.make()Z
set_option maxRecDepth 20000 in
theorem q_2_3_0 (d L : Nat) (h : am_H)  :
    am_E (am_D d) m_2_3 (.inl 0) [some (am_r (am_a 195)), none, none] [] (zS L, h) =
    am_idx (am_w (h 36 6 - 1)) 16 fun k1 => am_ob (am_enc (List.getD [am_a 83, am_a 90, am_a 97, am_a 104, am_a 111, am_a 118, am_a 125, am_a 132, am_a 139, am_a 146, am_a 153, am_a 160, am_a 167, am_a 174, am_a 181, am_a 188] k1 am_n)) fun y2 => am_xI (zS L) (am_D d 2 4 [am_r (am_a 195)] (zS L, (am_up h 195 18 (y2)))) (am_up1 (zS L)) fun v4 h3 => if (v4 : Int) = 0 then am_bit 0 (some (.inl (some (am_i 0)), (zS L, h3))) else am_xI (zS L) (am_D d 2 1 [am_r (am_a 195)] (zS L, (am_up h3 195 3 (0)))) (am_up1 (zS L)) fun v6 h5 => am_xI (zS L) (am_D d 2 1 [am_r (am_a 195)] (zS L, h5)) (am_up1 (zS L)) fun v8 h7 => am_bit 1 (am_idx 1 40002 fun k9 => am_E (am_D d) m_2_3 (.inl 2) [some (am_r (am_a 195)), some (am_i 0), none] [] (zS L, (am_up (am_up (am_up (am_up (am_up h7 197 k9 (1)) 195 9 (0)) 195 10 (0)) 195 11 (0)) 195 17 (0)))) := (am_cut _ _ 50 0 _ _ _).trans rfl
theorem D_2_3 (d L : Nat) (h : am_H)  :
    am_D (d + 1) 2 3 [am_r (am_a 195)] (zS L, h) =
    am_idx (am_w (h 36 6 - 1)) 16 fun k1 => am_ob (am_enc (List.getD [am_a 83, am_a 90, am_a 97, am_a 104, am_a 111, am_a 118, am_a 125, am_a 132, am_a 139, am_a 146, am_a 153, am_a 160, am_a 167, am_a 174, am_a 181, am_a 188] k1 am_n)) fun y2 => am_xI (zS L) (am_D d 2 4 [am_r (am_a 195)] (zS L, (am_up h 195 18 (y2)))) (am_up1 (zS L)) fun v4 h3 => if (v4 : Int) = 0 then am_bit 0 (some (.inl (some (am_i 0)), (zS L, h3))) else am_xI (zS L) (am_D d 2 1 [am_r (am_a 195)] (zS L, (am_up h3 195 3 (0)))) (am_up1 (zS L)) fun v6 h5 => am_xI (zS L) (am_D d 2 1 [am_r (am_a 195)] (zS L, h5)) (am_up1 (zS L)) fun v8 h7 => am_bit 1 (am_idx 1 40002 fun k9 => am_E (am_D d) m_2_3 (.inl 2) [some (am_r (am_a 195)), some (am_i 0), none] [] (zS L, (am_up (am_up (am_up (am_up (am_up h7 197 k9 (1)) 195 9 (0)) 195 10 (0)) 195 11 (0)) 195 17 (0)))) := (q_2_3_0 d L h )
set_option maxRecDepth 20000 in
theorem q_2_3_2 (d L : Nat) (h : am_H) (x1 : Int) (u2 : Option am_V) :
    am_E (am_D d) m_2_3 (.inl 2) [some (am_r (am_a 195)), some (am_i x1), u2] [] (zS L, h) =
    am_obj (zS L, h) (am_dec (h 195 18)) 3 fun a1 r2 => if (x1 : Int) < h a1 2 then am_idx x1 12 fun k3 => am_E (am_D d) m_2_3 (.inl 3) [some (am_r (am_a 195)), some (am_i x1), some (am_i 0)] [] (zS L, (am_up h 206 k3 (h 195 3))) else am_E (am_D d) m_2_3 (.inl 8) [some (am_r (am_a 195)), some (am_i 0), u2] [] (zS L, h) := (am_cut _ _ 22 2 _ _ _).trans rfl
set_option maxRecDepth 20000 in
theorem q_2_3_3 (d L : Nat) (h : am_H) (x1 : Int) (x2 : Int) :
    am_E (am_D d) m_2_3 (.inl 3) [some (am_r (am_a 195)), some (am_i x1), some (am_i x2)] [] (zS L, h) =
    am_obj (zS L, h) (am_dec (h 195 18)) 3 fun a1 r2 => am_arr (zS L, h) (r2.getD 7 am_n) 1 fun a4 n5 _ => am_idx x1 n5 fun k3 => if (x2 : Int) < h a4 k3 then am_xI (zS L) (am_D d 2 1 [am_r (am_a 195)] (zS L, h)) (am_up1 (zS L)) fun v7 h6 => am_E (am_D d) m_2_3 (.inl 3) [some (am_r (am_a 195)), some (am_i x1), some (am_i (am_w (x2 + 1)))] [] (zS L, h6) else am_E (am_D d) m_2_3 (.inl 5) [some (am_r (am_a 195)), some (am_i x1), some (am_i 0)] [] (zS L, h) := (am_cut _ _ 20 3 _ _ _).trans rfl
set_option maxRecDepth 20000 in
theorem q_2_3_5 (d L : Nat) (h : am_H) (x1 : Int) (x2 : Int) :
    am_E (am_D d) m_2_3 (.inl 5) [some (am_r (am_a 195)), some (am_i x1), some (am_i x2)] [] (zS L, h) =
    am_obj (zS L, h) (am_dec (h 195 18)) 3 fun a1 r2 => am_arr (zS L, h) (r2.getD 7 am_n) 1 fun a4 n5 _ => am_idx x1 n5 fun k3 => if (x2 : Int) < h a4 k3 then am_obj (zS L, h) (am_dec (h 195 18)) 3 fun a6 r7 => if (x1 : Int) < h a6 3 then am_E (am_D d) m_2_3 (.inl 2) [some (am_r (am_a 195)), some (am_i (am_w (x1 + 1))), some (am_i x2)] [] (zS L, h) else am_idx x1 12 fun k8 => am_idx (am_w (h 206 k8 + x2)) 40002 fun k9 => am_E (am_D d) m_2_3 (.inl 5) [some (am_r (am_a 195)), some (am_i x1), some (am_i (am_w (x2 + 1)))] [] (zS L, (am_up h 196 k9 (0))) else am_E (am_D d) m_2_3 (.inl 2) [some (am_r (am_a 195)), some (am_i (am_w (x1 + 1))), some (am_i x2)] [] (zS L, h) := (am_cut _ _ 33 5 _ _ _).trans rfl
set_option maxRecDepth 20000 in
theorem q_2_3_8 (d L : Nat) (h : am_H) (x1 : Int) (u2 : Option am_V) :
    am_E (am_D d) m_2_3 (.inl 8) [some (am_r (am_a 195)), some (am_i x1), u2] [] (zS L, h) =
    am_obj (zS L, h) (am_dec (h 195 18)) 3 fun a1 r2 => if (x1 : Int) < h a1 2 then am_idx x1 12 fun k7 => am_idx (am_w (100 + x1)) 1904 fun k8 => am_E (am_D d) m_2_3 (.inl 8) [some (am_r (am_a 195)), some (am_i (am_w (x1 + 1))), u2] [] (zS L, (am_up h 207 k8 (h 206 k7))) else am_xV (zS L) (am_D d 2 8 [am_r (am_a 195), am_r (am_dec (h 195 18)), am_i 1, am_i 100] (zS L, h)) (am_up1 (zS L)) fun h3 => am_xI (zS L) (am_D d 2 11 [am_r (am_a 195)] (zS L, h3)) (am_up1 (zS L)) fun v5 h4 => if (v5 : Int) = 0 then am_bit 0 (some (.inl (some (am_i 0)), (zS L, h4))) else am_xV (zS L) (am_D d 2 12 [am_r (am_a 195)] (zS L, h4)) (am_up1 (zS L)) fun h6 => am_bit 1 (some (.inl (some (am_i 1)), (zS L, h6))) := (am_cut _ _ 37 8 _ _ _).trans rfl
-- TowerComputer$Board.isSmall()Z
theorem q_2_4_0 (d L : Nat) (h : am_H)  :
    am_E (am_D d) m_2_4 (.inl 0) [some (am_r (am_a 195)), none, none] [] (zS L, h) =
    am_E (am_D d) m_2_4 (.inl 1) [some (am_r (am_a 195)), some (am_i 0), none] [] (zS L, h) := (am_cut _ _ 8 0 _ _ _).trans rfl
theorem D_2_4 (d L : Nat) (h : am_H)  :
    am_D (d + 1) 2 4 [am_r (am_a 195)] (zS L, h) =
    am_E (am_D d) m_2_4 (.inl 1) [some (am_r (am_a 195)), some (am_i 0), none] [] (zS L, h) := (q_2_4_0 d L h )
set_option maxRecDepth 20000 in
theorem q_2_4_1 (d L : Nat) (h : am_H) (x1 : Int) (u2 : Option am_V) :
    am_E (am_D d) m_2_4 (.inl 1) [some (am_r (am_a 195)), some (am_i x1), u2] [] (zS L, h) =
    if (x1 : Int) < h 36 6 then am_idx x1 16 fun k1 => am_E (am_D d) m_2_4 (.inl 1) [some (am_r (am_a 195)), some (am_i (am_w (x1 + 1))), u2] [] (zS L, (am_up h 208 k1 ((-1)))) else am_E (am_D d) m_2_4 (.inl 3) [some (am_r (am_a 195)), some (am_i (am_w (h 36 6 - 1))), u2] [] (zS L, h) := (am_cut _ _ 24 1 _ _ _).trans rfl
set_option maxRecDepth 20000 in
theorem q_2_4_3 (d L : Nat) (h : am_H) (x1 : Int) (u2 : Option am_V) :
    am_E (am_D d) m_2_4 (.inl 3) [some (am_r (am_a 195)), some (am_i x1), u2] [] (zS L, h) =
    am_idx x1 16 fun k1 => if (h 208 k1 : Int) = (-1) then am_E (am_D d) m_2_4 (.inl 4) [some (am_r (am_a 195)), some (am_i x1), some (am_i 0)] [] (zS L, h) else am_idx x1 16 fun k2 => if (1500 : Int) < h 208 k2 then am_bit 0 (some (.inl (some (am_i 0)), (zS L, h))) else am_idx x1 16 fun k3 => if (40000 : Int) < h 209 k3 then am_bit 0 (some (.inl (some (am_i 0)), (zS L, h))) else am_bit 1 (some (.inl (some (am_i 1)), (zS L, h))) := (am_cut _ _ 35 3 _ _ _).trans rfl
set_option maxRecDepth 20000 in
theorem q_2_4_4 (d L : Nat) (h : am_H) (x1 : Int) (x2 : Int) :
    am_E (am_D d) m_2_4 (.inl 4) [some (am_r (am_a 195)), some (am_i x1), some (am_i x2)] [] (zS L, h) =
    if (x2 : Int) < h 36 6 then am_idx x2 16 fun k1 => if (h 208 k1 : Int) = (-1) then am_xV (zS L) (am_D d 2 7 [am_r (am_a 195), am_i x2] (zS L, h)) (am_up1 (zS L)) fun h2 => am_E (am_D d) m_2_4 (.inl 4) [some (am_r (am_a 195)), some (am_i x1), some (am_i (am_w (x2 + 1)))] [] (zS L, h2) else am_E (am_D d) m_2_4 (.inl 4) [some (am_r (am_a 195)), some (am_i x1), some (am_i (am_w (x2 + 1)))] [] (zS L, h) else am_E (am_D d) m_2_4 (.inl 3) [some (am_r (am_a 195)), some (am_i x1), some (am_i x2)] [] (zS L, h) := (am_cut _ _ 25 4 _ _ _).trans rfl
-- TowerComputer$Board.partOf(LTowerComputer$Chip;I)LTowerComputer$Chip;
set_option maxRecDepth 20000 in
theorem q_2_5_0 (d L : Nat) (h : am_H) (X1 : am_R) (x2 : Int) :
    am_E (am_D d) m_2_5 (.inl 0) [some (am_r (am_a 195)), some (am_r (X1)), some (am_i x2)] [] (zS L, h) =
    am_obj (zS L, h) (X1) 3 fun a1 r2 => am_arr (zS L, h) (r2.getD 8 am_n) 1 fun a4 n5 _ => am_idx x2 n5 fun k3 => am_idx (h a4 k3) 2002 fun k6 => am_xR (zS L) (am_D d 4 19 [am_r (am_a 36), am_i (h 79 k6)] (zS L, h)) (am_up1 (zS L)) fun v8 h7 => some (.inl (some (am_r (v8))), (zS L, h7)) := (am_cut _ _ 18 0 _ _ _).trans rfl
theorem D_2_5 (d L : Nat) (h : am_H) (X1 : am_R) (x2 : Int) :
    am_D (d + 1) 2 5 [am_r (am_a 195), am_r (X1), am_i x2] (zS L, h) =
    am_obj (zS L, h) (X1) 3 fun a1 r2 => am_arr (zS L, h) (r2.getD 8 am_n) 1 fun a4 n5 _ => am_idx x2 n5 fun k3 => am_idx (h a4 k3) 2002 fun k6 => am_xR (zS L) (am_D d 4 19 [am_r (am_a 36), am_i (h 79 k6)] (zS L, h)) (am_up1 (zS L)) fun v8 h7 => some (.inl (some (am_r (v8))), (zS L, h7)) := (q_2_5_0 d L h X1 x2)
-- TowerComputer$Board.isGate(LTowerComputer$Chip;)Z
set_option maxRecDepth 20000 in
theorem q_2_6_0 (d L : Nat) (h : am_H) (X1 : am_R) :
    am_E (am_D d) m_2_6 (.inl 0) [some (am_r (am_a 195)), some (am_r (X1))] [] (zS L, h) =
    am_acmp .eq (X1) (am_a 38) (am_bit 1 (some (.inl (some (am_i 1)), (zS L, h)))) (am_acmp .ne (X1) (am_a 45) (am_bit 0 (some (.inl (some (am_i 0)), (zS L, h)))) (am_bit 1 (some (.inl (some (am_i 1)), (zS L, h))))) := (am_cut _ _ 25 0 _ _ _).trans rfl
theorem D_2_6 (d L : Nat) (h : am_H) (X1 : am_R) :
    am_D (d + 1) 2 6 [am_r (am_a 195), am_r (X1)] (zS L, h) =
    am_acmp .eq (X1) (am_a 38) (am_bit 1 (some (.inl (some (am_i 1)), (zS L, h)))) (am_acmp .ne (X1) (am_a 45) (am_bit 0 (some (.inl (some (am_i 0)), (zS L, h)))) (am_bit 1 (some (.inl (some (am_i 1)), (zS L, h))))) := (q_2_6_0 d L h X1)
-- TowerComputer$Board.sum(I)V
set_option maxRecDepth 20000 in
theorem q_2_7_0 (d L : Nat) (h : am_H) (x1 : Int) :
    am_E (am_D d) m_2_7 (.inl 0) [some (am_r (am_a 195)), some (am_i x1), none, none, none, none, none, none] [] (zS L, h) =
    am_idx x1 16 fun k1 => am_E (am_D d) m_2_7 (.inl 1) [some (am_r (am_a 195)), some (am_i x1), some (am_r (List.getD [am_a 83, am_a 90, am_a 97, am_a 104, am_a 111, am_a 118, am_a 125, am_a 132, am_a 139, am_a 146, am_a 153, am_a 160, am_a 167, am_a 174, am_a 181, am_a 188] k1 am_n)), some (am_i 0), some (am_i 0), some (am_i 0), none, none] [] (zS L, h) := (am_cut _ _ 18 0 _ _ _).trans rfl
theorem D_2_7 (d L : Nat) (h : am_H) (x1 : Int) :
    am_D (d + 1) 2 7 [am_r (am_a 195), am_i x1] (zS L, h) =
    am_idx x1 16 fun k1 => am_E (am_D d) m_2_7 (.inl 1) [some (am_r (am_a 195)), some (am_i x1), some (am_r (List.getD [am_a 83, am_a 90, am_a 97, am_a 104, am_a 111, am_a 118, am_a 125, am_a 132, am_a 139, am_a 146, am_a 153, am_a 160, am_a 167, am_a 174, am_a 181, am_a 188] k1 am_n)), some (am_i 0), some (am_i 0), some (am_i 0), none, none] [] (zS L, h) := (q_2_7_0 d L h x1)
set_option maxRecDepth 20000 in
theorem q_2_7_1 (d L : Nat) (h : am_H) (x1 : Int) (X2 : am_R) (x3 : Int) (x4 : Int) (x5 : Int) (u6 : Option am_V) (u7 : Option am_V) :
    am_E (am_D d) m_2_7 (.inl 1) [some (am_r (am_a 195)), some (am_i x1), some (am_r (X2)), some (am_i x3), some (am_i x4), some (am_i x5), u6, u7] [] (zS L, h) =
    am_obj (zS L, h) (X2) 3 fun a1 r2 => if (x5 : Int) < h a1 2 then am_obj (zS L, h) (X2) 3 fun a3 r4 => am_arr (zS L, h) (r4.getD 7 am_n) 1 fun a6 n7 _ => am_idx x5 n7 fun k5 => am_E (am_D d) m_2_7 (.inl 1) [some (am_r (am_a 195)), some (am_i x1), some (am_r (X2)), some (am_i x3), some (am_i (am_w (x4 + h a6 k5))), some (am_i (am_w (x5 + 1))), u6, u7] [] (zS L, h) else am_E (am_D d) m_2_7 (.inl 3) [some (am_r (am_a 195)), some (am_i x1), some (am_r (X2)), some (am_i x3), some (am_i x4), some (am_i 0), u6, u7] [] (zS L, h) := (am_cut _ _ 21 1 _ _ _).trans rfl
set_option maxRecDepth 20000 in
theorem q_2_7_3 (d L : Nat) (h : am_H) (x1 : Int) (X2 : am_R) (x3 : Int) (x4 : Int) (x5 : Int) (u6 : Option am_V) (u7 : Option am_V) :
    am_E (am_D d) m_2_7 (.inl 3) [some (am_r (am_a 195)), some (am_i x1), some (am_r (X2)), some (am_i x3), some (am_i x4), some (am_i x5), u6, u7] [] (zS L, h) =
    am_obj (zS L, h) (X2) 3 fun a1 r2 => if (x5 : Int) < h a1 5 then am_obj (zS L, h) (X2) 3 fun a3 r4 => am_arr (zS L, h) (r4.getD 10 am_n) 1 fun a6 n7 _ => am_idx x5 n7 fun k5 => am_E (am_D d) m_2_7 (.inl 3) [some (am_r (am_a 195)), some (am_i x1), some (am_r (X2)), some (am_i x3), some (am_i (am_w (x4 + h a6 k5))), some (am_i (am_w (x5 + 1))), u6, u7] [] (zS L, h) else am_E (am_D d) m_2_7 (.inl 5) [some (am_r (am_a 195)), some (am_i x1), some (am_r (X2)), some (am_i x3), some (am_i x4), some (am_i 0), u6, u7] [] (zS L, h) := (am_cut _ _ 21 3 _ _ _).trans rfl
set_option maxRecDepth 20000 in
theorem q_2_7_5 (d L : Nat) (h : am_H) (x1 : Int) (X2 : am_R) (x3 : Int) (x4 : Int) (x5 : Int) (u6 : Option am_V) (u7 : Option am_V) :
    am_E (am_D d) m_2_7 (.inl 5) [some (am_r (am_a 195)), some (am_i x1), some (am_r (X2)), some (am_i x3), some (am_i x4), some (am_i x5), u6, u7] [] (zS L, h) =
    am_obj (zS L, h) (X2) 3 fun a1 r2 => if (x5 : Int) < h a1 4 then am_xR (zS L) (am_D d 2 5 [am_r (am_a 195), am_r (X2), am_i x5] (zS L, h)) (am_up1 (zS L)) fun v6 h5 => am_xI (zS L) (am_D d 2 6 [am_r (am_a 195), am_r (v6)] (zS L, h5)) (am_up1 (zS L)) fun v8 h7 => if (v8 : Int) = 0 then am_xI (zS L) (am_D d 4 23 [am_r (am_a 36), am_r (v6)] (zS L, h7)) (am_up1 (zS L)) fun v10 h9 => am_E (am_D d) m_2_7 (.inl 7) [some (am_r (am_a 195)), some (am_i x1), some (am_r (X2)), some (am_i x3), some (am_i x4), some (am_i x5), some (am_r (v6)), u7] [am_i v10] (zS L, h9) else am_E (am_D d) m_2_7 (.inl 7) [some (am_r (am_a 195)), some (am_i x1), some (am_r (X2)), some (am_i x3), some (am_i x4), some (am_i x5), some (am_r (v6)), u7] [am_i (-1)] (zS L, h7) else am_idx x1 16 fun k3 => am_idx x1 16 fun k4 => some (.inl none, (zS L, (am_up (am_up h 208 k3 (x3)) 209 k4 ((if (40001 : Int) ≤ x4 then 40001 else x4))))) := (am_cut _ _ 38 5 _ _ _).trans rfl
set_option maxRecDepth 20000 in
theorem q_2_7_7 (d L : Nat) (h : am_H) (x1 : Int) (X2 : am_R) (x3 : Int) (x4 : Int) (x5 : Int) (X6 : am_R) (u7 : Option am_V) (s0 : Int) :
    am_E (am_D d) m_2_7 (.inl 7) [some (am_r (am_a 195)), some (am_i x1), some (am_r (X2)), some (am_i x3), some (am_i x4), some (am_i x5), some (am_r (X6)), u7] [am_i s0] (zS L, h) =
    if (s0 : Int) = (-1) then if (s0 : Int) = (-1) then am_E (am_D d) m_2_7 (.inl 10) [some (am_r (am_a 195)), some (am_i x1), some (am_r (X2)), some (am_i x3), some (am_i x4), some (am_i x5), some (am_r (X6)), some (am_i s0)] [am_i 1, am_i x3, am_i 1501] (zS L, h) else am_idx s0 16 fun k1 => am_E (am_D d) m_2_7 (.inl 10) [some (am_r (am_a 195)), some (am_i x1), some (am_r (X2)), some (am_i x3), some (am_i x4), some (am_i x5), some (am_r (X6)), some (am_i s0)] [am_i (h 208 k1), am_i x3, am_i 1501] (zS L, h) else am_idx s0 16 fun k2 => if (h 208 k2 : Int) = (-1) then some (.inl none, (zS L, h)) else if (s0 : Int) = (-1) then am_E (am_D d) m_2_7 (.inl 10) [some (am_r (am_a 195)), some (am_i x1), some (am_r (X2)), some (am_i x3), some (am_i x4), some (am_i x5), some (am_r (X6)), some (am_i s0)] [am_i 1, am_i x3, am_i 1501] (zS L, h) else am_idx s0 16 fun k3 => am_E (am_D d) m_2_7 (.inl 10) [some (am_r (am_a 195)), some (am_i x1), some (am_r (X2)), some (am_i x3), some (am_i x4), some (am_i x5), some (am_r (X6)), some (am_i s0)] [am_i (h 208 k3), am_i x3, am_i 1501] (zS L, h) := (am_cut _ _ 40 7 _ _ _).trans rfl
set_option maxRecDepth 20000 in
theorem q_2_7_10 (d L : Nat) (h : am_H) (x1 : Int) (X2 : am_R) (u3 : Option am_V) (x4 : Int) (x5 : Int) (X6 : am_R) (x7 : Int) (s0 : Int) (s1 : Int) (s2 : Int) :
    am_E (am_D d) m_2_7 (.inl 10) [some (am_r (am_a 195)), some (am_i x1), some (am_r (X2)), u3, some (am_i x4), some (am_i x5), some (am_r (X6)), some (am_i x7)] [am_i s0, am_i s1, am_i s2] (zS L, h) =
    if (x7 : Int) = (-1) then am_obj (zS L, h) (X6) 3 fun a2 r3 => am_E (am_D d) m_2_7 (.inl 5) [some (am_r (am_a 195)), some (am_i x1), some (am_r (X2)), some (am_i ((if (s2 : Int) ≤ am_w (s1 + s0) then s2 else am_w (s1 + s0)))), some (am_i ((if (40001 : Int) ≤ am_w (x4 + h a2 2) then 40001 else am_w (x4 + h a2 2)))), some (am_i (am_w (x5 + 1))), some (am_r (X6)), some (am_i x7)] [] (zS L, h) else am_idx x7 16 fun k1 => am_E (am_D d) m_2_7 (.inl 5) [some (am_r (am_a 195)), some (am_i x1), some (am_r (X2)), some (am_i ((if (s2 : Int) ≤ am_w (s1 + s0) then s2 else am_w (s1 + s0)))), some (am_i ((if (40001 : Int) ≤ am_w (x4 + h 209 k1) then 40001 else am_w (x4 + h 209 k1)))), some (am_i (am_w (x5 + 1))), some (am_r (X6)), some (am_i x7)] [] (zS L, h) := (am_cut _ _ 31 10 _ _ _).trans rfl
-- TowerComputer$Board.build(LTowerComputer$Chip;II)V
theorem q_2_8_0 (d L : Nat) (h : am_H) (X1 : am_R) (x2 : Int) (x3 : Int) :
    am_E (am_D d) m_2_8 (.inl 0) [some (am_r (am_a 195)), some (am_r (X1)), some (am_i x2), some (am_i x3), none, none, none, none, none, none] [] (zS L, h) =
    am_E (am_D d) m_2_8 (.inl 1) [some (am_r (am_a 195)), some (am_r (X1)), some (am_i x2), some (am_i x3), some (am_i (am_w (112 * x2))), some (am_i (am_w ((am_w (112 * x2)) + 100))), some (am_i 0), none, none, none] [] (zS L, h) := (am_cut _ _ 16 0 _ _ _).trans rfl
theorem D_2_8 (d L : Nat) (h : am_H) (X1 : am_R) (x2 : Int) (x3 : Int) :
    am_D (d + 1) 2 8 [am_r (am_a 195), am_r (X1), am_i x2, am_i x3] (zS L, h) =
    am_E (am_D d) m_2_8 (.inl 1) [some (am_r (am_a 195)), some (am_r (X1)), some (am_i x2), some (am_i x3), some (am_i (am_w (112 * x2))), some (am_i (am_w ((am_w (112 * x2)) + 100))), some (am_i 0), none, none, none] [] (zS L, h) := (q_2_8_0 d L h X1 x2 x3)
set_option maxRecDepth 20000 in
theorem q_2_8_1 (d L : Nat) (h : am_H) (X1 : am_R) (x2 : Int) (x3 : Int) (x4 : Int) (x5 : Int) (x6 : Int) (u7 : Option am_V) (u8 : Option am_V) (u9 : Option am_V) :
    am_E (am_D d) m_2_8 (.inl 1) [some (am_r (am_a 195)), some (am_r (X1)), some (am_i x2), some (am_i x3), some (am_i x4), some (am_i x5), some (am_i x6), u7, u8, u9] [] (zS L, h) =
    am_obj (zS L, h) (X1) 3 fun a1 r2 => if (x6 : Int) < h a1 5 then am_idx (am_w (x4 + x6)) 1904 fun k3 => am_E (am_D d) m_2_8 (.inl 2) [some (am_r (am_a 195)), some (am_r (X1)), some (am_i x2), some (am_i x3), some (am_i x4), some (am_i x5), some (am_i x6), some (am_i 0), u8, u9] [] (zS L, (am_up h 207 k3 (h 195 3))) else am_E (am_D d) m_2_8 (.inl 5) [some (am_r (am_a 195)), some (am_r (X1)), some (am_i x2), some (am_i x3), some (am_i x4), some (am_i x5), some (am_i 0), u7, u8, u9] [] (zS L, h) := (am_cut _ _ 23 1 _ _ _).trans rfl
set_option maxRecDepth 20000 in
theorem q_2_8_2 (d L : Nat) (h : am_H) (X1 : am_R) (x2 : Int) (x3 : Int) (x4 : Int) (x5 : Int) (x6 : Int) (x7 : Int) (u8 : Option am_V) (u9 : Option am_V) :
    am_E (am_D d) m_2_8 (.inl 2) [some (am_r (am_a 195)), some (am_r (X1)), some (am_i x2), some (am_i x3), some (am_i x4), some (am_i x5), some (am_i x6), some (am_i x7), u8, u9] [] (zS L, h) =
    am_obj (zS L, h) (X1) 3 fun a1 r2 => am_arr (zS L, h) (r2.getD 10 am_n) 1 fun a4 n5 _ => am_idx x6 n5 fun k3 => if (x7 : Int) < h a4 k3 then am_xI (zS L) (am_D d 2 1 [am_r (am_a 195)] (zS L, h)) (am_up1 (zS L)) fun v7 h6 => am_E (am_D d) m_2_8 (.inl 2) [some (am_r (am_a 195)), some (am_r (X1)), some (am_i x2), some (am_i x3), some (am_i x4), some (am_i x5), some (am_i x6), some (am_i (am_w (x7 + 1))), u8, u9] [] (zS L, h6) else am_E (am_D d) m_2_8 (.inl 1) [some (am_r (am_a 195)), some (am_r (X1)), some (am_i x2), some (am_i x3), some (am_i x4), some (am_i x5), some (am_i (am_w (x6 + 1))), some (am_i x7), u8, u9] [] (zS L, h) := (am_cut _ _ 18 2 _ _ _).trans rfl
set_option maxRecDepth 20000 in
theorem q_2_8_5 (d L : Nat) (h : am_H) (X1 : am_R) (x2 : Int) (x3 : Int) (x4 : Int) (x5 : Int) (x6 : Int) (u7 : Option am_V) (u8 : Option am_V) (u9 : Option am_V) :
    am_E (am_D d) m_2_8 (.inl 5) [some (am_r (am_a 195)), some (am_r (X1)), some (am_i x2), some (am_i x3), some (am_i x4), some (am_i x5), some (am_i x6), u7, u8, u9] [] (zS L, h) =
    am_obj (zS L, h) (X1) 3 fun a1 r2 => if (x6 : Int) < h a1 4 then am_xR (zS L) (am_D d 2 5 [am_r (am_a 195), am_r (X1), am_i x6] (zS L, h)) (am_up1 (zS L)) fun v4 h3 => am_E (am_D d) m_2_8 (.inl 6) [some (am_r (am_a 195)), some (am_r (X1)), some (am_i x2), some (am_i x3), some (am_i x4), some (am_i x5), some (am_i x6), some (am_r (v4)), some (am_i 0), u9] [] (zS L, h3) else some (.inl none, (zS L, h)) := (am_cut _ _ 18 5 _ _ _).trans rfl
set_option maxRecDepth 20000 in
theorem q_2_8_6 (d L : Nat) (h : am_H) (X1 : am_R) (x2 : Int) (x3 : Int) (x4 : Int) (x5 : Int) (x6 : Int) (X7 : am_R) (x8 : Int) (u9 : Option am_V) :
    am_E (am_D d) m_2_8 (.inl 6) [some (am_r (am_a 195)), some (am_r (X1)), some (am_i x2), some (am_i x3), some (am_i x4), some (am_i x5), some (am_i x6), some (am_r (X7)), some (am_i x8), u9] [] (zS L, h) =
    am_obj (zS L, h) (X7) 3 fun a1 r2 => if (x8 : Int) < h a1 2 then am_idx (am_w (x5 + x8)) 1904 fun k6 => am_E (am_D d) m_2_8 (.inl 7) [some (am_r (am_a 195)), some (am_r (X1)), some (am_i x2), some (am_i x3), some (am_i x4), some (am_i x5), some (am_i x6), some (am_r (X7)), some (am_i x8), some (am_i 0)] [] (zS L, (am_up h 207 k6 (h 195 3))) else am_xI (zS L) (am_D d 2 6 [am_r (am_a 195), am_r (X7)] (zS L, h)) (am_up1 (zS L)) fun v4 h3 => if (v4 : Int) = 0 then am_E (am_D d) m_2_8 (.inl 10) [some (am_r (am_a 195)), some (am_r (X1)), some (am_i x2), some (am_i x3), some (am_i x4), some (am_i x5), some (am_i x6), some (am_r (X7)), some (am_i x8), u9] [] (zS L, h3) else am_xV (zS L) (am_D d 2 9 [am_r (am_a 195), am_r (X7), am_i x5] (zS L, h3)) (am_up1 (zS L)) fun h5 => am_E (am_D d) m_2_8 (.inl 10) [some (am_r (am_a 195)), some (am_r (X1)), some (am_i x2), some (am_i x3), some (am_i x4), some (am_i x5), some (am_i x6), some (am_r (X7)), some (am_i x8), u9] [] (zS L, h5) := (am_cut _ _ 29 6 _ _ _).trans rfl
set_option maxRecDepth 20000 in
theorem q_2_8_7 (d L : Nat) (h : am_H) (X1 : am_R) (x2 : Int) (x3 : Int) (x4 : Int) (x5 : Int) (x6 : Int) (X7 : am_R) (x8 : Int) (x9 : Int) :
    am_E (am_D d) m_2_8 (.inl 7) [some (am_r (am_a 195)), some (am_r (X1)), some (am_i x2), some (am_i x3), some (am_i x4), some (am_i x5), some (am_i x6), some (am_r (X7)), some (am_i x8), some (am_i x9)] [] (zS L, h) =
    am_obj (zS L, h) (X7) 3 fun a1 r2 => am_arr (zS L, h) (r2.getD 7 am_n) 1 fun a4 n5 _ => am_idx x8 n5 fun k3 => if (x9 : Int) < h a4 k3 then am_xI (zS L) (am_D d 2 1 [am_r (am_a 195)] (zS L, h)) (am_up1 (zS L)) fun v7 h6 => am_idx v7 40002 fun k8 => am_E (am_D d) m_2_8 (.inl 7) [some (am_r (am_a 195)), some (am_r (X1)), some (am_i x2), some (am_i x3), some (am_i x4), some (am_i x5), some (am_i x6), some (am_r (X7)), some (am_i x8), some (am_i (am_w (x9 + 1)))] [] (zS L, (am_up h6 196 k8 (0))) else am_E (am_D d) m_2_8 (.inl 6) [some (am_r (am_a 195)), some (am_r (X1)), some (am_i x2), some (am_i x3), some (am_i x4), some (am_i x5), some (am_i x6), some (am_r (X7)), some (am_i (am_w (x8 + 1))), some (am_i x9)] [] (zS L, h) := (am_cut _ _ 21 7 _ _ _).trans rfl
set_option maxRecDepth 20000 in
theorem q_2_8_10 (d L : Nat) (h : am_H) (X1 : am_R) (x2 : Int) (x3 : Int) (x4 : Int) (x5 : Int) (x6 : Int) (X7 : am_R) (u8 : Option am_V) (u9 : Option am_V) :
    am_E (am_D d) m_2_8 (.inl 10) [some (am_r (am_a 195)), some (am_r (X1)), some (am_i x2), some (am_i x3), some (am_i x4), some (am_i x5), some (am_i x6), some (am_r (X7)), u8, u9] [] (zS L, h) =
    am_obj (zS L, h) (X1) 3 fun a1 r2 => am_arr (zS L, h) (r2.getD 8 am_n) 1 fun a4 n5 _ => am_idx x6 n5 fun k3 => am_xV (zS L) (am_D d 2 10 [am_r (am_a 195), am_r (X1), am_r (X7), am_i (am_w (h a4 k3 + 2)), am_i x3, am_i x4, am_i x5] (zS L, h)) (am_up1 (zS L)) fun h6 => am_xI (zS L) (am_D d 2 6 [am_r (am_a 195), am_r (X7)] (zS L, h6)) (am_up1 (zS L)) fun v8 h7 => if (v8 : Int) = 0 then am_xV (zS L) (am_D d 2 8 [am_r (am_a 195), am_r (X7), am_i (am_w (x2 + 1)), am_i x5] (zS L, h7)) (am_up1 (zS L)) fun h9 => am_E (am_D d) m_2_8 (.inl 5) [some (am_r (am_a 195)), some (am_r (X1)), some (am_i x2), some (am_i x3), some (am_i x4), some (am_i x5), some (am_i (am_w (x6 + 1))), some (am_r (X7)), u8, u9] [] (zS L, h9) else am_E (am_D d) m_2_8 (.inl 5) [some (am_r (am_a 195)), some (am_r (X1)), some (am_i x2), some (am_i x3), some (am_i x4), some (am_i x5), some (am_i (am_w (x6 + 1))), some (am_r (X7)), u8, u9] [] (zS L, h7) := (am_cut _ _ 34 10 _ _ _).trans rfl
-- TowerComputer$Board.gate(LTowerComputer$Chip;I)V
set_option maxRecDepth 20000 in
theorem q_2_9_0 (d L : Nat) (h : am_H) (X1 : am_R) (x2 : Int) :
    am_E (am_D d) m_2_9 (.inl 0) [some (am_r (am_a 195)), some (am_r (X1)), some (am_i x2), none] [] (zS L, h) =
    am_obj (zS L, h) (X1) 3 fun a1 r2 => am_idx (am_w (x2 + h a1 3)) 1904 fun k3 => am_idx (h 207 k3) 40002 fun k4 => am_acmp .ne (X1) (am_a 45) (am_E (am_D d) m_2_9 (.inl 2) [some (am_r (am_a 195)), some (am_r (X1)), some (am_i x2), some (am_i (h 207 k3))] [am_i 0, am_i (h 195 9), am_r (am_a 201)] (zS L, (am_up h 196 k4 (h 207 k3)))) (am_E (am_D d) m_2_9 (.inl 2) [some (am_r (am_a 195)), some (am_r (X1)), some (am_i x2), some (am_i (h 207 k3))] [am_i 1, am_i (h 195 9), am_r (am_a 201)] (zS L, (am_up h 196 k4 (h 207 k3)))) := (am_cut _ _ 31 0 _ _ _).trans rfl
theorem D_2_9 (d L : Nat) (h : am_H) (X1 : am_R) (x2 : Int) :
    am_D (d + 1) 2 9 [am_r (am_a 195), am_r (X1), am_i x2] (zS L, h) =
    am_obj (zS L, h) (X1) 3 fun a1 r2 => am_idx (am_w (x2 + h a1 3)) 1904 fun k3 => am_idx (h 207 k3) 40002 fun k4 => am_acmp .ne (X1) (am_a 45) (am_E (am_D d) m_2_9 (.inl 2) [some (am_r (am_a 195)), some (am_r (X1)), some (am_i x2), some (am_i (h 207 k3))] [am_i 0, am_i (h 195 9), am_r (am_a 201)] (zS L, (am_up h 196 k4 (h 207 k3)))) (am_E (am_D d) m_2_9 (.inl 2) [some (am_r (am_a 195)), some (am_r (X1)), some (am_i x2), some (am_i (h 207 k3))] [am_i 1, am_i (h 195 9), am_r (am_a 201)] (zS L, (am_up h 196 k4 (h 207 k3)))) := (q_2_9_0 d L h X1 x2)
set_option maxRecDepth 20000 in
theorem q_2_9_2 (d L : Nat) (h : am_H) (X1 : am_R) (x2 : Int) (x3 : Int) (s0 : Int) (s1 : Int) (S2 : am_R) :
    am_E (am_D d) m_2_9 (.inl 2) [some (am_r (am_a 195)), some (am_r (X1)), some (am_i x2), some (am_i x3)] [am_i s0, am_i s1, am_r (S2)] (zS L, h) =
    am_bit s0 (am_arr (zS L, h) (S2) 4 fun a2 n3 _ => am_idx s1 n3 fun k1 => cond (Nat.beq a2 0) none (am_idx x2 1904 fun k4 => am_idx ((am_up h a2 k1 (s0)) 195 9) 1500 fun k5 => am_acmp .ne (X1) (am_a 38) (am_E (am_D d) m_2_9 (.inl 4) [some (am_r (am_a 195)), some (am_r (X1)), some (am_i x2), some (am_i x3)] [am_i x2, am_r (am_a 207), am_i ((am_up h a2 k1 (s0)) 195 9), am_r (am_a 199)] (zS L, (am_up (am_up h a2 k1 (s0)) 198 k5 ((am_up h a2 k1 (s0)) 207 k4)))) (am_E (am_D d) m_2_9 (.inl 4) [some (am_r (am_a 195)), some (am_r (X1)), some (am_i x2), some (am_i x3)] [am_i (am_w (x2 + 1)), am_r (am_a 207), am_i ((am_up h a2 k1 (s0)) 195 9), am_r (am_a 199)] (zS L, (am_up (am_up h a2 k1 (s0)) 198 k5 ((am_up h a2 k1 (s0)) 207 k4)))))) := (am_cut _ _ 32 2 _ _ _).trans rfl
set_option maxRecDepth 20000 in
theorem q_2_9_4 (d L : Nat) (h : am_H) (X1 : am_R) (u2 : Option am_V) (x3 : Int) (s0 : Int) (S1 : am_R) (s2 : Int) (S3 : am_R) :
    am_E (am_D d) m_2_9 (.inl 4) [some (am_r (am_a 195)), some (am_r (X1)), u2, some (am_i x3)] [am_i s0, am_r (S1), am_i s2, am_r (S3)] (zS L, h) =
    am_arr (zS L, h) (S1) 1 fun a2 n3 _ => am_idx s0 n3 fun k1 => am_arr (zS L, h) (S3) 1 fun a5 n6 _ => am_idx s2 n6 fun k4 => cond (Nat.beq a5 0) none (am_idx ((am_up h a5 k4 (h a2 k1)) 195 9) 1500 fun k7 => am_acmp .ne (X1) (am_a 38) (am_E (am_D d) m_2_9 (.inl 6) [some (am_r (am_a 195)), some (am_r (X1)), u2, some (am_i x3)] [am_i 0, am_i ((am_up h a5 k4 (h a2 k1)) 195 10), am_r (am_a 195)] (zS L, (am_up (am_up h a5 k4 (h a2 k1)) 200 k7 (x3)))) (am_E (am_D d) m_2_9 (.inl 6) [some (am_r (am_a 195)), some (am_r (X1)), u2, some (am_i x3)] [am_i 1, am_i ((am_up h a5 k4 (h a2 k1)) 195 10), am_r (am_a 195)] (zS L, (am_up (am_up h a5 k4 (h a2 k1)) 200 k7 (x3))))) := (am_cut _ _ 25 4 _ _ _).trans rfl
set_option maxRecDepth 20000 in
theorem q_2_9_6 (d L : Nat) (h : am_H) (X1 : am_R) (u2 : Option am_V) (u3 : Option am_V) (s0 : Int) (s1 : Int) :
    am_E (am_D d) m_2_9 (.inl 6) [some (am_r (am_a 195)), some (am_r (X1)), u2, u3] [am_i s0, am_i s1, am_r (am_a 195)] (zS L, h) =
    am_acmp .ne (X1) (am_a 45) (some (.inl none, (zS L, (am_up (am_up (am_up h 195 10 (am_w (s1 + s0))) 195 11 (am_w (h 195 11 + 0))) 195 9 (am_w (h 195 9 + 1)))))) (some (.inl none, (zS L, (am_up (am_up (am_up h 195 10 (am_w (s1 + s0))) 195 11 (am_w (h 195 11 + 1))) 195 9 (am_w (h 195 9 + 1)))))) := (am_cut _ _ 37 6 _ _ _).trans rfl
-- TowerComputer$Board.connect(LTowerComputer$Chip;LTowerComputer$Chip;IIII)V
theorem q_2_10_0 (d L : Nat) (h : am_H) (X1 : am_R) (X2 : am_R) (x3 : Int) (x4 : Int) (x5 : Int) (x6 : Int) :
    am_E (am_D d) m_2_10 (.inl 0) [some (am_r (am_a 195)), some (am_r (X1)), some (am_r (X2)), some (am_i x3), some (am_i x4), some (am_i x5), some (am_i x6), none, none, none, none, none, none, none, none, none] [] (zS L, h) =
    am_E (am_D d) m_2_10 (.inl 1) [some (am_r (am_a 195)), some (am_r (X1)), some (am_r (X2)), some (am_i x3), some (am_i x4), some (am_i x5), some (am_i x6), some (am_r (am_a 36)), some (am_i 1), none, none, none, none, none, none, none] [] (zS L, (am_up h 36 5 (x3))) := (am_cut _ _ 14 0 _ _ _).trans rfl
theorem D_2_10 (d L : Nat) (h : am_H) (X1 : am_R) (X2 : am_R) (x3 : Int) (x4 : Int) (x5 : Int) (x6 : Int) :
    am_D (d + 1) 2 10 [am_r (am_a 195), am_r (X1), am_r (X2), am_i x3, am_i x4, am_i x5, am_i x6] (zS L, h) =
    am_E (am_D d) m_2_10 (.inl 1) [some (am_r (am_a 195)), some (am_r (X1)), some (am_r (X2)), some (am_i x3), some (am_i x4), some (am_i x5), some (am_i x6), some (am_r (am_a 36)), some (am_i 1), none, none, none, none, none, none, none] [] (zS L, (am_up h 36 5 (x3))) := (q_2_10_0 d L h X1 X2 x3 x4 x5 x6)
set_option maxRecDepth 20000 in
theorem q_2_10_1 (d L : Nat) (h : am_H) (X1 : am_R) (X2 : am_R) (u3 : Option am_V) (x4 : Int) (x5 : Int) (x6 : Int) (x8 : Int) (u9 : Option am_V) (u10 : Option am_V) (u11 : Option am_V) (u12 : Option am_V) (u13 : Option am_V) (u14 : Option am_V) (u15 : Option am_V) :
    am_E (am_D d) m_2_10 (.inl 1) [some (am_r (am_a 195)), some (am_r (X1)), some (am_r (X2)), u3, some (am_i x4), some (am_i x5), some (am_i x6), some (am_r (am_a 36)), some (am_i x8), u9, u10, u11, u12, u13, u14, u15] [] (zS L, h) =
    if (x8 : Int) = 0 then some (.inl none, (zS L, h)) else am_xI (zS L) (am_D d 4 3 [am_r (am_a 36)] (zS L, h)) (am_up1 (zS L)) fun v2 h1 => am_obj (zS L, h1) (X2) 3 fun _ _ => am_xI (zS L) (am_D d 3 2 [am_r (X2), am_i v2] (zS L, h1)) (am_up1 (zS L)) fun v4 h3 => am_obj (zS L, (am_up h3 36 5 (am_w (h3 36 5 + 1)))) (X2) 3 fun a5 r6 => am_arr (zS L, (am_up h3 36 5 (am_w (h3 36 5 + 1)))) (r6.getD 7 am_n) 1 fun a8 n9 _ => am_idx v4 n9 fun k7 => am_xI (zS L) (am_D d 4 25 [am_r (am_a 36), am_i ((am_up h3 36 5 (am_w (h3 36 5 + 1))) a8 k7)] (zS L, (am_up h3 36 5 (am_w (h3 36 5 + 1))))) (am_up1 (zS L)) fun v11 h10 => am_idx (am_w (x6 + v4)) 1904 fun k12 => am_xI (zS L) (am_D d 4 3 [am_r (am_a 36)] (zS L, (am_up h10 36 5 (am_w (h10 36 5 + 1))))) (am_up1 (zS L)) fun v14 h13 => am_xI (zS L) (am_D d 4 2 [am_r (am_a 36)] (zS L, h13)) (am_up1 (zS L)) fun v16 h15 => if (v16 : Int) = 1 then am_E (am_D d) m_2_10 (.inl 2) [some (am_r (am_a 195)), some (am_r (X1)), some (am_r (X2)), u3, some (am_i x4), some (am_i x5), some (am_i x6), some (am_r (am_a 36)), some (am_i x8), some (am_i v4), some (am_i (am_w (h10 207 k12 + h10 36 9))), some (am_i (am_w ((am_w (h10 36 10 - h10 36 9)) + 1))), some (am_i v14), u13, u14, u15] [] (zS L, h15) else am_E (am_D d) m_2_10 (.inl 4) [some (am_r (am_a 195)), some (am_r (X1)), some (am_r (X2)), u3, some (am_i x4), some (am_i x5), some (am_i x6), some (am_r (am_a 36)), some (am_i x8), some (am_i v4), some (am_i (am_w (h10 207 k12 + h10 36 9))), some (am_i (am_w ((am_w (h10 36 10 - h10 36 9)) + 1))), some (am_i v14), u13, u14, u15] [am_i 0] (zS L, h15) := (am_cut _ _ 60 1 _ _ _).trans rfl
theorem q_2_10_2 (d L : Nat) (h : am_H) (X1 : am_R) (X2 : am_R) (u3 : Option am_V) (x4 : Int) (x5 : Int) (x6 : Int) (u8 : Option am_V) (x9 : Int) (x10 : Int) (x11 : Int) (x12 : Int) (u13 : Option am_V) (u14 : Option am_V) (u15 : Option am_V) :
    am_E (am_D d) m_2_10 (.inl 2) [some (am_r (am_a 195)), some (am_r (X1)), some (am_r (X2)), u3, some (am_i x4), some (am_i x5), some (am_i x6), some (am_r (am_a 36)), u8, some (am_i x9), some (am_i x10), some (am_i x11), some (am_i x12), u13, u14, u15] [] (zS L, h) =
    am_E (am_D d) m_2_10 (.inl 4) [some (am_r (am_a 195)), some (am_r (X1)), some (am_r (X2)), u3, some (am_i x4), some (am_i x5), some (am_i x6), some (am_r (am_a 36)), u8, some (am_i x9), some (am_i x10), some (am_i x11), some (am_i x12), u13, u14, u15] [am_i 1] (zS L, h) := (am_cut _ _ 7 2 _ _ _).trans rfl
set_option maxRecDepth 20000 in
theorem q_2_10_4 (d L : Nat) (h : am_H) (X1 : am_R) (X2 : am_R) (u3 : Option am_V) (x4 : Int) (x5 : Int) (x6 : Int) (u8 : Option am_V) (x9 : Int) (x10 : Int) (x11 : Int) (x12 : Int) (u13 : Option am_V) (u14 : Option am_V) (u15 : Option am_V) (s0 : Int) :
    am_E (am_D d) m_2_10 (.inl 4) [some (am_r (am_a 195)), some (am_r (X1)), some (am_r (X2)), u3, some (am_i x4), some (am_i x5), some (am_i x6), some (am_r (am_a 36)), u8, some (am_i x9), some (am_i x10), some (am_i x11), some (am_i x12), u13, u14, u15] [am_i s0] (zS L, h) =
    if (s0 : Int) = 0 then am_obj (zS L, (am_up h 36 5 (am_w (h 36 5 + 1)))) (X1) 3 fun _ _ => am_xI (zS L) (am_D d 3 2 [am_r (X1), am_i x12] (zS L, (am_up h 36 5 (am_w (h 36 5 + 1))))) (am_up1 (zS L)) fun v2 h1 => if (v2 : Int) = (-1) then am_obj (zS L, h1) (X1) 3 fun _ _ => am_xI (zS L) (am_D d 3 3 [am_r (X1), am_i x12] (zS L, h1)) (am_up1 (zS L)) fun v7 h6 => am_idx (am_w (x5 + v7)) 1904 fun k8 => am_E (am_D d) m_2_10 (.inl 7) [some (am_r (am_a 195)), some (am_r (X1)), some (am_r (X2)), u3, some (am_i x4), some (am_i x5), some (am_i x6), some (am_r (am_a 36)), u8, some (am_i x9), some (am_i x10), some (am_i x11), some (am_i x12), some (am_i s0), u14, u15] [am_i (h6 207 k8)] (zS L, h6) else am_obj (zS L, h1) (X1) 3 fun _ _ => am_xI (zS L) (am_D d 3 2 [am_r (X1), am_i x12] (zS L, h1)) (am_up1 (zS L)) fun v4 h3 => am_idx (am_w (x4 + v4)) 1904 fun k5 => am_E (am_D d) m_2_10 (.inl 7) [some (am_r (am_a 195)), some (am_r (X1)), some (am_r (X2)), u3, some (am_i x4), some (am_i x5), some (am_i x6), some (am_r (am_a 36)), u8, some (am_i x9), some (am_i x10), some (am_i x11), some (am_i x12), some (am_i s0), u14, u15] [am_i (h3 207 k5)] (zS L, h3) else am_E (am_D d) m_2_10 (.inl 7) [some (am_r (am_a 195)), some (am_r (X1)), some (am_r (X2)), u3, some (am_i x4), some (am_i x5), some (am_i x6), some (am_r (am_a 36)), u8, some (am_i x9), some (am_i x10), some (am_i x11), some (am_i x12), some (am_i s0), u14, u15] [am_i (-1)] (zS L, (am_up h 36 5 (am_w (h 36 5 + 1)))) := (am_cut _ _ 39 4 _ _ _).trans rfl
set_option maxRecDepth 20000 in
theorem q_2_10_7 (d L : Nat) (h : am_H) (X1 : am_R) (X2 : am_R) (u3 : Option am_V) (x4 : Int) (x5 : Int) (x6 : Int) (u8 : Option am_V) (x9 : Int) (x10 : Int) (x11 : Int) (x12 : Int) (x13 : Int) (u14 : Option am_V) (u15 : Option am_V) (s0 : Int) :
    am_E (am_D d) m_2_10 (.inl 7) [some (am_r (am_a 195)), some (am_r (X1)), some (am_r (X2)), u3, some (am_i x4), some (am_i x5), some (am_i x6), some (am_r (am_a 36)), u8, some (am_i x9), some (am_i x10), some (am_i x11), some (am_i x12), some (am_i x13), u14, u15] [am_i s0] (zS L, h) =
    if (x13 : Int) = 0 then am_obj (zS L, h) (X1) 3 fun _ _ => am_xI (zS L) (am_D d 3 2 [am_r (X1), am_i x12] (zS L, h)) (am_up1 (zS L)) fun v2 h1 => if (v2 : Int) = (-1) then am_E (am_D d) m_2_10 (.inl 9) [some (am_r (am_a 195)), some (am_r (X1)), some (am_r (X2)), u3, some (am_i x4), some (am_i x5), some (am_i x6), some (am_r (am_a 36)), u8, some (am_i x9), some (am_i x10), some (am_i x11), some (am_i x12), some (am_i x13), some (am_i s0), some (am_i 0)] [] (zS L, h1) else am_obj (zS L, h1) (X1) 3 fun a3 r4 => am_obj (zS L, h1) (X1) 3 fun _ _ => am_xI (zS L) (am_D d 3 2 [am_r (X1), am_i x12] (zS L, h1)) (am_up1 (zS L)) fun v6 h5 => am_arr (zS L, h5) (r4.getD 7 am_n) 1 fun a8 n9 _ => am_idx v6 n9 fun k7 => am_xI (zS L) (am_D d 4 25 [am_r (am_a 36), am_i (h5 a8 k7)] (zS L, h5)) (am_up1 (zS L)) fun v11 h10 => am_E (am_D d) m_2_10 (.inl 9) [some (am_r (am_a 195)), some (am_r (X1)), some (am_r (X2)), u3, some (am_i x4), some (am_i x5), some (am_i x6), some (am_r (am_a 36)), u8, some (am_i x9), some (am_i x10), some (am_i x11), some (am_i x12), some (am_i x13), some (am_i (am_w (s0 + h10 36 9))), some (am_i 0)] [] (zS L, h10) else am_E (am_D d) m_2_10 (.inl 9) [some (am_r (am_a 195)), some (am_r (X1)), some (am_r (X2)), u3, some (am_i x4), some (am_i x5), some (am_i x6), some (am_r (am_a 36)), u8, some (am_i x9), some (am_i x10), some (am_i x11), some (am_i x12), some (am_i x13), some (am_i s0), some (am_i 0)] [] (zS L, h) := (am_cut _ _ 37 7 _ _ _).trans rfl
set_option maxRecDepth 20000 in
theorem q_2_10_9 (d L : Nat) (h : am_H) (X1 : am_R) (X2 : am_R) (u3 : Option am_V) (x4 : Int) (x5 : Int) (x6 : Int) (u8 : Option am_V) (x9 : Int) (x10 : Int) (x11 : Int) (x12 : Int) (x13 : Int) (x14 : Int) (x15 : Int) :
    am_E (am_D d) m_2_10 (.inl 9) [some (am_r (am_a 195)), some (am_r (X1)), some (am_r (X2)), u3, some (am_i x4), some (am_i x5), some (am_i x6), some (am_r (am_a 36)), u8, some (am_i x9), some (am_i x10), some (am_i x11), some (am_i x12), some (am_i x13), some (am_i x14), some (am_i x15)] [] (zS L, h) =
    if (x15 : Int) < x11 then if (x13 : Int) = 0 then am_obj (zS L, h) (X2) 3 fun a3 r4 => if (x9 : Int) < h a3 3 then am_idx (am_w (x10 + x15)) 40002 fun k6 => am_E (am_D d) m_2_10 (.inl 9) [some (am_r (am_a 195)), some (am_r (X1)), some (am_r (X2)), u3, some (am_i x4), some (am_i x5), some (am_i x6), some (am_r (am_a 36)), u8, some (am_i x9), some (am_i x10), some (am_i x11), some (am_i x12), some (am_i x13), some (am_i x14), some (am_i (am_w (x15 + 1)))] [] (zS L, (am_up h 196 k6 (am_w (x14 + x15)))) else am_idx (am_w (x14 + x15)) 40002 fun k5 => am_E (am_D d) m_2_10 (.inl 9) [some (am_r (am_a 195)), some (am_r (X1)), some (am_r (X2)), u3, some (am_i x4), some (am_i x5), some (am_i x6), some (am_r (am_a 36)), u8, some (am_i x9), some (am_i x10), some (am_i x11), some (am_i x12), some (am_i x13), some (am_i x14), some (am_i (am_w (x15 + 1)))] [] (zS L, (am_up h 196 k5 (am_w (x10 + x15)))) else if (x12 : Int) = 4 then am_idx (am_w (x10 + x15)) 40002 fun k8 => am_E (am_D d) m_2_10 (.inl 9) [some (am_r (am_a 195)), some (am_r (X1)), some (am_r (X2)), u3, some (am_i x4), some (am_i x5), some (am_i x6), some (am_r (am_a 36)), u8, some (am_i x9), some (am_i x10), some (am_i x11), some (am_i x12), some (am_i x13), some (am_i x14), some (am_i (am_w (x15 + 1)))] [] (zS L, (am_up h 196 k8 (1))) else am_idx (am_w (x10 + x15)) 40002 fun k7 => am_E (am_D d) m_2_10 (.inl 9) [some (am_r (am_a 195)), some (am_r (X1)), some (am_r (X2)), u3, some (am_i x4), some (am_i x5), some (am_i x6), some (am_r (am_a 36)), u8, some (am_i x9), some (am_i x10), some (am_i x11), some (am_i x12), some (am_i x13), some (am_i x14), some (am_i (am_w (x15 + 1)))] [] (zS L, (am_up h 196 k7 (0))) else am_xI (zS L) (am_D d 4 8 [am_r (am_a 36), am_i 44] (zS L, h)) (am_up1 (zS L)) fun v2 h1 => am_E (am_D d) m_2_10 (.inl 1) [some (am_r (am_a 195)), some (am_r (X1)), some (am_r (X2)), u3, some (am_i x4), some (am_i x5), some (am_i x6), some (am_r (am_a 36)), some (am_i v2), some (am_i x9), some (am_i x10), some (am_i x11), some (am_i x12), some (am_i x13), some (am_i x14), some (am_i x15)] [] (zS L, (am_up h1 36 5 (am_w (h1 36 5 + 1)))) := (am_cut _ _ 69 9 _ _ _).trans rfl
-- TowerComputer$Board.sort()Z
theorem q_2_11_0 (d L : Nat) (h : am_H)  :
    am_E (am_D d) m_2_11 (.inl 0) [some (am_r (am_a 195)), none, none] [] (zS L, h) =
    am_E (am_D d) m_2_11 (.inl 1) [some (am_r (am_a 195)), some (am_i 0), none] [] (zS L, h) := (am_cut _ _ 8 0 _ _ _).trans rfl
theorem D_2_11 (d L : Nat) (h : am_H)  :
    am_D (d + 1) 2 11 [am_r (am_a 195)] (zS L, h) =
    am_E (am_D d) m_2_11 (.inl 1) [some (am_r (am_a 195)), some (am_i 0), none] [] (zS L, h) := (q_2_11_0 d L h )
set_option maxRecDepth 20000 in
theorem q_2_11_1 (d L : Nat) (h : am_H) (x1 : Int) (u2 : Option am_V) :
    am_E (am_D d) m_2_11 (.inl 1) [some (am_r (am_a 195)), some (am_i x1), u2] [] (zS L, h) =
    if (x1 : Int) < h 195 3 then am_idx x1 40002 fun k1 => if (h 196 k1 : Int) = x1 then am_bit 1 (am_idx x1 40002 fun k4 => am_idx x1 40002 fun k5 => am_E (am_D d) m_2_11 (.inl 1) [some (am_r (am_a 195)), some (am_i (am_w (x1 + 1))), u2] [] (zS L, (am_up (am_up h 205 k4 (1)) 204 k5 (0)))) else am_bit 0 (am_idx x1 40002 fun k2 => am_idx x1 40002 fun k3 => am_E (am_D d) m_2_11 (.inl 1) [some (am_r (am_a 195)), some (am_i (am_w (x1 + 1))), u2] [] (zS L, (am_up (am_up h 205 k2 (0)) 204 k3 (0)))) else am_E (am_D d) m_2_11 (.inl 5) [some (am_r (am_a 195)), some (am_i 0), u2] [] (zS L, h) := (am_cut _ _ 41 1 _ _ _).trans rfl
set_option maxRecDepth 20000 in
theorem q_2_11_5 (d L : Nat) (h : am_H) (x1 : Int) (u2 : Option am_V) :
    am_E (am_D d) m_2_11 (.inl 5) [some (am_r (am_a 195)), some (am_i x1), u2] [] (zS L, h) =
    if (x1 : Int) < h 195 9 then am_idx x1 1500 fun k1 => am_xI (zS L) (am_D d 2 2 [am_r (am_a 195), am_i (h 198 k1)] (zS L, h)) (am_up1 (zS L)) fun v3 h2 => am_idx x1 1500 fun k4 => am_idx x1 1500 fun k5 => am_xI (zS L) (am_D d 2 2 [am_r (am_a 195), am_i (h2 199 k5)] (zS L, (am_up h2 198 k4 (v3)))) (am_up1 (zS L)) fun v7 h6 => am_idx x1 1500 fun k8 => am_idx x1 1500 fun k9 => am_idx x1 1500 fun k10 => am_bit (h6 201 k10) (am_idx (h6 200 k9) 40002 fun k11 => am_bit 0 (am_idx x1 1500 fun k12 => am_E (am_D d) m_2_11 (.inl 5) [some (am_r (am_a 195)), some (am_i (am_w (x1 + 1))), u2] [] (zS L, (am_up (am_up (am_up h6 199 k8 (v7)) 205 k11 (h6 201 k10)) 202 k12 (0))))) else am_E (am_D d) m_2_11 (.inl 7) [some (am_r (am_a 195)), some (am_i 1), u2] [] (zS L, (am_up (am_up h 195 15 (0)) 195 16 (0))) := (am_cut _ _ 56 5 _ _ _).trans rfl
set_option maxRecDepth 20000 in
theorem q_2_11_7 (d L : Nat) (h : am_H) (x1 : Int) (u2 : Option am_V) :
    am_E (am_D d) m_2_11 (.inl 7) [some (am_r (am_a 195)), some (am_i x1), u2] [] (zS L, h) =
    if (x1 : Int) = 0 then if (h 195 15 : Int) = h 195 10 then am_bit 1 (some (.inl (some (am_i 1)), (zS L, h))) else am_bit 0 (some (.inl (some (am_i 0)), (zS L, h))) else am_E (am_D d) m_2_11 (.inl 8) [some (am_r (am_a 195)), some (am_i 0), some (am_i 0)] [] (zS L, h) := (am_cut _ _ 23 7 _ _ _).trans rfl
set_option maxRecDepth 20000 in
theorem q_2_11_8 (d L : Nat) (h : am_H) (x1 : Int) (x2 : Int) :
    am_E (am_D d) m_2_11 (.inl 8) [some (am_r (am_a 195)), some (am_i x1), some (am_i x2)] [] (zS L, h) =
    if (x2 : Int) < h 195 9 then am_idx x2 1500 fun k1 => if (h 201 k1 : Int) = 0 then am_idx x2 1500 fun k2 => am_idx (h 200 k2) 40002 fun k3 => if (h 205 k3 : Int) = 0 then am_idx x2 1500 fun k4 => am_idx (h 198 k4) 40002 fun k5 => if (h 205 k5 : Int) = 0 then am_E (am_D d) m_2_11 (.inl 8) [some (am_r (am_a 195)), some (am_i x1), some (am_i (am_w (x2 + 1)))] [] (zS L, h) else am_idx x2 1500 fun k6 => am_idx (h 199 k6) 40002 fun k7 => if (h 205 k7 : Int) = 0 then am_E (am_D d) m_2_11 (.inl 8) [some (am_r (am_a 195)), some (am_i x1), some (am_i (am_w (x2 + 1)))] [] (zS L, h) else am_idx x2 1500 fun k8 => am_bit 1 (am_idx (h 200 k8) 40002 fun k9 => am_idx x2 1500 fun k10 => am_idx x2 1500 fun k11 => am_idx (h 198 k11) 40002 fun k12 => am_idx x2 1500 fun k13 => am_idx (h 199 k13) 40002 fun k14 => am_idx (h 200 k10) 40002 fun k15 => am_idx x2 1500 fun k16 => am_idx (h 200 k16) 40002 fun k17 => am_idx (h 195 15) 1500 fun k18 => am_E (am_D d) m_2_11 (.inl 8) [some (am_r (am_a 195)), some (am_i 1), some (am_i (am_w (x2 + 1)))] [] (zS L, (am_up (am_up (am_up (am_up (am_up h 205 k9 (1)) 204 k15 (am_w (1 + (if (h 204 k14 : Int) ≤ h 204 k12 then h 204 k12 else h 204 k14)))) 195 16 ((if ((am_up (am_up h 205 k9 (1)) 204 k15 (am_w (1 + (if (h 204 k14 : Int) ≤ h 204 k12 then h 204 k12 else h 204 k14)))) 204 k17 : Int) ≤ h 195 16 then h 195 16 else (am_up (am_up h 205 k9 (1)) 204 k15 (am_w (1 + (if (h 204 k14 : Int) ≤ h 204 k12 then h 204 k12 else h 204 k14)))) 204 k17))) 203 k18 (x2)) 195 15 (am_w (h 195 15 + 1))))) else am_E (am_D d) m_2_11 (.inl 8) [some (am_r (am_a 195)), some (am_i x1), some (am_i (am_w (x2 + 1)))] [] (zS L, h) else am_E (am_D d) m_2_11 (.inl 8) [some (am_r (am_a 195)), some (am_i x1), some (am_i (am_w (x2 + 1)))] [] (zS L, h) else am_E (am_D d) m_2_11 (.inl 7) [some (am_r (am_a 195)), some (am_i x1), some (am_i x2)] [] (zS L, h) := (am_cut _ _ 109 8 _ _ _).trans rfl
-- TowerComputer$Board.settle()V
theorem q_2_12_0 (d L : Nat) (h : am_H)  :
    am_E (am_D d) m_2_12 (.inl 0) [some (am_r (am_a 195)), none, none] [] (zS L, h) =
    am_E (am_D d) m_2_12 (.inl 1) [some (am_r (am_a 195)), some (am_i 0), none] [] (zS L, h) := (am_cut _ _ 8 0 _ _ _).trans rfl
theorem D_2_12 (d L : Nat) (h : am_H)  :
    am_D (d + 1) 2 12 [am_r (am_a 195)] (zS L, h) =
    am_E (am_D d) m_2_12 (.inl 1) [some (am_r (am_a 195)), some (am_i 0), none] [] (zS L, h) := (q_2_12_0 d L h )
set_option maxRecDepth 20000 in
theorem q_2_12_1 (d L : Nat) (h : am_H) (x1 : Int) (u2 : Option am_V) :
    am_E (am_D d) m_2_12 (.inl 1) [some (am_r (am_a 195)), some (am_i x1), u2] [] (zS L, h) =
    if (x1 : Int) < h 195 15 then am_idx x1 1500 fun k1 => am_idx (h 203 k1) 1500 fun k2 => am_idx (h 203 k1) 1500 fun k3 => am_idx (h 198 k3) 40002 fun k4 => if (h 197 k4 : Int) = 0 then am_bit 1 (am_idx (h 200 k2) 40002 fun k5 => am_E (am_D d) m_2_12 (.inl 1) [some (am_r (am_a 195)), some (am_i (am_w (x1 + 1))), some (am_i (h 203 k1))] [] (zS L, (am_up h 197 k5 (1)))) else am_idx (h 203 k1) 1500 fun k6 => am_idx (h 199 k6) 40002 fun k7 => if (h 197 k7 : Int) = 0 then am_bit 1 (am_idx (h 200 k2) 40002 fun k9 => am_E (am_D d) m_2_12 (.inl 1) [some (am_r (am_a 195)), some (am_i (am_w (x1 + 1))), some (am_i (h 203 k1))] [] (zS L, (am_up h 197 k9 (1)))) else am_bit 0 (am_idx (h 200 k2) 40002 fun k8 => am_E (am_D d) m_2_12 (.inl 1) [some (am_r (am_a 195)), some (am_i (am_w (x1 + 1))), some (am_i (h 203 k1))] [] (zS L, (am_up h 197 k8 (0)))) else some (.inl none, (zS L, h)) := (am_cut _ _ 53 1 _ _ _).trans rfl
-- TowerComputer$Board.drive(II)V
theorem q_2_13_0 (d L : Nat) (h : am_H) (x1 : Int) (x2 : Int) :
    am_E (am_D d) m_2_13 (.inl 0) [some (am_r (am_a 195)), some (am_i x1), some (am_i x2), none] [] (zS L, h) =
    am_E (am_D d) m_2_13 (.inl 1) [some (am_r (am_a 195)), some (am_i x1), some (am_i x2), some (am_i 0)] [] (zS L, h) := (am_cut _ _ 8 0 _ _ _).trans rfl
theorem D_2_13 (d L : Nat) (h : am_H) (x1 : Int) (x2 : Int) :
    am_D (d + 1) 2 13 [am_r (am_a 195), am_i x1, am_i x2] (zS L, h) =
    am_E (am_D d) m_2_13 (.inl 1) [some (am_r (am_a 195)), some (am_i x1), some (am_i x2), some (am_i 0)] [] (zS L, h) := (q_2_13_0 d L h x1 x2)
set_option maxRecDepth 20000 in
theorem q_2_13_1 (d L : Nat) (h : am_H) (x1 : Int) (x2 : Int) (x3 : Int) :
    am_E (am_D d) m_2_13 (.inl 1) [some (am_r (am_a 195)), some (am_i x1), some (am_i x2), some (am_i x3)] [] (zS L, h) =
    am_obj (zS L, h) (am_dec (h 195 18)) 3 fun a1 r2 => am_arr (zS L, h) (r2.getD 7 am_n) 1 fun a4 n5 _ => am_idx x1 n5 fun k3 => if (x3 : Int) < h a4 k3 then am_idx x1 12 fun k7 => if (am_and (am_shr x2 x3) 1 : Int) = 1 then am_bit 1 (am_idx (am_w (h 206 k7 + x3)) 40002 fun k9 => am_E (am_D d) m_2_13 (.inl 1) [some (am_r (am_a 195)), some (am_i x1), some (am_i x2), some (am_i (am_w (x3 + 1)))] [] (zS L, (am_up h 197 k9 (1)))) else am_bit 0 (am_idx (am_w (h 206 k7 + x3)) 40002 fun k8 => am_E (am_D d) m_2_13 (.inl 1) [some (am_r (am_a 195)), some (am_i x1), some (am_i x2), some (am_i (am_w (x3 + 1)))] [] (zS L, (am_up h 197 k8 (0)))) else am_xV (zS L) (am_D d 2 12 [am_r (am_a 195)] (zS L, h)) (am_up1 (zS L)) fun h6 => some (.inl none, (zS L, h6)) := (am_cut _ _ 40 1 _ _ _).trans rfl
-- TowerComputer$Board.value(I)I
theorem q_2_14_0 (d L : Nat) (h : am_H) (x1 : Int) :
    am_E (am_D d) m_2_14 (.inl 0) [some (am_r (am_a 195)), some (am_i x1), none, none] [] (zS L, h) =
    am_E (am_D d) m_2_14 (.inl 1) [some (am_r (am_a 195)), some (am_i x1), some (am_i 0), some (am_i 0)] [] (zS L, h) := (am_cut _ _ 10 0 _ _ _).trans rfl
theorem D_2_14 (d L : Nat) (h : am_H) (x1 : Int) :
    am_D (d + 1) 2 14 [am_r (am_a 195), am_i x1] (zS L, h) =
    am_E (am_D d) m_2_14 (.inl 1) [some (am_r (am_a 195)), some (am_i x1), some (am_i 0), some (am_i 0)] [] (zS L, h) := (q_2_14_0 d L h x1)
set_option maxRecDepth 20000 in
theorem q_2_14_1 (d L : Nat) (h : am_H) (x1 : Int) (x2 : Int) (x3 : Int) :
    am_E (am_D d) m_2_14 (.inl 1) [some (am_r (am_a 195)), some (am_i x1), some (am_i x2), some (am_i x3)] [] (zS L, h) =
    am_obj (zS L, h) (am_dec (h 195 18)) 3 fun a1 r2 => am_arr (zS L, h) (r2.getD 7 am_n) 1 fun a4 n5 _ => am_idx x1 n5 fun k3 => if (x3 : Int) < h a4 k3 then am_idx x1 12 fun k6 => am_xI (zS L) (am_D d 2 2 [am_r (am_a 195), am_i (am_w (h 206 k6 + x3))] (zS L, h)) (am_up1 (zS L)) fun v8 h7 => am_idx v8 40002 fun k9 => if (h7 197 k9 : Int) = 0 then am_E (am_D d) m_2_14 (.inl 1) [some (am_r (am_a 195)), some (am_i x1), some (am_i (am_or x2 0)), some (am_i (am_w (x3 + 1)))] [] (zS L, h7) else am_E (am_D d) m_2_14 (.inl 1) [some (am_r (am_a 195)), some (am_i x1), some (am_i (am_or x2 (am_shl 1 x3))), some (am_i (am_w (x3 + 1)))] [] (zS L, h7) else some (.inl (some (am_i x2)), (zS L, h)) := (am_cut _ _ 41 1 _ _ _).trans rfl
-- TowerComputer$Board.tick()I
theorem q_2_15_0 (d L : Nat) (h : am_H)  :
    am_E (am_D d) m_2_15 (.inl 0) [some (am_r (am_a 195)), none, none] [] (zS L, h) =
    am_E (am_D d) m_2_15 (.inl 1) [some (am_r (am_a 195)), some (am_i 0), some (am_i 0)] [] (zS L, h) := (am_cut _ _ 10 0 _ _ _).trans rfl
theorem D_2_15 (d L : Nat) (h : am_H)  :
    am_D (d + 1) 2 15 [am_r (am_a 195)] (zS L, h) =
    am_E (am_D d) m_2_15 (.inl 1) [some (am_r (am_a 195)), some (am_i 0), some (am_i 0)] [] (zS L, h) := (q_2_15_0 d L h )
set_option maxRecDepth 20000 in
theorem q_2_15_1 (d L : Nat) (h : am_H) (x1 : Int) (x2 : Int) :
    am_E (am_D d) m_2_15 (.inl 1) [some (am_r (am_a 195)), some (am_i x1), some (am_i x2)] [] (zS L, h) =
    if (x2 : Int) < h 195 9 then am_idx x2 1500 fun k1 => am_idx (h 198 k1) 40002 fun k2 => am_bit (h 197 k2) (am_idx x2 1500 fun k3 => am_E (am_D d) m_2_15 (.inl 1) [some (am_r (am_a 195)), some (am_i x1), some (am_i (am_w (x2 + 1)))] [] (zS L, (am_up h 202 k3 (h 197 k2)))) else am_E (am_D d) m_2_15 (.inl 3) [some (am_r (am_a 195)), some (am_i x1), some (am_i 0)] [] (zS L, h) := (am_cut _ _ 25 1 _ _ _).trans rfl
set_option maxRecDepth 20000 in
theorem q_2_15_3 (d L : Nat) (h : am_H) (x1 : Int) (x2 : Int) :
    am_E (am_D d) m_2_15 (.inl 3) [some (am_r (am_a 195)), some (am_i x1), some (am_i x2)] [] (zS L, h) =
    if (x2 : Int) < h 195 9 then am_idx x2 1500 fun k2 => if (h 201 k2 : Int) = 0 then am_E (am_D d) m_2_15 (.inl 3) [some (am_r (am_a 195)), some (am_i x1), some (am_i (am_w (x2 + 1)))] [] (zS L, h) else am_idx x2 1500 fun k3 => am_idx (h 200 k3) 40002 fun k4 => am_idx x2 1500 fun k5 => if (h 197 k4 : Int) = h 202 k5 then am_E (am_D d) m_2_15 (.inl 6) [some (am_r (am_a 195)), some (am_i x1), some (am_i x2)] [am_i 0, am_i x1] (zS L, h) else am_E (am_D d) m_2_15 (.inl 6) [some (am_r (am_a 195)), some (am_i x1), some (am_i x2)] [am_i 1, am_i x1] (zS L, h) else am_xV (zS L) (am_D d 2 12 [am_r (am_a 195)] (zS L, (am_up h 195 17 (am_w (h 195 17 + 1))))) (am_up1 (zS L)) fun h1 => some (.inl (some (am_i x1)), (zS L, h1)) := (am_cut _ _ 44 3 _ _ _).trans rfl
set_option maxRecDepth 20000 in
theorem q_2_15_6 (d L : Nat) (h : am_H) (u1 : Option am_V) (x2 : Int) (s0 : Int) (s1 : Int) :
    am_E (am_D d) m_2_15 (.inl 6) [some (am_r (am_a 195)), u1, some (am_i x2)] [am_i s0, am_i s1] (zS L, h) =
    am_idx x2 1500 fun k1 => am_idx x2 1500 fun k2 => am_bit (h 202 k2) (am_idx (h 200 k1) 40002 fun k3 => am_E (am_D d) m_2_15 (.inl 3) [some (am_r (am_a 195)), some (am_i (am_w (s1 + s0))), some (am_i (am_w (x2 + 1)))] [] (zS L, (am_up h 197 k3 (h 202 k2)))) := (am_cut _ _ 21 6 _ _ _).trans rfl
-- TowerComputer$Board.ones()I
theorem q_2_16_0 (d L : Nat) (h : am_H)  :
    am_E (am_D d) m_2_16 (.inl 0) [some (am_r (am_a 195)), none, none] [] (zS L, h) =
    am_E (am_D d) m_2_16 (.inl 1) [some (am_r (am_a 195)), some (am_i 0), some (am_i 0)] [] (zS L, h) := (am_cut _ _ 10 0 _ _ _).trans rfl
theorem D_2_16 (d L : Nat) (h : am_H)  :
    am_D (d + 1) 2 16 [am_r (am_a 195)] (zS L, h) =
    am_E (am_D d) m_2_16 (.inl 1) [some (am_r (am_a 195)), some (am_i 0), some (am_i 0)] [] (zS L, h) := (q_2_16_0 d L h )
set_option maxRecDepth 20000 in
theorem q_2_16_1 (d L : Nat) (h : am_H) (x1 : Int) (x2 : Int) :
    am_E (am_D d) m_2_16 (.inl 1) [some (am_r (am_a 195)), some (am_i x1), some (am_i x2)] [] (zS L, h) =
    if (x2 : Int) < h 195 15 then am_idx x2 1500 fun k1 => am_idx (h 203 k1) 1500 fun k2 => am_idx (h 200 k2) 40002 fun k3 => if (h 197 k3 : Int) = 0 then am_E (am_D d) m_2_16 (.inl 1) [some (am_r (am_a 195)), some (am_i (am_w (x1 + 0))), some (am_i (am_w (x2 + 1)))] [] (zS L, h) else am_E (am_D d) m_2_16 (.inl 1) [some (am_r (am_a 195)), some (am_i (am_w (x1 + 1))), some (am_i (am_w (x2 + 1)))] [] (zS L, h) else some (.inl (some (am_i x1)), (zS L, h)) := (am_cut _ _ 35 1 _ _ _).trans rfl
-- TowerComputer$Chip.begin(II)V
set_option maxRecDepth 20000 in
theorem q_3_1_0 (d L : Nat) (h : am_H) (X0 : am_R) (x1 : Int) (x2 : Int) :
    am_E (am_D d) m_3_1 (.inl 0) [some (am_r (X0)), some (am_i x1), some (am_i x2)] [] (zS L, h) =
    am_obj (zS L, h) (X0) 3 fun a1 _ => am_obj (zS L, (am_up h a1 0 (x1))) (X0) 3 fun a2 _ => am_obj (zS L, (am_up (am_up h a1 0 (x1)) a2 1 (x2))) (X0) 3 fun a3 _ => am_obj (zS L, (am_up (am_up (am_up h a1 0 (x1)) a2 1 (x2)) a3 2 (0))) (X0) 3 fun a4 _ => am_obj (zS L, (am_up (am_up (am_up (am_up h a1 0 (x1)) a2 1 (x2)) a3 2 (0)) a4 3 (0))) (X0) 3 fun a5 _ => am_obj (zS L, (am_up (am_up (am_up (am_up (am_up h a1 0 (x1)) a2 1 (x2)) a3 2 (0)) a4 3 (0)) a5 4 (0))) (X0) 3 fun a6 _ => some (.inl none, (zS L, (am_up (am_up (am_up (am_up (am_up (am_up h a1 0 (x1)) a2 1 (x2)) a3 2 (0)) a4 3 (0)) a5 4 (0)) a6 5 (0)))) := (am_cut _ _ 24 0 _ _ _).trans rfl
theorem D_3_1 (d L : Nat) (h : am_H) (X0 : am_R) (x1 : Int) (x2 : Int) :
    am_D (d + 1) 3 1 [am_r (X0), am_i x1, am_i x2] (zS L, h) =
    am_obj (zS L, h) (X0) 3 fun a1 _ => am_obj (zS L, (am_up h a1 0 (x1))) (X0) 3 fun a2 _ => am_obj (zS L, (am_up (am_up h a1 0 (x1)) a2 1 (x2))) (X0) 3 fun a3 _ => am_obj (zS L, (am_up (am_up (am_up h a1 0 (x1)) a2 1 (x2)) a3 2 (0))) (X0) 3 fun a4 _ => am_obj (zS L, (am_up (am_up (am_up (am_up h a1 0 (x1)) a2 1 (x2)) a3 2 (0)) a4 3 (0))) (X0) 3 fun a5 _ => am_obj (zS L, (am_up (am_up (am_up (am_up (am_up h a1 0 (x1)) a2 1 (x2)) a3 2 (0)) a4 3 (0)) a5 4 (0))) (X0) 3 fun a6 _ => some (.inl none, (zS L, (am_up (am_up (am_up (am_up (am_up (am_up h a1 0 (x1)) a2 1 (x2)) a3 2 (0)) a4 3 (0)) a5 4 (0)) a6 5 (0)))) := (q_3_1_0 d L h X0 x1 x2)
-- TowerComputer$Chip.pin(I)I
theorem q_3_2_0 (d L : Nat) (h : am_H) (X0 : am_R) (x1 : Int) :
    am_E (am_D d) m_3_2 (.inl 0) [some (am_r (X0)), some (am_i x1), none] [] (zS L, h) =
    am_E (am_D d) m_3_2 (.inl 1) [some (am_r (X0)), some (am_i x1), some (am_i 0)] [] (zS L, h) := (am_cut _ _ 8 0 _ _ _).trans rfl
theorem D_3_2 (d L : Nat) (h : am_H) (X0 : am_R) (x1 : Int) :
    am_D (d + 1) 3 2 [am_r (X0), am_i x1] (zS L, h) =
    am_E (am_D d) m_3_2 (.inl 1) [some (am_r (X0)), some (am_i x1), some (am_i 0)] [] (zS L, h) := (q_3_2_0 d L h X0 x1)
set_option maxRecDepth 20000 in
theorem q_3_2_1 (d L : Nat) (h : am_H) (X0 : am_R) (x1 : Int) (x2 : Int) :
    am_E (am_D d) m_3_2 (.inl 1) [some (am_r (X0)), some (am_i x1), some (am_i x2)] [] (zS L, h) =
    am_obj (zS L, h) (X0) 3 fun a1 r2 => if (x2 : Int) < h a1 2 then am_obj (zS L, h) (X0) 3 fun a3 r4 => am_arr (zS L, h) (r4.getD 6 am_n) 1 fun a6 n7 _ => am_idx x2 n7 fun k5 => if (h a6 k5 : Int) = x1 then some (.inl (some (am_i x2)), (zS L, h)) else am_E (am_D d) m_3_2 (.inl 1) [some (am_r (X0)), some (am_i x1), some (am_i (am_w (x2 + 1)))] [] (zS L, h) else some (.inl (some (am_i (-1))), (zS L, h)) := (am_cut _ _ 21 1 _ _ _).trans rfl
-- TowerComputer$Chip.innerOf(I)I
theorem q_3_3_0 (d L : Nat) (h : am_H) (X0 : am_R) (x1 : Int) :
    am_E (am_D d) m_3_3 (.inl 0) [some (am_r (X0)), some (am_i x1), none] [] (zS L, h) =
    am_E (am_D d) m_3_3 (.inl 1) [some (am_r (X0)), some (am_i x1), some (am_i 0)] [] (zS L, h) := (am_cut _ _ 8 0 _ _ _).trans rfl
theorem D_3_3 (d L : Nat) (h : am_H) (X0 : am_R) (x1 : Int) :
    am_D (d + 1) 3 3 [am_r (X0), am_i x1] (zS L, h) =
    am_E (am_D d) m_3_3 (.inl 1) [some (am_r (X0)), some (am_i x1), some (am_i 0)] [] (zS L, h) := (q_3_3_0 d L h X0 x1)
set_option maxRecDepth 20000 in
theorem q_3_3_1 (d L : Nat) (h : am_H) (X0 : am_R) (x1 : Int) (x2 : Int) :
    am_E (am_D d) m_3_3 (.inl 1) [some (am_r (X0)), some (am_i x1), some (am_i x2)] [] (zS L, h) =
    am_obj (zS L, h) (X0) 3 fun a1 r2 => if (x2 : Int) < h a1 5 then am_obj (zS L, h) (X0) 3 fun a3 r4 => am_arr (zS L, h) (r4.getD 9 am_n) 1 fun a6 n7 _ => am_idx x2 n7 fun k5 => if (h a6 k5 : Int) = x1 then some (.inl (some (am_i x2)), (zS L, h)) else am_E (am_D d) m_3_3 (.inl 1) [some (am_r (X0)), some (am_i x1), some (am_i (am_w (x2 + 1)))] [] (zS L, h) else some (.inl (some (am_i (-1))), (zS L, h)) := (am_cut _ _ 21 1 _ _ _).trans rfl
-- TowerComputer$ChipReader.gate(LTowerComputer$Chip;IIII)V
set_option maxRecDepth 20000 in
theorem q_4_1_0 (d L : Nat) (h : am_H) (X0 : am_R) (x1 : Int) (x2 : Int) (x3 : Int) (x4 : Int) :
    am_E (am_D d) m_4_1 (.inl 0) [some (am_r (X0)), some (am_i x1), some (am_i x2), some (am_i x3), some (am_i x4), none] [] (zS L, h) =
    am_obj (zS L, h) (X0) 3 fun _ _ => am_xV (zS L) (am_D d 3 1 [am_r (X0), am_i x1, am_i 0] (zS L, h)) (am_up1 (zS L)) fun h1 => am_obj (zS L, h1) (X0) 3 fun a2 _ => am_obj (zS L, (am_up h1 a2 3 (x2))) (X0) 3 fun a3 _ => am_obj (zS L, (am_up (am_up h1 a2 3 (x2)) a3 2 (am_w (x2 + 1)))) (X0) 3 fun a4 r5 => am_arr (zS L, (am_up (am_up h1 a2 3 (x2)) a3 2 (am_w (x2 + 1)))) (r5.getD 6 am_n) 1 fun a7 n8 _ => am_idx 0 n8 fun k6 => cond (Nat.beq a7 0) none (if (x2 : Int) = 2 then am_obj (zS L, (am_up (am_up (am_up h1 a2 3 (x2)) a3 2 (am_w (x2 + 1))) a7 k6 (x3))) (X0) 3 fun a14 r15 => am_arr (zS L, (am_up (am_up (am_up h1 a2 3 (x2)) a3 2 (am_w (x2 + 1))) a7 k6 (x3))) (r15.getD 6 am_n) 1 fun a17 n18 _ => am_idx 1 n18 fun k16 => cond (Nat.beq a17 0) none (am_obj (zS L, (am_up (am_up (am_up (am_up h1 a2 3 (x2)) a3 2 (am_w (x2 + 1))) a7 k6 (x3)) a17 k16 (x4))) (X0) 3 fun a19 r20 => am_arr (zS L, (am_up (am_up (am_up (am_up h1 a2 3 (x2)) a3 2 (am_w (x2 + 1))) a7 k6 (x3)) a17 k16 (x4))) (r20.getD 6 am_n) 1 fun a22 n23 _ => am_idx x2 n23 fun k21 => cond (Nat.beq a22 0) none (am_E (am_D d) m_4_1 (.inl 2) [some (am_r (X0)), some (am_i x1), some (am_i x2), some (am_i x3), some (am_i x4), some (am_i 0)] [] (zS L, (am_up (am_up (am_up (am_up (am_up h1 a2 3 (x2)) a3 2 (am_w (x2 + 1))) a7 k6 (x3)) a17 k16 (x4)) a22 k21 (11))))) else am_obj (zS L, (am_up (am_up (am_up h1 a2 3 (x2)) a3 2 (am_w (x2 + 1))) a7 k6 (x3))) (X0) 3 fun a9 r10 => am_arr (zS L, (am_up (am_up (am_up h1 a2 3 (x2)) a3 2 (am_w (x2 + 1))) a7 k6 (x3))) (r10.getD 6 am_n) 1 fun a12 n13 _ => am_idx x2 n13 fun k11 => cond (Nat.beq a12 0) none (am_E (am_D d) m_4_1 (.inl 2) [some (am_r (X0)), some (am_i x1), some (am_i x2), some (am_i x3), some (am_i x4), some (am_i 0)] [] (zS L, (am_up (am_up (am_up (am_up h1 a2 3 (x2)) a3 2 (am_w (x2 + 1))) a7 k6 (x3)) a12 k11 (11))))) := (am_cut _ _ 47 0 _ _ _).trans rfl
theorem D_4_1 (d L : Nat) (h : am_H) (X0 : am_R) (x1 : Int) (x2 : Int) (x3 : Int) (x4 : Int) :
    am_D (d + 1) 4 1 [am_r (X0), am_i x1, am_i x2, am_i x3, am_i x4] (zS L, h) =
    am_obj (zS L, h) (X0) 3 fun _ _ => am_xV (zS L) (am_D d 3 1 [am_r (X0), am_i x1, am_i 0] (zS L, h)) (am_up1 (zS L)) fun h1 => am_obj (zS L, h1) (X0) 3 fun a2 _ => am_obj (zS L, (am_up h1 a2 3 (x2))) (X0) 3 fun a3 _ => am_obj (zS L, (am_up (am_up h1 a2 3 (x2)) a3 2 (am_w (x2 + 1)))) (X0) 3 fun a4 r5 => am_arr (zS L, (am_up (am_up h1 a2 3 (x2)) a3 2 (am_w (x2 + 1)))) (r5.getD 6 am_n) 1 fun a7 n8 _ => am_idx 0 n8 fun k6 => cond (Nat.beq a7 0) none (if (x2 : Int) = 2 then am_obj (zS L, (am_up (am_up (am_up h1 a2 3 (x2)) a3 2 (am_w (x2 + 1))) a7 k6 (x3))) (X0) 3 fun a14 r15 => am_arr (zS L, (am_up (am_up (am_up h1 a2 3 (x2)) a3 2 (am_w (x2 + 1))) a7 k6 (x3))) (r15.getD 6 am_n) 1 fun a17 n18 _ => am_idx 1 n18 fun k16 => cond (Nat.beq a17 0) none (am_obj (zS L, (am_up (am_up (am_up (am_up h1 a2 3 (x2)) a3 2 (am_w (x2 + 1))) a7 k6 (x3)) a17 k16 (x4))) (X0) 3 fun a19 r20 => am_arr (zS L, (am_up (am_up (am_up (am_up h1 a2 3 (x2)) a3 2 (am_w (x2 + 1))) a7 k6 (x3)) a17 k16 (x4))) (r20.getD 6 am_n) 1 fun a22 n23 _ => am_idx x2 n23 fun k21 => cond (Nat.beq a22 0) none (am_E (am_D d) m_4_1 (.inl 2) [some (am_r (X0)), some (am_i x1), some (am_i x2), some (am_i x3), some (am_i x4), some (am_i 0)] [] (zS L, (am_up (am_up (am_up (am_up (am_up h1 a2 3 (x2)) a3 2 (am_w (x2 + 1))) a7 k6 (x3)) a17 k16 (x4)) a22 k21 (11))))) else am_obj (zS L, (am_up (am_up (am_up h1 a2 3 (x2)) a3 2 (am_w (x2 + 1))) a7 k6 (x3))) (X0) 3 fun a9 r10 => am_arr (zS L, (am_up (am_up (am_up h1 a2 3 (x2)) a3 2 (am_w (x2 + 1))) a7 k6 (x3))) (r10.getD 6 am_n) 1 fun a12 n13 _ => am_idx x2 n13 fun k11 => cond (Nat.beq a12 0) none (am_E (am_D d) m_4_1 (.inl 2) [some (am_r (X0)), some (am_i x1), some (am_i x2), some (am_i x3), some (am_i x4), some (am_i 0)] [] (zS L, (am_up (am_up (am_up (am_up h1 a2 3 (x2)) a3 2 (am_w (x2 + 1))) a7 k6 (x3)) a12 k11 (11))))) := (q_4_1_0 d L h X0 x1 x2 x3 x4)
theorem q_4_1_2 (d L : Nat) (h : am_H) (X0 : am_R) (u1 : Option am_V) (u2 : Option am_V) (u3 : Option am_V) (u4 : Option am_V) (x5 : Int) :
    am_E (am_D d) m_4_1 (.inl 2) [some (am_r (X0)), u1, u2, u3, u4, some (am_i x5)] [] (zS L, h) =
    am_obj (zS L, h) (X0) 3 fun a1 r2 => if (x5 : Int) < h a1 2 then am_obj (zS L, h) (X0) 3 fun a3 r4 => am_arr (zS L, h) (r4.getD 7 am_n) 1 fun a6 n7 _ => am_idx x5 n7 fun k5 => cond (Nat.beq a6 0) none (am_E (am_D d) m_4_1 (.inl 2) [some (am_r (X0)), u1, u2, u3, u4, some (am_i (am_w (x5 + 1)))] [] (zS L, (am_up h a6 k5 (1)))) else some (.inl none, (zS L, h)) := (am_cut _ _ 17 2 _ _ _).trans rfl
-- TowerComputer$ChipReader.kind()I
theorem q_4_2_0 (d L : Nat) (h : am_H)  :
    am_E (am_D d) m_4_2 (.inl 0) [some (am_r (am_a 36))] [] (zS L, h) =
    am_idx (h 36 5) 2002 fun k1 => some (.inl (some (am_i (h 78 k1))), (zS L, h)) := (am_cut _ _ 12 0 _ _ _).trans rfl
theorem D_4_2 (d L : Nat) (h : am_H)  :
    am_D (d + 1) 4 2 [am_r (am_a 36)] (zS L, h) =
    am_idx (h 36 5) 2002 fun k1 => some (.inl (some (am_i (h 78 k1))), (zS L, h)) := (q_4_2_0 d L h )
-- TowerComputer$ChipReader.value()I
theorem q_4_3_0 (d L : Nat) (h : am_H)  :
    am_E (am_D d) m_4_3 (.inl 0) [some (am_r (am_a 36))] [] (zS L, h) =
    am_idx (h 36 5) 2002 fun k1 => some (.inl (some (am_i (h 79 k1))), (zS L, h)) := (am_cut _ _ 12 0 _ _ _).trans rfl
theorem D_4_3 (d L : Nat) (h : am_H)  :
    am_D (d + 1) 4 3 [am_r (am_a 36)] (zS L, h) =
    am_idx (h 36 5) 2002 fun k1 => some (.inl (some (am_i (h 79 k1))), (zS L, h)) := (q_4_3_0 d L h )
-- TowerComputer$ChipReader.here()I
theorem q_4_4_0 (d L : Nat) (h : am_H)  :
    am_E (am_D d) m_4_4 (.inl 0) [some (am_r (am_a 36))] [] (zS L, h) =
    am_idx (h 36 5) 2002 fun k1 => some (.inl (some (am_i (h 80 k1))), (zS L, h)) := (am_cut _ _ 12 0 _ _ _).trans rfl
theorem D_4_4 (d L : Nat) (h : am_H)  :
    am_D (d + 1) 4 4 [am_r (am_a 36)] (zS L, h) =
    am_idx (h 36 5) 2002 fun k1 => some (.inl (some (am_i (h 80 k1))), (zS L, h)) := (q_4_4_0 d L h )
-- TowerComputer$ChipReader.fail(II)V
theorem q_4_5_0 (d L : Nat) (h : am_H) (x1 : Int) (x2 : Int) :
    am_E (am_D d) m_4_5 (.inl 0) [some (am_r (am_a 36)), some (am_i x1), some (am_i x2)] [] (zS L, h) =
    some (.inr 52, (zS L, (am_up (am_up h 36 7 (x1)) 36 8 (x2)))) := (am_cut _ _ 14 0 _ _ _).trans rfl
theorem D_4_5 (d L : Nat) (h : am_H) (x1 : Int) (x2 : Int) :
    am_D (d + 1) 4 5 [am_r (am_a 36), am_i x1, am_i x2] (zS L, h) =
    some (.inr 52, (zS L, (am_up (am_up h 36 7 (x1)) 36 8 (x2)))) := (q_4_5_0 d L h x1 x2)
-- TowerComputer$ChipReader.check(ZII)V
theorem q_4_6_0 (d L : Nat) (h : am_H) (x1 : Int) (x2 : Int) (x3 : Int) :
    am_E (am_D d) m_4_6 (.inl 0) [some (am_r (am_a 36)), some (am_i x1), some (am_i x2), some (am_i x3)] [] (zS L, h) =
    if (x1 : Int) = 0 then am_xV (zS L) (am_D d 4 5 [am_r (am_a 36), am_i x2, am_i x3] (zS L, h)) (am_up1 (zS L)) fun h1 => some (.inl none, (zS L, h1)) else some (.inl none, (zS L, h)) := (am_cut _ _ 14 0 _ _ _).trans rfl
theorem D_4_6 (d L : Nat) (h : am_H) (x1 : Int) (x2 : Int) (x3 : Int) :
    am_D (d + 1) 4 6 [am_r (am_a 36), am_i x1, am_i x2, am_i x3] (zS L, h) =
    if (x1 : Int) = 0 then am_xV (zS L) (am_D d 4 5 [am_r (am_a 36), am_i x2, am_i x3] (zS L, h)) (am_up1 (zS L)) fun h1 => some (.inl none, (zS L, h1)) else some (.inl none, (zS L, h)) := (q_4_6_0 d L h x1 x2 x3)
-- TowerComputer$ChipReader.need(Z)V
theorem q_4_7_0 (d L : Nat) (h : am_H) (x1 : Int) :
    am_E (am_D d) m_4_7 (.inl 0) [some (am_r (am_a 36)), some (am_i x1)] [] (zS L, h) =
    am_xI (zS L) (am_D d 4 4 [am_r (am_a 36)] (zS L, h)) (am_up1 (zS L)) fun v2 h1 => am_xV (zS L) (am_D d 4 6 [am_r (am_a 36), am_i x1, am_i 1, am_i v2] (zS L, h1)) (am_up1 (zS L)) fun h3 => some (.inl none, (zS L, h3)) := (am_cut _ _ 12 0 _ _ _).trans rfl
theorem D_4_7 (d L : Nat) (h : am_H) (x1 : Int) :
    am_D (d + 1) 4 7 [am_r (am_a 36), am_i x1] (zS L, h) =
    am_xI (zS L) (am_D d 4 4 [am_r (am_a 36)] (zS L, h)) (am_up1 (zS L)) fun v2 h1 => am_xV (zS L) (am_D d 4 6 [am_r (am_a 36), am_i x1, am_i 1, am_i v2] (zS L, h1)) (am_up1 (zS L)) fun h3 => some (.inl none, (zS L, h3)) := (q_4_7_0 d L h x1)
-- TowerComputer$ChipReader.isSign(I)Z
set_option maxRecDepth 20000 in
theorem q_4_8_0 (d L : Nat) (h : am_H) (x1 : Int) :
    am_E (am_D d) m_4_8 (.inl 0) [some (am_r (am_a 36)), some (am_i x1)] [] (zS L, h) =
    am_xI (zS L) (am_D d 4 2 [am_r (am_a 36)] (zS L, h)) (am_up1 (zS L)) fun v2 h1 => if (v2 : Int) = 4 then am_xI (zS L) (am_D d 4 3 [am_r (am_a 36)] (zS L, h1)) (am_up1 (zS L)) fun v4 h3 => if (v4 : Int) = x1 then am_bit 1 (some (.inl (some (am_i 1)), (zS L, h3))) else am_bit 0 (some (.inl (some (am_i 0)), (zS L, h3))) else am_bit 0 (some (.inl (some (am_i 0)), (zS L, h1))) := (am_cut _ _ 22 0 _ _ _).trans rfl
theorem D_4_8 (d L : Nat) (h : am_H) (x1 : Int) :
    am_D (d + 1) 4 8 [am_r (am_a 36), am_i x1] (zS L, h) =
    am_xI (zS L) (am_D d 4 2 [am_r (am_a 36)] (zS L, h)) (am_up1 (zS L)) fun v2 h1 => if (v2 : Int) = 4 then am_xI (zS L) (am_D d 4 3 [am_r (am_a 36)] (zS L, h1)) (am_up1 (zS L)) fun v4 h3 => if (v4 : Int) = x1 then am_bit 1 (some (.inl (some (am_i 1)), (zS L, h3))) else am_bit 0 (some (.inl (some (am_i 0)), (zS L, h3))) else am_bit 0 (some (.inl (some (am_i 0)), (zS L, h1))) := (q_4_8_0 d L h x1)
-- TowerComputer$ChipReader.isWord(I)Z
set_option maxRecDepth 20000 in
theorem q_4_9_0 (d L : Nat) (h : am_H) (x1 : Int) :
    am_E (am_D d) m_4_9 (.inl 0) [some (am_r (am_a 36)), some (am_i x1)] [] (zS L, h) =
    am_xI (zS L) (am_D d 4 2 [am_r (am_a 36)] (zS L, h)) (am_up1 (zS L)) fun v2 h1 => if (v2 : Int) = 1 then am_xI (zS L) (am_D d 4 3 [am_r (am_a 36)] (zS L, h1)) (am_up1 (zS L)) fun v4 h3 => if (v4 : Int) = x1 then am_bit 1 (some (.inl (some (am_i 1)), (zS L, h3))) else am_bit 0 (some (.inl (some (am_i 0)), (zS L, h3))) else am_bit 0 (some (.inl (some (am_i 0)), (zS L, h1))) := (am_cut _ _ 22 0 _ _ _).trans rfl
theorem D_4_9 (d L : Nat) (h : am_H) (x1 : Int) :
    am_D (d + 1) 4 9 [am_r (am_a 36), am_i x1] (zS L, h) =
    am_xI (zS L) (am_D d 4 2 [am_r (am_a 36)] (zS L, h)) (am_up1 (zS L)) fun v2 h1 => if (v2 : Int) = 1 then am_xI (zS L) (am_D d 4 3 [am_r (am_a 36)] (zS L, h1)) (am_up1 (zS L)) fun v4 h3 => if (v4 : Int) = x1 then am_bit 1 (some (.inl (some (am_i 1)), (zS L, h3))) else am_bit 0 (some (.inl (some (am_i 0)), (zS L, h3))) else am_bit 0 (some (.inl (some (am_i 0)), (zS L, h1))) := (q_4_9_0 d L h x1)
-- TowerComputer$ChipReader.next()V
set_option maxRecDepth 20000 in
theorem q_4_10_0 (d L : Nat) (h : am_H)  :
    am_E (am_D d) m_4_10 (.inl 0) [some (am_r (am_a 36))] [] (zS L, h) =
    if (am_w (h 36 5 + 1) : Int) < 2000 then some (.inl none, (zS L, (am_up h 36 5 (am_w (h 36 5 + 1))))) else am_xI (zS L) (am_D d 4 2 [am_r (am_a 36)] (zS L, (am_up h 36 5 (am_w (h 36 5 + 1))))) (am_up1 (zS L)) fun v2 h1 => if (v2 : Int) = 0 then some (.inl none, (zS L, h1)) else am_xI (zS L) (am_D d 4 2 [am_r (am_a 36)] (zS L, h1)) (am_up1 (zS L)) fun v4 h3 => if (v4 : Int) = 5 then am_xI (zS L) (am_D d 4 4 [am_r (am_a 36)] (zS L, h3)) (am_up1 (zS L)) fun v9 h8 => am_xV (zS L) (am_D d 4 5 [am_r (am_a 36), am_i 1, am_i v9] (zS L, h8)) (am_up1 (zS L)) fun h10 => some (.inl none, (zS L, h10)) else am_xI (zS L) (am_D d 4 4 [am_r (am_a 36)] (zS L, h3)) (am_up1 (zS L)) fun v6 h5 => am_xV (zS L) (am_D d 4 5 [am_r (am_a 36), am_i 2, am_i v6] (zS L, h5)) (am_up1 (zS L)) fun h7 => some (.inl none, (zS L, h7)) := (am_cut _ _ 39 0 _ _ _).trans rfl
theorem D_4_10 (d L : Nat) (h : am_H)  :
    am_D (d + 1) 4 10 [am_r (am_a 36)] (zS L, h) =
    if (am_w (h 36 5 + 1) : Int) < 2000 then some (.inl none, (zS L, (am_up h 36 5 (am_w (h 36 5 + 1))))) else am_xI (zS L) (am_D d 4 2 [am_r (am_a 36)] (zS L, (am_up h 36 5 (am_w (h 36 5 + 1))))) (am_up1 (zS L)) fun v2 h1 => if (v2 : Int) = 0 then some (.inl none, (zS L, h1)) else am_xI (zS L) (am_D d 4 2 [am_r (am_a 36)] (zS L, h1)) (am_up1 (zS L)) fun v4 h3 => if (v4 : Int) = 5 then am_xI (zS L) (am_D d 4 4 [am_r (am_a 36)] (zS L, h3)) (am_up1 (zS L)) fun v9 h8 => am_xV (zS L) (am_D d 4 5 [am_r (am_a 36), am_i 1, am_i v9] (zS L, h8)) (am_up1 (zS L)) fun h10 => some (.inl none, (zS L, h10)) else am_xI (zS L) (am_D d 4 4 [am_r (am_a 36)] (zS L, h3)) (am_up1 (zS L)) fun v6 h5 => am_xV (zS L) (am_D d 4 5 [am_r (am_a 36), am_i 2, am_i v6] (zS L, h5)) (am_up1 (zS L)) fun h7 => some (.inl none, (zS L, h7)) := (q_4_10_0 d L h )
-- TowerComputer$ChipReader.sign(I)V
theorem q_4_11_0 (d L : Nat) (h : am_H) (x1 : Int) :
    am_E (am_D d) m_4_11 (.inl 0) [some (am_r (am_a 36)), some (am_i x1)] [] (zS L, h) =
    am_xI (zS L) (am_D d 4 8 [am_r (am_a 36), am_i x1] (zS L, h)) (am_up1 (zS L)) fun v2 h1 => am_xV (zS L) (am_D d 4 7 [am_r (am_a 36), am_i v2] (zS L, h1)) (am_up1 (zS L)) fun h3 => am_xV (zS L) (am_D d 4 10 [am_r (am_a 36)] (zS L, h3)) (am_up1 (zS L)) fun h4 => some (.inl none, (zS L, h4)) := (am_cut _ _ 13 0 _ _ _).trans rfl
theorem D_4_11 (d L : Nat) (h : am_H) (x1 : Int) :
    am_D (d + 1) 4 11 [am_r (am_a 36), am_i x1] (zS L, h) =
    am_xI (zS L) (am_D d 4 8 [am_r (am_a 36), am_i x1] (zS L, h)) (am_up1 (zS L)) fun v2 h1 => am_xV (zS L) (am_D d 4 7 [am_r (am_a 36), am_i v2] (zS L, h1)) (am_up1 (zS L)) fun h3 => am_xV (zS L) (am_D d 4 10 [am_r (am_a 36)] (zS L, h3)) (am_up1 (zS L)) fun h4 => some (.inl none, (zS L, h4)) := (q_4_11_0 d L h x1)
-- TowerComputer$ChipReader.word(I)V
theorem q_4_12_0 (d L : Nat) (h : am_H) (x1 : Int) :
    am_E (am_D d) m_4_12 (.inl 0) [some (am_r (am_a 36)), some (am_i x1)] [] (zS L, h) =
    am_xI (zS L) (am_D d 4 9 [am_r (am_a 36), am_i x1] (zS L, h)) (am_up1 (zS L)) fun v2 h1 => am_xV (zS L) (am_D d 4 7 [am_r (am_a 36), am_i v2] (zS L, h1)) (am_up1 (zS L)) fun h3 => am_xV (zS L) (am_D d 4 10 [am_r (am_a 36)] (zS L, h3)) (am_up1 (zS L)) fun h4 => some (.inl none, (zS L, h4)) := (am_cut _ _ 13 0 _ _ _).trans rfl
theorem D_4_12 (d L : Nat) (h : am_H) (x1 : Int) :
    am_D (d + 1) 4 12 [am_r (am_a 36), am_i x1] (zS L, h) =
    am_xI (zS L) (am_D d 4 9 [am_r (am_a 36), am_i x1] (zS L, h)) (am_up1 (zS L)) fun v2 h1 => am_xV (zS L) (am_D d 4 7 [am_r (am_a 36), am_i v2] (zS L, h1)) (am_up1 (zS L)) fun h3 => am_xV (zS L) (am_D d 4 10 [am_r (am_a 36)] (zS L, h3)) (am_up1 (zS L)) fun h4 => some (.inl none, (zS L, h4)) := (q_4_12_0 d L h x1)
-- TowerComputer$ChipReader.read(I)I
set_option maxRecDepth 20000 in
theorem q_4_13_0 (d L : Nat) (h : am_H) (x1 : Int) :
    am_E (am_D d) m_4_13 (.inl 0) [some (am_r (am_a 36)), some (am_i x1), none] [] (zS L, h) =
    am_xV (zS L) (am_D d 5 3 [am_r (am_a 73), am_i x1] (zS L, h)) (am_up1 (zS L)) fun h1 => am_E (am_D d) m_4_13 (.inl 1) [some (am_r (am_a 36)), some (am_i x1), none] [] (zS L, (am_up (am_up (am_up (am_up h1 36 6 (0)) 36 5 (0)) 36 7 (0)) 36 8 ((-1)))) := (am_cut _ _ 22 0 _ _ _).trans rfl
theorem D_4_13 (d L : Nat) (h : am_H) (x1 : Int) :
    am_D (d + 1) 4 13 [am_r (am_a 36), am_i x1] (zS L, h) =
    am_xV (zS L) (am_D d 5 3 [am_r (am_a 73), am_i x1] (zS L, h)) (am_up1 (zS L)) fun h1 => am_E (am_D d) m_4_13 (.inl 1) [some (am_r (am_a 36)), some (am_i x1), none] [] (zS L, (am_up (am_up (am_up (am_up h1 36 6 (0)) 36 5 (0)) 36 7 (0)) 36 8 ((-1)))) := (q_4_13_0 d L h x1)
theorem q_4_13_1 (d L : Nat) (h : am_H) (u1 : Option am_V) (u2 : Option am_V) :
    am_E (am_D d) m_4_13 (.inl 1) [some (am_r (am_a 36)), u1, u2] [] (zS L, h) =
    am_xV (zS L) (am_D d 4 14 [am_r (am_a 36)] (zS L, h)) (fun a1 h2 => am_obj (zS L, h2) (am_a a1) 20 fun _ _ => am_E (am_D d) m_4_13 (.inl 8) [some (am_r (am_a 36)), u1, u2] [am_r (am_a a1)] (zS L, h2)) fun h3 => am_xI (zS L) (am_D d 4 2 [am_r (am_a 36)] (zS L, h3)) (fun a4 h5 => am_obj (zS L, h5) (am_a a4) 20 fun _ _ => am_E (am_D d) m_4_13 (.inl 8) [some (am_r (am_a 36)), u1, u2] [am_r (am_a a4)] (zS L, h5)) fun v7 h6 => if (v7 : Int) = 0 then am_E (am_D d) m_4_13 (.inl 2) [some (am_r (am_a 36)), u1, some (am_i 0)] [] (zS L, h6) else am_E (am_D d) m_4_13 (.inl 1) [some (am_r (am_a 36)), u1, u2] [] (zS L, h6) := (am_cut _ _ 13 1 _ _ _).trans rfl
set_option maxRecDepth 20000 in
theorem q_4_13_2 (d L : Nat) (h : am_H) (u1 : Option am_V) (x2 : Int) :
    am_E (am_D d) m_4_13 (.inl 2) [some (am_r (am_a 36)), u1, some (am_i x2)] [] (zS L, h) =
    if (x2 : Int) < h 36 6 then am_idx x2 16 fun k1 => am_xV (zS L) (am_D d 4 20 [am_r (am_a 36), am_r (List.getD [am_a 83, am_a 90, am_a 97, am_a 104, am_a 111, am_a 118, am_a 125, am_a 132, am_a 139, am_a 146, am_a 153, am_a 160, am_a 167, am_a 174, am_a 181, am_a 188] k1 am_n), am_i x2] (zS L, h)) (fun a2 h3 => am_obj (zS L, h3) (am_a a2) 20 fun _ _ => am_E (am_D d) m_4_13 (.inl 8) [some (am_r (am_a 36)), u1, some (am_i x2)] [am_r (am_a a2)] (zS L, h3)) fun h4 => am_E (am_D d) m_4_13 (.inl 2) [some (am_r (am_a 36)), u1, some (am_i (am_w (x2 + 1)))] [] (zS L, h4) else am_E (am_D d) m_4_13 (.inl 4) [some (am_r (am_a 36)), u1, some (am_i 0)] [] (zS L, h) := (am_cut _ _ 21 2 _ _ _).trans rfl
set_option maxRecDepth 20000 in
theorem q_4_13_4 (d L : Nat) (h : am_H) (u1 : Option am_V) (x2 : Int) :
    am_E (am_D d) m_4_13 (.inl 4) [some (am_r (am_a 36)), u1, some (am_i x2)] [] (zS L, h) =
    if (x2 : Int) < h 36 6 then am_xI (zS L) (am_D d 4 33 [am_r (am_a 36), am_i x2] (zS L, h)) (fun a1 h2 => am_obj (zS L, h2) (am_a a1) 20 fun _ _ => am_E (am_D d) m_4_13 (.inl 8) [some (am_r (am_a 36)), u1, some (am_i x2)] [am_r (am_a a1)] (zS L, h2)) fun v4 h3 => if (v4 : Int) = 0 then am_idx x2 16 fun k11 => am_obj (zS L, h3) (List.getD [am_a 83, am_a 90, am_a 97, am_a 104, am_a 111, am_a 118, am_a 125, am_a 132, am_a 139, am_a 146, am_a 153, am_a 160, am_a 167, am_a 174, am_a 181, am_a 188] k11 am_n) 3 fun a12 r13 => am_xV (zS L) (am_D d 4 6 [am_r (am_a 36), am_i 1, am_i 6, am_i (h3 a12 1)] (zS L, h3)) (fun a14 h15 => am_obj (zS L, h15) (am_a a14) 20 fun _ _ => am_E (am_D d) m_4_13 (.inl 8) [some (am_r (am_a 36)), u1, some (am_i x2)] [am_r (am_a a14)] (zS L, h15)) fun h16 => am_E (am_D d) m_4_13 (.inl 4) [some (am_r (am_a 36)), u1, some (am_i (am_w (x2 + 1)))] [] (zS L, h16) else am_idx x2 16 fun k5 => am_obj (zS L, h3) (List.getD [am_a 83, am_a 90, am_a 97, am_a 104, am_a 111, am_a 118, am_a 125, am_a 132, am_a 139, am_a 146, am_a 153, am_a 160, am_a 167, am_a 174, am_a 181, am_a 188] k5 am_n) 3 fun a6 r7 => am_xV (zS L) (am_D d 4 6 [am_r (am_a 36), am_i 0, am_i 6, am_i (h3 a6 1)] (zS L, h3)) (fun a8 h9 => am_obj (zS L, h9) (am_a a8) 20 fun _ _ => am_E (am_D d) m_4_13 (.inl 8) [some (am_r (am_a 36)), u1, some (am_i x2)] [am_r (am_a a8)] (zS L, h9)) fun h10 => am_E (am_D d) m_4_13 (.inl 4) [some (am_r (am_a 36)), u1, some (am_i (am_w (x2 + 1)))] [] (zS L, h10) else some (.inl (some (am_i 0)), (zS L, h)) := (am_cut _ _ 39 4 _ _ _).trans rfl
theorem q_4_13_8 (d L : Nat) (h : am_H) (u1 : Option am_V) (u2 : Option am_V) (S0 : am_R) :
    am_E (am_D d) m_4_13 (.inl 8) [some (am_r (am_a 36)), u1, u2] [am_r (S0)] (zS L, h) =
    some (.inl (some (am_i (h 36 7))), (zS L, (am_up h 36 6 (0)))) := (am_cut _ _ 12 8 _ _ _).trans rfl
-- TowerComputer$ChipReader.chip()V
set_option maxRecDepth 20000 in
theorem q_4_14_0 (d L : Nat) (h : am_H)  :
    am_E (am_D d) m_4_14 (.inl 0) [some (am_r (am_a 36)), none] [] (zS L, h) =
    am_xV (zS L) (am_D d 4 12 [am_r (am_a 36), am_i 0] (zS L, h)) (am_up1 (zS L)) fun h1 => am_xI (zS L) (am_D d 4 2 [am_r (am_a 36)] (zS L, h1)) (am_up1 (zS L)) fun v3 h2 => if (v3 : Int) = 2 then am_xV (zS L) (am_D d 4 7 [am_r (am_a 36), am_i 1] (zS L, h2)) (am_up1 (zS L)) fun h5 => if (h5 36 6 : Int) < 16 then am_E (am_D d) m_4_14 (.inl 4) [some (am_r (am_a 36)), none] [am_i 1, am_r (am_a 36)] (zS L, h5) else am_E (am_D d) m_4_14 (.inl 4) [some (am_r (am_a 36)), none] [am_i 0, am_r (am_a 36)] (zS L, h5) else am_xV (zS L) (am_D d 4 7 [am_r (am_a 36), am_i 0] (zS L, h2)) (am_up1 (zS L)) fun h4 => if (h4 36 6 : Int) < 16 then am_E (am_D d) m_4_14 (.inl 4) [some (am_r (am_a 36)), none] [am_i 1, am_r (am_a 36)] (zS L, h4) else am_E (am_D d) m_4_14 (.inl 4) [some (am_r (am_a 36)), none] [am_i 0, am_r (am_a 36)] (zS L, h4) := (am_cut _ _ 37 0 _ _ _).trans rfl
theorem D_4_14 (d L : Nat) (h : am_H)  :
    am_D (d + 1) 4 14 [am_r (am_a 36)] (zS L, h) =
    am_xV (zS L) (am_D d 4 12 [am_r (am_a 36), am_i 0] (zS L, h)) (am_up1 (zS L)) fun h1 => am_xI (zS L) (am_D d 4 2 [am_r (am_a 36)] (zS L, h1)) (am_up1 (zS L)) fun v3 h2 => if (v3 : Int) = 2 then am_xV (zS L) (am_D d 4 7 [am_r (am_a 36), am_i 1] (zS L, h2)) (am_up1 (zS L)) fun h5 => if (h5 36 6 : Int) < 16 then am_E (am_D d) m_4_14 (.inl 4) [some (am_r (am_a 36)), none] [am_i 1, am_r (am_a 36)] (zS L, h5) else am_E (am_D d) m_4_14 (.inl 4) [some (am_r (am_a 36)), none] [am_i 0, am_r (am_a 36)] (zS L, h5) else am_xV (zS L) (am_D d 4 7 [am_r (am_a 36), am_i 0] (zS L, h2)) (am_up1 (zS L)) fun h4 => if (h4 36 6 : Int) < 16 then am_E (am_D d) m_4_14 (.inl 4) [some (am_r (am_a 36)), none] [am_i 1, am_r (am_a 36)] (zS L, h4) else am_E (am_D d) m_4_14 (.inl 4) [some (am_r (am_a 36)), none] [am_i 0, am_r (am_a 36)] (zS L, h4) := (q_4_14_0 d L h )
set_option maxRecDepth 20000 in
theorem q_4_14_4 (d L : Nat) (h : am_H) (u1 : Option am_V) (s0 : Int) :
    am_E (am_D d) m_4_14 (.inl 4) [some (am_r (am_a 36)), u1] [am_i s0, am_r (am_a 36)] (zS L, h) =
    am_xI (zS L) (am_D d 4 4 [am_r (am_a 36)] (zS L, h)) (am_up1 (zS L)) fun v2 h1 => am_xV (zS L) (am_D d 4 6 [am_r (am_a 36), am_i s0, am_i 2, am_i v2] (zS L, h1)) (am_up1 (zS L)) fun h3 => am_idx (h3 36 6) 16 fun k4 => am_xI (zS L) (am_D d 4 3 [am_r (am_a 36)] (zS L, h3)) (am_up1 (zS L)) fun v6 h5 => am_obj (zS L, h5) (List.getD [am_a 83, am_a 90, am_a 97, am_a 104, am_a 111, am_a 118, am_a 125, am_a 132, am_a 139, am_a 146, am_a 153, am_a 160, am_a 167, am_a 174, am_a 181, am_a 188] k4 am_n) 3 fun _ _ => am_xV (zS L) (am_D d 3 1 [am_r (List.getD [am_a 83, am_a 90, am_a 97, am_a 104, am_a 111, am_a 118, am_a 125, am_a 132, am_a 139, am_a 146, am_a 153, am_a 160, am_a 167, am_a 174, am_a 181, am_a 188] k4 am_n), am_i v6, am_i (h5 36 5)] (zS L, h5)) (am_up1 (zS L)) fun h7 => am_xV (zS L) (am_D d 4 10 [am_r (am_a 36)] (zS L, h7)) (am_up1 (zS L)) fun h8 => am_xV (zS L) (am_D d 4 11 [am_r (am_a 36), am_i 123] (zS L, h8)) (am_up1 (zS L)) fun h9 => am_xV (zS L) (am_D d 4 12 [am_r (am_a 36), am_i 1] (zS L, h9)) (am_up1 (zS L)) fun h10 => am_xV (zS L) (am_D d 4 15 [am_r (am_a 36), am_r (List.getD [am_a 83, am_a 90, am_a 97, am_a 104, am_a 111, am_a 118, am_a 125, am_a 132, am_a 139, am_a 146, am_a 153, am_a 160, am_a 167, am_a 174, am_a 181, am_a 188] k4 am_n)] (zS L, h10)) (am_up1 (zS L)) fun h11 => am_obj (zS L, h11) (List.getD [am_a 83, am_a 90, am_a 97, am_a 104, am_a 111, am_a 118, am_a 125, am_a 132, am_a 139, am_a 146, am_a 153, am_a 160, am_a 167, am_a 174, am_a 181, am_a 188] k4 am_n) 3 fun a12 r13 => am_obj (zS L, h11) (List.getD [am_a 83, am_a 90, am_a 97, am_a 104, am_a 111, am_a 118, am_a 125, am_a 132, am_a 139, am_a 146, am_a 153, am_a 160, am_a 167, am_a 174, am_a 181, am_a 188] k4 am_n) 3 fun a14 _ => am_xV (zS L) (am_D d 4 12 [am_r (am_a 36), am_i 2] (zS L, (am_up h11 a14 3 (h11 a12 2)))) (am_up1 (zS L)) fun h15 => am_xV (zS L) (am_D d 4 15 [am_r (am_a 36), am_r (List.getD [am_a 83, am_a 90, am_a 97, am_a 104, am_a 111, am_a 118, am_a 125, am_a 132, am_a 139, am_a 146, am_a 153, am_a 160, am_a 167, am_a 174, am_a 181, am_a 188] k4 am_n)] (zS L, h15)) (am_up1 (zS L)) fun h16 => am_xV (zS L) (am_D d 4 12 [am_r (am_a 36), am_i 3] (zS L, h16)) (am_up1 (zS L)) fun h17 => am_xV (zS L) (am_D d 4 11 [am_r (am_a 36), am_i 58] (zS L, h17)) (am_up1 (zS L)) fun h18 => am_E (am_D d) m_4_14 (.inl 5) [some (am_r (am_a 36)), some (am_r (List.getD [am_a 83, am_a 90, am_a 97, am_a 104, am_a 111, am_a 118, am_a 125, am_a 132, am_a 139, am_a 146, am_a 153, am_a 160, am_a 167, am_a 174, am_a 181, am_a 188] k4 am_n))] [] (zS L, h18) := (am_cut _ _ 49 4 _ _ _).trans rfl
set_option maxRecDepth 20000 in
theorem q_4_14_5 (d L : Nat) (h : am_H) (X1 : am_R) :
    am_E (am_D d) m_4_14 (.inl 5) [some (am_r (am_a 36)), some (am_r (X1))] [] (zS L, h) =
    am_xI (zS L) (am_D d 4 8 [am_r (am_a 36), am_i 125] (zS L, h)) (am_up1 (zS L)) fun v2 h1 => if (v2 : Int) = 0 then am_xV (zS L) (am_D d 4 16 [am_r (am_a 36), am_r (X1)] (zS L, h1)) (am_up1 (zS L)) fun h8 => am_E (am_D d) m_4_14 (.inl 5) [some (am_r (am_a 36)), some (am_r (X1))] [] (zS L, h8) else am_xV (zS L) (am_D d 4 10 [am_r (am_a 36)] (zS L, h1)) (am_up1 (zS L)) fun h3 => am_obj (zS L, h3) (X1) 3 fun a4 r5 => am_idx (h3 a4 1) 2002 fun k6 => am_obj (zS L, h3) (X1) 3 fun a7 _ => some (.inl none, (zS L, (am_up (am_up h3 a7 1 (h3 80 k6)) 36 6 (am_w (((am_up h3 a7 1 (h3 80 k6)) 36 6) + 1))))) := (am_cut _ _ 30 5 _ _ _).trans rfl
-- TowerComputer$ChipReader.pins(LTowerComputer$Chip;)V
theorem q_4_15_0 (d L : Nat) (h : am_H) (X1 : am_R) :
    am_E (am_D d) m_4_15 (.inl 0) [some (am_r (am_a 36)), some (am_r (X1)), none] [] (zS L, h) =
    am_E (am_D d) m_4_15 (.inl 1) [some (am_r (am_a 36)), some (am_r (X1)), some (am_i 1)] [] (zS L, h) := (am_cut _ _ 8 0 _ _ _).trans rfl
theorem D_4_15 (d L : Nat) (h : am_H) (X1 : am_R) :
    am_D (d + 1) 4 15 [am_r (am_a 36), am_r (X1)] (zS L, h) =
    am_E (am_D d) m_4_15 (.inl 1) [some (am_r (am_a 36)), some (am_r (X1)), some (am_i 1)] [] (zS L, h) := (q_4_15_0 d L h X1)
set_option maxRecDepth 20000 in
theorem q_4_15_1 (d L : Nat) (h : am_H) (X1 : am_R) (x2 : Int) :
    am_E (am_D d) m_4_15 (.inl 1) [some (am_r (am_a 36)), some (am_r (X1)), some (am_i x2)] [] (zS L, h) =
    if (x2 : Int) = 0 then am_xV (zS L) (am_D d 4 11 [am_r (am_a 36), am_i 59] (zS L, h)) (am_up1 (zS L)) fun h1 => some (.inl none, (zS L, h1)) else am_xI (zS L) (am_D d 4 2 [am_r (am_a 36)] (zS L, h)) (am_up1 (zS L)) fun v3 h2 => if (v3 : Int) = 2 then am_xV (zS L) (am_D d 4 7 [am_r (am_a 36), am_i 1] (zS L, h2)) (am_up1 (zS L)) fun h7 => am_obj (zS L, h7) (X1) 3 fun a8 r9 => if (h7 a8 2 : Int) < 12 then am_E (am_D d) m_4_15 (.inl 5) [some (am_r (am_a 36)), some (am_r (X1)), some (am_i x2)] [am_i 1, am_r (am_a 36)] (zS L, h7) else am_E (am_D d) m_4_15 (.inl 5) [some (am_r (am_a 36)), some (am_r (X1)), some (am_i x2)] [am_i 0, am_r (am_a 36)] (zS L, h7) else am_xV (zS L) (am_D d 4 7 [am_r (am_a 36), am_i 0] (zS L, h2)) (am_up1 (zS L)) fun h4 => am_obj (zS L, h4) (X1) 3 fun a5 r6 => if (h4 a5 2 : Int) < 12 then am_E (am_D d) m_4_15 (.inl 5) [some (am_r (am_a 36)), some (am_r (X1)), some (am_i x2)] [am_i 1, am_r (am_a 36)] (zS L, h4) else am_E (am_D d) m_4_15 (.inl 5) [some (am_r (am_a 36)), some (am_r (X1)), some (am_i x2)] [am_i 0, am_r (am_a 36)] (zS L, h4) := (am_cut _ _ 40 1 _ _ _).trans rfl
set_option maxRecDepth 20000 in
theorem q_4_15_5 (d L : Nat) (h : am_H) (X1 : am_R) (u2 : Option am_V) (s0 : Int) :
    am_E (am_D d) m_4_15 (.inl 5) [some (am_r (am_a 36)), some (am_r (X1)), u2] [am_i s0, am_r (am_a 36)] (zS L, h) =
    am_xI (zS L) (am_D d 4 4 [am_r (am_a 36)] (zS L, h)) (am_up1 (zS L)) fun v2 h1 => am_xV (zS L) (am_D d 4 6 [am_r (am_a 36), am_i s0, am_i 2, am_i v2] (zS L, h1)) (am_up1 (zS L)) fun h3 => am_obj (zS L, h3) (X1) 3 fun a4 r5 => am_obj (zS L, h3) (X1) 3 fun a6 r7 => am_xI (zS L) (am_D d 4 3 [am_r (am_a 36)] (zS L, h3)) (am_up1 (zS L)) fun v9 h8 => am_arr (zS L, h8) (r5.getD 6 am_n) 1 fun a11 n12 _ => am_idx (h3 a6 2) n12 fun k10 => cond (Nat.beq a11 0) none (am_obj (zS L, (am_up h8 a11 k10 (v9))) (X1) 3 fun a13 r14 => am_obj (zS L, (am_up h8 a11 k10 (v9))) (X1) 3 fun a15 r16 => am_arr (zS L, (am_up h8 a11 k10 (v9))) (r14.getD 7 am_n) 1 fun a18 n19 _ => am_idx ((am_up h8 a11 k10 (v9)) a15 2) n19 fun k17 => cond (Nat.beq a18 0) none (am_obj (zS L, (am_up (am_up h8 a11 k10 (v9)) a18 k17 ((am_up h8 a11 k10 (v9)) 36 5))) (X1) 3 fun a20 r21 => am_obj (zS L, (am_up (am_up h8 a11 k10 (v9)) a18 k17 ((am_up h8 a11 k10 (v9)) 36 5))) (X1) 3 fun a22 _ => am_xV (zS L) (am_D d 4 10 [am_r (am_a 36)] (zS L, (am_up (am_up (am_up h8 a11 k10 (v9)) a18 k17 ((am_up h8 a11 k10 (v9)) 36 5)) a22 2 (am_w (((am_up (am_up h8 a11 k10 (v9)) a18 k17 ((am_up h8 a11 k10 (v9)) 36 5)) a20 2) + 1))))) (am_up1 (zS L)) fun h23 => am_xI (zS L) (am_D d 4 8 [am_r (am_a 36), am_i 91] (zS L, h23)) (am_up1 (zS L)) fun v25 h24 => if (v25 : Int) = 0 then am_xI (zS L) (am_D d 4 8 [am_r (am_a 36), am_i 44] (zS L, h24)) (am_up1 (zS L)) fun v27 h26 => if (v27 : Int) = 0 then am_E (am_D d) m_4_15 (.inl 1) [some (am_r (am_a 36)), some (am_r (X1)), some (am_i v27)] [] (zS L, h26) else am_xV (zS L) (am_D d 4 10 [am_r (am_a 36)] (zS L, h26)) (am_up1 (zS L)) fun h28 => am_E (am_D d) m_4_15 (.inl 1) [some (am_r (am_a 36)), some (am_r (X1)), some (am_i v27)] [] (zS L, h28) else am_xV (zS L) (am_D d 4 10 [am_r (am_a 36)] (zS L, h24)) (am_up1 (zS L)) fun h29 => am_xI (zS L) (am_D d 4 2 [am_r (am_a 36)] (zS L, h29)) (am_up1 (zS L)) fun v31 h30 => if (v31 : Int) = 3 then am_E (am_D d) m_4_15 (.inl 7) [some (am_r (am_a 36)), some (am_r (X1)), u2] [am_i 1, am_r (am_a 36)] (zS L, h30) else am_E (am_D d) m_4_15 (.inl 7) [some (am_r (am_a 36)), some (am_r (X1)), u2] [am_i 0, am_r (am_a 36)] (zS L, h30))) := (am_cut _ _ 55 5 _ _ _).trans rfl
set_option maxRecDepth 20000 in
theorem q_4_15_7 (d L : Nat) (h : am_H) (X1 : am_R) (u2 : Option am_V) (s0 : Int) :
    am_E (am_D d) m_4_15 (.inl 7) [some (am_r (am_a 36)), some (am_r (X1)), u2] [am_i s0, am_r (am_a 36)] (zS L, h) =
    am_xV (zS L) (am_D d 4 7 [am_r (am_a 36), am_i s0] (zS L, h)) (am_up1 (zS L)) fun h1 => am_xV (zS L) (am_D d 4 10 [am_r (am_a 36)] (zS L, h1)) (am_up1 (zS L)) fun h2 => am_xV (zS L) (am_D d 4 11 [am_r (am_a 36), am_i 93] (zS L, h2)) (am_up1 (zS L)) fun h3 => am_xI (zS L) (am_D d 4 8 [am_r (am_a 36), am_i 44] (zS L, h3)) (am_up1 (zS L)) fun v5 h4 => if (v5 : Int) = 0 then am_E (am_D d) m_4_15 (.inl 1) [some (am_r (am_a 36)), some (am_r (X1)), some (am_i v5)] [] (zS L, h4) else am_xV (zS L) (am_D d 4 10 [am_r (am_a 36)] (zS L, h4)) (am_up1 (zS L)) fun h6 => am_E (am_D d) m_4_15 (.inl 1) [some (am_r (am_a 36)), some (am_r (X1)), some (am_i v5)] [] (zS L, h6) := (am_cut _ _ 21 7 _ _ _).trans rfl
-- TowerComputer$ChipReader.part(LTowerComputer$Chip;)V
set_option maxRecDepth 20000 in
theorem q_4_16_0 (d L : Nat) (h : am_H) (X1 : am_R) :
    am_E (am_D d) m_4_16 (.inl 0) [some (am_r (am_a 36)), some (am_r (X1)), none] [] (zS L, h) =
    am_xI (zS L) (am_D d 4 2 [am_r (am_a 36)] (zS L, h)) (am_up1 (zS L)) fun v2 h1 => if (v2 : Int) = 2 then am_xV (zS L) (am_D d 4 7 [am_r (am_a 36), am_i 1] (zS L, h1)) (am_up1 (zS L)) fun h6 => am_obj (zS L, h6) (X1) 3 fun a7 r8 => if (h6 a7 4 : Int) < 24 then am_E (am_D d) m_4_16 (.inl 4) [some (am_r (am_a 36)), some (am_r (X1)), none] [am_i 1, am_r (am_a 36)] (zS L, h6) else am_E (am_D d) m_4_16 (.inl 4) [some (am_r (am_a 36)), some (am_r (X1)), none] [am_i 0, am_r (am_a 36)] (zS L, h6) else am_xV (zS L) (am_D d 4 7 [am_r (am_a 36), am_i 0] (zS L, h1)) (am_up1 (zS L)) fun h3 => am_obj (zS L, h3) (X1) 3 fun a4 r5 => if (h3 a4 4 : Int) < 24 then am_E (am_D d) m_4_16 (.inl 4) [some (am_r (am_a 36)), some (am_r (X1)), none] [am_i 1, am_r (am_a 36)] (zS L, h3) else am_E (am_D d) m_4_16 (.inl 4) [some (am_r (am_a 36)), some (am_r (X1)), none] [am_i 0, am_r (am_a 36)] (zS L, h3) := (am_cut _ _ 34 0 _ _ _).trans rfl
theorem D_4_16 (d L : Nat) (h : am_H) (X1 : am_R) :
    am_D (d + 1) 4 16 [am_r (am_a 36), am_r (X1)] (zS L, h) =
    am_xI (zS L) (am_D d 4 2 [am_r (am_a 36)] (zS L, h)) (am_up1 (zS L)) fun v2 h1 => if (v2 : Int) = 2 then am_xV (zS L) (am_D d 4 7 [am_r (am_a 36), am_i 1] (zS L, h1)) (am_up1 (zS L)) fun h6 => am_obj (zS L, h6) (X1) 3 fun a7 r8 => if (h6 a7 4 : Int) < 24 then am_E (am_D d) m_4_16 (.inl 4) [some (am_r (am_a 36)), some (am_r (X1)), none] [am_i 1, am_r (am_a 36)] (zS L, h6) else am_E (am_D d) m_4_16 (.inl 4) [some (am_r (am_a 36)), some (am_r (X1)), none] [am_i 0, am_r (am_a 36)] (zS L, h6) else am_xV (zS L) (am_D d 4 7 [am_r (am_a 36), am_i 0] (zS L, h1)) (am_up1 (zS L)) fun h3 => am_obj (zS L, h3) (X1) 3 fun a4 r5 => if (h3 a4 4 : Int) < 24 then am_E (am_D d) m_4_16 (.inl 4) [some (am_r (am_a 36)), some (am_r (X1)), none] [am_i 1, am_r (am_a 36)] (zS L, h3) else am_E (am_D d) m_4_16 (.inl 4) [some (am_r (am_a 36)), some (am_r (X1)), none] [am_i 0, am_r (am_a 36)] (zS L, h3) := (q_4_16_0 d L h X1)
set_option maxRecDepth 20000 in
theorem q_4_16_4 (d L : Nat) (h : am_H) (X1 : am_R) (u2 : Option am_V) (s0 : Int) :
    am_E (am_D d) m_4_16 (.inl 4) [some (am_r (am_a 36)), some (am_r (X1)), u2] [am_i s0, am_r (am_a 36)] (zS L, h) =
    am_xI (zS L) (am_D d 4 4 [am_r (am_a 36)] (zS L, h)) (am_up1 (zS L)) fun v2 h1 => am_xV (zS L) (am_D d 4 6 [am_r (am_a 36), am_i s0, am_i 2, am_i v2] (zS L, h1)) (am_up1 (zS L)) fun h3 => am_obj (zS L, h3) (X1) 3 fun a4 r5 => am_obj (zS L, h3) (X1) 3 fun a6 r7 => am_arr (zS L, h3) (r5.getD 8 am_n) 1 fun a9 n10 _ => am_idx (h3 a6 4) n10 fun k8 => cond (Nat.beq a9 0) none (am_obj (zS L, (am_up h3 a9 k8 (h3 36 5))) (X1) 3 fun a11 r12 => am_obj (zS L, (am_up h3 a9 k8 (h3 36 5))) (X1) 3 fun a13 _ => am_xV (zS L) (am_D d 4 10 [am_r (am_a 36)] (zS L, (am_up (am_up h3 a9 k8 (h3 36 5)) a13 4 (am_w (((am_up h3 a9 k8 (h3 36 5)) a11 4) + 1))))) (am_up1 (zS L)) fun h14 => am_xV (zS L) (am_D d 4 11 [am_r (am_a 36), am_i 40] (zS L, h14)) (am_up1 (zS L)) fun h15 => am_E (am_D d) m_4_16 (.inl 5) [some (am_r (am_a 36)), some (am_r (X1)), some (am_i 1)] [] (zS L, h15)) := (am_cut _ _ 30 4 _ _ _).trans rfl
set_option maxRecDepth 20000 in
theorem q_4_16_5 (d L : Nat) (h : am_H) (X1 : am_R) (x2 : Int) :
    am_E (am_D d) m_4_16 (.inl 5) [some (am_r (am_a 36)), some (am_r (X1)), some (am_i x2)] [] (zS L, h) =
    if (x2 : Int) = 0 then am_xV (zS L) (am_D d 4 11 [am_r (am_a 36), am_i 41] (zS L, h)) (am_up1 (zS L)) fun h1 => am_xV (zS L) (am_D d 4 11 [am_r (am_a 36), am_i 59] (zS L, h1)) (am_up1 (zS L)) fun h2 => some (.inl none, (zS L, h2)) else am_xI (zS L) (am_D d 4 2 [am_r (am_a 36)] (zS L, h)) (am_up1 (zS L)) fun v4 h3 => if (v4 : Int) = 2 then am_E (am_D d) m_4_16 (.inl 7) [some (am_r (am_a 36)), some (am_r (X1)), some (am_i x2)] [am_i 1, am_r (am_a 36)] (zS L, h3) else am_E (am_D d) m_4_16 (.inl 7) [some (am_r (am_a 36)), some (am_r (X1)), some (am_i x2)] [am_i 0, am_r (am_a 36)] (zS L, h3) := (am_cut _ _ 23 5 _ _ _).trans rfl
set_option maxRecDepth 20000 in
theorem q_4_16_7 (d L : Nat) (h : am_H) (X1 : am_R) (u2 : Option am_V) (s0 : Int) :
    am_E (am_D d) m_4_16 (.inl 7) [some (am_r (am_a 36)), some (am_r (X1)), u2] [am_i s0, am_r (am_a 36)] (zS L, h) =
    am_xV (zS L) (am_D d 4 7 [am_r (am_a 36), am_i s0] (zS L, h)) (am_up1 (zS L)) fun h1 => am_xV (zS L) (am_D d 4 10 [am_r (am_a 36)] (zS L, h1)) (am_up1 (zS L)) fun h2 => am_xV (zS L) (am_D d 4 18 [am_r (am_a 36)] (zS L, h2)) (am_up1 (zS L)) fun h3 => am_xV (zS L) (am_D d 4 11 [am_r (am_a 36), am_i 61] (zS L, h3)) (am_up1 (zS L)) fun h4 => am_xI (zS L) (am_D d 4 9 [am_r (am_a 36), am_i 4] (zS L, h4)) (am_up1 (zS L)) fun v6 h5 => if (v6 : Int) = 0 then am_xI (zS L) (am_D d 4 9 [am_r (am_a 36), am_i 5] (zS L, h5)) (am_up1 (zS L)) fun v12 h11 => if (v12 : Int) = 0 then am_xI (zS L) (am_D d 4 2 [am_r (am_a 36)] (zS L, h11)) (am_up1 (zS L)) fun v14 h13 => if (v14 : Int) = 2 then am_E (am_D d) m_4_16 (.inl 11) [some (am_r (am_a 36)), some (am_r (X1)), u2] [am_i 1, am_r (am_a 36)] (zS L, h13) else am_E (am_D d) m_4_16 (.inl 11) [some (am_r (am_a 36)), some (am_r (X1)), u2] [am_i 0, am_r (am_a 36)] (zS L, h13) else am_xV (zS L) (am_D d 4 10 [am_r (am_a 36)] (zS L, h11)) (am_up1 (zS L)) fun h15 => am_xI (zS L) (am_D d 4 8 [am_r (am_a 36), am_i 44] (zS L, h15)) (am_up1 (zS L)) fun v17 h16 => if (v17 : Int) = 0 then am_E (am_D d) m_4_16 (.inl 5) [some (am_r (am_a 36)), some (am_r (X1)), some (am_i v17)] [] (zS L, h16) else am_xV (zS L) (am_D d 4 10 [am_r (am_a 36)] (zS L, h16)) (am_up1 (zS L)) fun h18 => am_E (am_D d) m_4_16 (.inl 5) [some (am_r (am_a 36)), some (am_r (X1)), some (am_i v17)] [] (zS L, h18) else am_xV (zS L) (am_D d 4 10 [am_r (am_a 36)] (zS L, h5)) (am_up1 (zS L)) fun h7 => am_xI (zS L) (am_D d 4 8 [am_r (am_a 36), am_i 44] (zS L, h7)) (am_up1 (zS L)) fun v9 h8 => if (v9 : Int) = 0 then am_E (am_D d) m_4_16 (.inl 5) [some (am_r (am_a 36)), some (am_r (X1)), some (am_i v9)] [] (zS L, h8) else am_xV (zS L) (am_D d 4 10 [am_r (am_a 36)] (zS L, h8)) (am_up1 (zS L)) fun h10 => am_E (am_D d) m_4_16 (.inl 5) [some (am_r (am_a 36)), some (am_r (X1)), some (am_i v9)] [] (zS L, h10) := (am_cut _ _ 55 7 _ _ _).trans rfl
set_option maxRecDepth 20000 in
theorem q_4_16_11 (d L : Nat) (h : am_H) (X1 : am_R) (u2 : Option am_V) (s0 : Int) :
    am_E (am_D d) m_4_16 (.inl 11) [some (am_r (am_a 36)), some (am_r (X1)), u2] [am_i s0, am_r (am_a 36)] (zS L, h) =
    am_xV (zS L) (am_D d 4 7 [am_r (am_a 36), am_i s0] (zS L, h)) (am_up1 (zS L)) fun h1 => am_xV (zS L) (am_D d 4 17 [am_r (am_a 36), am_r (X1)] (zS L, h1)) (am_up1 (zS L)) fun h2 => am_xV (zS L) (am_D d 4 10 [am_r (am_a 36)] (zS L, h2)) (am_up1 (zS L)) fun h3 => am_xV (zS L) (am_D d 4 18 [am_r (am_a 36)] (zS L, h3)) (am_up1 (zS L)) fun h4 => am_xI (zS L) (am_D d 4 8 [am_r (am_a 36), am_i 44] (zS L, h4)) (am_up1 (zS L)) fun v6 h5 => if (v6 : Int) = 0 then am_E (am_D d) m_4_16 (.inl 5) [some (am_r (am_a 36)), some (am_r (X1)), some (am_i v6)] [] (zS L, h5) else am_xV (zS L) (am_D d 4 10 [am_r (am_a 36)] (zS L, h5)) (am_up1 (zS L)) fun h7 => am_E (am_D d) m_4_16 (.inl 5) [some (am_r (am_a 36)), some (am_r (X1)), some (am_i v6)] [] (zS L, h7) := (am_cut _ _ 23 11 _ _ _).trans rfl
-- TowerComputer$ChipReader.inner(LTowerComputer$Chip;)V
set_option maxRecDepth 20000 in
theorem q_4_17_0 (d L : Nat) (h : am_H) (X1 : am_R) :
    am_E (am_D d) m_4_17 (.inl 0) [some (am_r (am_a 36)), some (am_r (X1))] [] (zS L, h) =
    am_xI (zS L) (am_D d 4 3 [am_r (am_a 36)] (zS L, h)) (am_up1 (zS L)) fun v2 h1 => am_obj (zS L, h1) (X1) 3 fun _ _ => am_xI (zS L) (am_D d 3 2 [am_r (X1), am_i v2] (zS L, h1)) (am_up1 (zS L)) fun v4 h3 => if (v4 : Int) = (-1) then am_xI (zS L) (am_D d 4 3 [am_r (am_a 36)] (zS L, h3)) (am_up1 (zS L)) fun v6 h5 => am_obj (zS L, h5) (X1) 3 fun _ _ => am_xI (zS L) (am_D d 3 3 [am_r (X1), am_i v6] (zS L, h5)) (am_up1 (zS L)) fun v8 h7 => if (v8 : Int) = (-1) then am_obj (zS L, h7) (X1) 3 fun a9 r10 => if (h7 a9 5 : Int) < 100 then am_E (am_D d) m_4_17 (.inl 4) [some (am_r (am_a 36)), some (am_r (X1))] [am_i 1, am_r (am_a 36)] (zS L, h7) else am_E (am_D d) m_4_17 (.inl 4) [some (am_r (am_a 36)), some (am_r (X1))] [am_i 0, am_r (am_a 36)] (zS L, h7) else some (.inl none, (zS L, h7)) else some (.inl none, (zS L, h3)) := (am_cut _ _ 29 0 _ _ _).trans rfl
theorem D_4_17 (d L : Nat) (h : am_H) (X1 : am_R) :
    am_D (d + 1) 4 17 [am_r (am_a 36), am_r (X1)] (zS L, h) =
    am_xI (zS L) (am_D d 4 3 [am_r (am_a 36)] (zS L, h)) (am_up1 (zS L)) fun v2 h1 => am_obj (zS L, h1) (X1) 3 fun _ _ => am_xI (zS L) (am_D d 3 2 [am_r (X1), am_i v2] (zS L, h1)) (am_up1 (zS L)) fun v4 h3 => if (v4 : Int) = (-1) then am_xI (zS L) (am_D d 4 3 [am_r (am_a 36)] (zS L, h3)) (am_up1 (zS L)) fun v6 h5 => am_obj (zS L, h5) (X1) 3 fun _ _ => am_xI (zS L) (am_D d 3 3 [am_r (X1), am_i v6] (zS L, h5)) (am_up1 (zS L)) fun v8 h7 => if (v8 : Int) = (-1) then am_obj (zS L, h7) (X1) 3 fun a9 r10 => if (h7 a9 5 : Int) < 100 then am_E (am_D d) m_4_17 (.inl 4) [some (am_r (am_a 36)), some (am_r (X1))] [am_i 1, am_r (am_a 36)] (zS L, h7) else am_E (am_D d) m_4_17 (.inl 4) [some (am_r (am_a 36)), some (am_r (X1))] [am_i 0, am_r (am_a 36)] (zS L, h7) else some (.inl none, (zS L, h7)) else some (.inl none, (zS L, h3)) := (q_4_17_0 d L h X1)
set_option maxRecDepth 20000 in
theorem q_4_17_4 (d L : Nat) (h : am_H) (X1 : am_R) (s0 : Int) :
    am_E (am_D d) m_4_17 (.inl 4) [some (am_r (am_a 36)), some (am_r (X1))] [am_i s0, am_r (am_a 36)] (zS L, h) =
    am_xI (zS L) (am_D d 4 4 [am_r (am_a 36)] (zS L, h)) (am_up1 (zS L)) fun v2 h1 => am_xV (zS L) (am_D d 4 6 [am_r (am_a 36), am_i s0, am_i 2, am_i v2] (zS L, h1)) (am_up1 (zS L)) fun h3 => am_obj (zS L, h3) (X1) 3 fun a4 r5 => am_obj (zS L, h3) (X1) 3 fun a6 r7 => am_xI (zS L) (am_D d 4 3 [am_r (am_a 36)] (zS L, h3)) (am_up1 (zS L)) fun v9 h8 => am_arr (zS L, h8) (r5.getD 9 am_n) 1 fun a11 n12 _ => am_idx (h3 a6 5) n12 fun k10 => cond (Nat.beq a11 0) none (am_obj (zS L, (am_up h8 a11 k10 (v9))) (X1) 3 fun a13 r14 => am_obj (zS L, (am_up h8 a11 k10 (v9))) (X1) 3 fun a15 r16 => am_arr (zS L, (am_up h8 a11 k10 (v9))) (r14.getD 10 am_n) 1 fun a18 n19 _ => am_idx ((am_up h8 a11 k10 (v9)) a15 5) n19 fun k17 => cond (Nat.beq a18 0) none (am_obj (zS L, (am_up (am_up h8 a11 k10 (v9)) a18 k17 (0))) (X1) 3 fun a20 r21 => am_obj (zS L, (am_up (am_up h8 a11 k10 (v9)) a18 k17 (0))) (X1) 3 fun a22 r23 => am_bit 0 (am_arr (zS L, (am_up (am_up h8 a11 k10 (v9)) a18 k17 (0))) (r21.getD 11 am_n) 4 fun a25 n26 _ => am_idx ((am_up (am_up h8 a11 k10 (v9)) a18 k17 (0)) a22 5) n26 fun k24 => cond (Nat.beq a25 0) none (am_obj (zS L, (am_up (am_up (am_up h8 a11 k10 (v9)) a18 k17 (0)) a25 k24 (0))) (X1) 3 fun a27 r28 => am_obj (zS L, (am_up (am_up (am_up h8 a11 k10 (v9)) a18 k17 (0)) a25 k24 (0))) (X1) 3 fun a29 _ => some (.inl none, (zS L, (am_up (am_up (am_up (am_up h8 a11 k10 (v9)) a18 k17 (0)) a25 k24 (0)) a29 5 (am_w (((am_up (am_up (am_up h8 a11 k10 (v9)) a18 k17 (0)) a25 k24 (0)) a27 5) + 1))))))))) := (am_cut _ _ 35 4 _ _ _).trans rfl
-- TowerComputer$ChipReader.range()V
set_option maxRecDepth 20000 in
theorem q_4_18_0 (d L : Nat) (h : am_H)  :
    am_E (am_D d) m_4_18 (.inl 0) [some (am_r (am_a 36))] [] (zS L, h) =
    am_xI (zS L) (am_D d 4 8 [am_r (am_a 36), am_i 91] (zS L, h)) (am_up1 (zS L)) fun v2 h1 => if (v2 : Int) = 0 then some (.inl none, (zS L, h1)) else am_xV (zS L) (am_D d 4 10 [am_r (am_a 36)] (zS L, h1)) (am_up1 (zS L)) fun h3 => am_xI (zS L) (am_D d 4 2 [am_r (am_a 36)] (zS L, h3)) (am_up1 (zS L)) fun v5 h4 => if (v5 : Int) = 3 then am_E (am_D d) m_4_18 (.inl 3) [some (am_r (am_a 36))] [am_i 1, am_r (am_a 36)] (zS L, h4) else am_E (am_D d) m_4_18 (.inl 3) [some (am_r (am_a 36))] [am_i 0, am_r (am_a 36)] (zS L, h4) := (am_cut _ _ 21 0 _ _ _).trans rfl
theorem D_4_18 (d L : Nat) (h : am_H)  :
    am_D (d + 1) 4 18 [am_r (am_a 36)] (zS L, h) =
    am_xI (zS L) (am_D d 4 8 [am_r (am_a 36), am_i 91] (zS L, h)) (am_up1 (zS L)) fun v2 h1 => if (v2 : Int) = 0 then some (.inl none, (zS L, h1)) else am_xV (zS L) (am_D d 4 10 [am_r (am_a 36)] (zS L, h1)) (am_up1 (zS L)) fun h3 => am_xI (zS L) (am_D d 4 2 [am_r (am_a 36)] (zS L, h3)) (am_up1 (zS L)) fun v5 h4 => if (v5 : Int) = 3 then am_E (am_D d) m_4_18 (.inl 3) [some (am_r (am_a 36))] [am_i 1, am_r (am_a 36)] (zS L, h4) else am_E (am_D d) m_4_18 (.inl 3) [some (am_r (am_a 36))] [am_i 0, am_r (am_a 36)] (zS L, h4) := (q_4_18_0 d L h )
set_option maxRecDepth 20000 in
theorem q_4_18_3 (d L : Nat) (h : am_H) (s0 : Int) :
    am_E (am_D d) m_4_18 (.inl 3) [some (am_r (am_a 36))] [am_i s0, am_r (am_a 36)] (zS L, h) =
    am_xV (zS L) (am_D d 4 7 [am_r (am_a 36), am_i s0] (zS L, h)) (am_up1 (zS L)) fun h1 => am_xV (zS L) (am_D d 4 10 [am_r (am_a 36)] (zS L, h1)) (am_up1 (zS L)) fun h2 => am_xI (zS L) (am_D d 4 8 [am_r (am_a 36), am_i 256] (zS L, h2)) (am_up1 (zS L)) fun v4 h3 => if (v4 : Int) = 0 then am_xV (zS L) (am_D d 4 11 [am_r (am_a 36), am_i 93] (zS L, h3)) (am_up1 (zS L)) fun h5 => some (.inl none, (zS L, h5)) else am_xV (zS L) (am_D d 4 10 [am_r (am_a 36)] (zS L, h3)) (am_up1 (zS L)) fun h6 => am_xI (zS L) (am_D d 4 2 [am_r (am_a 36)] (zS L, h6)) (am_up1 (zS L)) fun v8 h7 => if (v8 : Int) = 3 then am_xV (zS L) (am_D d 4 7 [am_r (am_a 36), am_i 1] (zS L, h7)) (am_up1 (zS L)) fun h12 => am_xV (zS L) (am_D d 4 10 [am_r (am_a 36)] (zS L, h12)) (am_up1 (zS L)) fun h13 => am_xV (zS L) (am_D d 4 11 [am_r (am_a 36), am_i 93] (zS L, h13)) (am_up1 (zS L)) fun h14 => some (.inl none, (zS L, h14)) else am_xV (zS L) (am_D d 4 7 [am_r (am_a 36), am_i 0] (zS L, h7)) (am_up1 (zS L)) fun h9 => am_xV (zS L) (am_D d 4 10 [am_r (am_a 36)] (zS L, h9)) (am_up1 (zS L)) fun h10 => am_xV (zS L) (am_D d 4 11 [am_r (am_a 36), am_i 93] (zS L, h10)) (am_up1 (zS L)) fun h11 => some (.inl none, (zS L, h11)) := (am_cut _ _ 43 3 _ _ _).trans rfl
-- TowerComputer$ChipReader.find(I)LTowerComputer$Chip;
set_option maxRecDepth 20000 in
theorem q_4_19_0 (d L : Nat) (h : am_H) (x1 : Int) :
    am_E (am_D d) m_4_19 (.inl 0) [some (am_r (am_a 36)), some (am_i x1), none] [] (zS L, h) =
    if (x1 : Int) = 6 then some (.inl (some (am_r (am_a 38))), (zS L, h)) else if (x1 : Int) = 7 then some (.inl (some (am_r (am_a 45))), (zS L, h)) else am_E (am_D d) m_4_19 (.inl 3) [some (am_r (am_a 36)), some (am_i x1), some (am_i 0)] [] (zS L, h) := (am_cut _ _ 20 0 _ _ _).trans rfl
theorem D_4_19 (d L : Nat) (h : am_H) (x1 : Int) :
    am_D (d + 1) 4 19 [am_r (am_a 36), am_i x1] (zS L, h) =
    if (x1 : Int) = 6 then some (.inl (some (am_r (am_a 38))), (zS L, h)) else if (x1 : Int) = 7 then some (.inl (some (am_r (am_a 45))), (zS L, h)) else am_E (am_D d) m_4_19 (.inl 3) [some (am_r (am_a 36)), some (am_i x1), some (am_i 0)] [] (zS L, h) := (q_4_19_0 d L h x1)
set_option maxRecDepth 20000 in
theorem q_4_19_3 (d L : Nat) (h : am_H) (x1 : Int) (x2 : Int) :
    am_E (am_D d) m_4_19 (.inl 3) [some (am_r (am_a 36)), some (am_i x1), some (am_i x2)] [] (zS L, h) =
    if (x2 : Int) < h 36 6 then am_idx x2 16 fun k1 => am_obj (zS L, h) (List.getD [am_a 83, am_a 90, am_a 97, am_a 104, am_a 111, am_a 118, am_a 125, am_a 132, am_a 139, am_a 146, am_a 153, am_a 160, am_a 167, am_a 174, am_a 181, am_a 188] k1 am_n) 3 fun a2 r3 => if (h a2 0 : Int) = x1 then am_idx x2 16 fun k4 => some (.inl (some (am_r (List.getD [am_a 83, am_a 90, am_a 97, am_a 104, am_a 111, am_a 118, am_a 125, am_a 132, am_a 139, am_a 146, am_a 153, am_a 160, am_a 167, am_a 174, am_a 181, am_a 188] k4 am_n))), (zS L, h)) else am_E (am_D d) m_4_19 (.inl 3) [some (am_r (am_a 36)), some (am_i x1), some (am_i (am_w (x2 + 1)))] [] (zS L, h) else some (.inl (some (am_r (am_n))), (zS L, h)) := (am_cut _ _ 25 3 _ _ _).trans rfl
-- TowerComputer$ChipReader.look(LTowerComputer$Chip;I)V
theorem q_4_20_0 (d L : Nat) (h : am_H) (X1 : am_R) (x2 : Int) :
    am_E (am_D d) m_4_20 (.inl 0) [some (am_r (am_a 36)), some (am_r (X1)), some (am_i x2), none] [] (zS L, h) =
    if (x2 : Int) = 0 then am_E (am_D d) m_4_20 (.inl 1) [some (am_r (am_a 36)), some (am_r (X1)), some (am_i x2), some (am_i 0)] [] (zS L, h) else am_E (am_D d) m_4_20 (.inl 2) [some (am_r (am_a 36)), some (am_r (X1)), some (am_i x2), none] [] (zS L, h) := (am_cut _ _ 10 0 _ _ _).trans rfl
theorem D_4_20 (d L : Nat) (h : am_H) (X1 : am_R) (x2 : Int) :
    am_D (d + 1) 4 20 [am_r (am_a 36), am_r (X1), am_i x2] (zS L, h) =
    if (x2 : Int) = 0 then am_E (am_D d) m_4_20 (.inl 1) [some (am_r (am_a 36)), some (am_r (X1)), some (am_i x2), some (am_i 0)] [] (zS L, h) else am_E (am_D d) m_4_20 (.inl 2) [some (am_r (am_a 36)), some (am_r (X1)), some (am_i x2), none] [] (zS L, h) := (q_4_20_0 d L h X1 x2)
theorem q_4_20_1 (d L : Nat) (h : am_H) (X1 : am_R) (u2 : Option am_V) (x3 : Int) :
    am_E (am_D d) m_4_20 (.inl 1) [some (am_r (am_a 36)), some (am_r (X1)), u2, some (am_i x3)] [] (zS L, h) =
    if (x3 : Int) < h 36 6 then am_idx x3 16 fun k1 => am_xV (zS L) (am_D d 4 21 [am_r (am_a 36), am_r (List.getD [am_a 83, am_a 90, am_a 97, am_a 104, am_a 111, am_a 118, am_a 125, am_a 132, am_a 139, am_a 146, am_a 153, am_a 160, am_a 167, am_a 174, am_a 181, am_a 188] k1 am_n)] (zS L, h)) (am_up1 (zS L)) fun h2 => am_E (am_D d) m_4_20 (.inl 1) [some (am_r (am_a 36)), some (am_r (X1)), u2, some (am_i (am_w (x3 + 1)))] [] (zS L, h2) else am_E (am_D d) m_4_20 (.inl 2) [some (am_r (am_a 36)), some (am_r (X1)), u2, some (am_i x3)] [] (zS L, h) := (am_cut _ _ 17 1 _ _ _).trans rfl
set_option maxRecDepth 20000 in
theorem q_4_20_2 (d L : Nat) (h : am_H) (X1 : am_R) (u2 : Option am_V) (u3 : Option am_V) :
    am_E (am_D d) m_4_20 (.inl 2) [some (am_r (am_a 36)), some (am_r (X1)), u2, u3] [] (zS L, h) =
    am_obj (zS L, h) (X1) 3 fun a1 r2 => am_xR (zS L) (am_D d 4 19 [am_r (am_a 36), am_i (h a1 0)] (zS L, h)) (am_up1 (zS L)) fun v4 h3 => am_acmp .ne (v4) (X1) (am_obj (zS L, h3) (X1) 3 fun a5 r6 => am_xV (zS L) (am_D d 4 6 [am_r (am_a 36), am_i 0, am_i 3, am_i (h3 a5 1)] (zS L, h3)) (am_up1 (zS L)) fun h7 => am_E (am_D d) m_4_20 (.inl 5) [some (am_r (am_a 36)), some (am_r (X1)), u2, some (am_i 0)] [] (zS L, h7)) (am_obj (zS L, h3) (X1) 3 fun a8 r9 => am_xV (zS L) (am_D d 4 6 [am_r (am_a 36), am_i 1, am_i 3, am_i (h3 a8 1)] (zS L, h3)) (am_up1 (zS L)) fun h10 => am_E (am_D d) m_4_20 (.inl 5) [some (am_r (am_a 36)), some (am_r (X1)), u2, some (am_i 0)] [] (zS L, h10)) := (am_cut _ _ 30 2 _ _ _).trans rfl
set_option maxRecDepth 20000 in
theorem q_4_20_5 (d L : Nat) (h : am_H) (X1 : am_R) (u2 : Option am_V) (x3 : Int) :
    am_E (am_D d) m_4_20 (.inl 5) [some (am_r (am_a 36)), some (am_r (X1)), u2, some (am_i x3)] [] (zS L, h) =
    am_obj (zS L, h) (X1) 3 fun a1 r2 => if (x3 : Int) < h a1 2 then am_xV (zS L) (am_D d 4 24 [am_r (am_a 36), am_r (X1), am_i x3] (zS L, h)) (am_up1 (zS L)) fun h3 => am_E (am_D d) m_4_20 (.inl 5) [some (am_r (am_a 36)), some (am_r (X1)), u2, some (am_i (am_w (x3 + 1)))] [] (zS L, h3) else am_E (am_D d) m_4_20 (.inl 7) [some (am_r (am_a 36)), some (am_r (X1)), u2, some (am_i 0)] [] (zS L, h) := (am_cut _ _ 18 5 _ _ _).trans rfl
set_option maxRecDepth 20000 in
theorem q_4_20_7 (d L : Nat) (h : am_H) (X1 : am_R) (u2 : Option am_V) (x3 : Int) :
    am_E (am_D d) m_4_20 (.inl 7) [some (am_r (am_a 36)), some (am_r (X1)), u2, some (am_i x3)] [] (zS L, h) =
    am_obj (zS L, h) (X1) 3 fun a1 r2 => if (x3 : Int) < h a1 4 then am_obj (zS L, h) (X1) 3 fun a3 r4 => am_arr (zS L, h) (r4.getD 8 am_n) 1 fun a6 n7 _ => am_idx x3 n7 fun k5 => am_xV (zS L) (am_D d 4 27 [am_r (am_a 36), am_r (X1), am_i (h a6 k5)] (zS L, h)) (am_up1 (zS L)) fun h8 => am_E (am_D d) m_4_20 (.inl 7) [some (am_r (am_a 36)), some (am_r (X1)), u2, some (am_i (am_w (x3 + 1)))] [] (zS L, h8) else am_E (am_D d) m_4_20 (.inl 9) [some (am_r (am_a 36)), some (am_r (X1)), u2, some (am_i 0)] [] (zS L, h) := (am_cut _ _ 21 7 _ _ _).trans rfl
set_option maxRecDepth 20000 in
theorem q_4_20_9 (d L : Nat) (h : am_H) (X1 : am_R) (u2 : Option am_V) (x3 : Int) :
    am_E (am_D d) m_4_20 (.inl 9) [some (am_r (am_a 36)), some (am_r (X1)), u2, some (am_i x3)] [] (zS L, h) =
    am_obj (zS L, h) (X1) 3 fun a1 r2 => if (x3 : Int) < h a1 2 then am_idx x3 12 fun k3 => am_E (am_D d) m_4_20 (.inl 9) [some (am_r (am_a 36)), some (am_r (X1)), u2, some (am_i (am_w (x3 + 1)))] [] (zS L, (am_up h 54 k3 (0))) else am_E (am_D d) m_4_20 (.inl 11) [some (am_r (am_a 36)), some (am_r (X1)), u2, some (am_i 0)] [] (zS L, h) := (am_cut _ _ 19 9 _ _ _).trans rfl
set_option maxRecDepth 20000 in
theorem q_4_20_11 (d L : Nat) (h : am_H) (X1 : am_R) (u2 : Option am_V) (x3 : Int) :
    am_E (am_D d) m_4_20 (.inl 11) [some (am_r (am_a 36)), some (am_r (X1)), u2, some (am_i x3)] [] (zS L, h) =
    am_obj (zS L, h) (X1) 3 fun a1 r2 => if (x3 : Int) < h a1 5 then am_obj (zS L, h) (X1) 3 fun a3 r4 => am_bit 0 (am_arr (zS L, h) (r4.getD 11 am_n) 4 fun a6 n7 _ => am_idx x3 n7 fun k5 => cond (Nat.beq a6 0) none (am_E (am_D d) m_4_20 (.inl 11) [some (am_r (am_a 36)), some (am_r (X1)), u2, some (am_i (am_w (x3 + 1)))] [] (zS L, (am_up h a6 k5 (0))))) else am_E (am_D d) m_4_20 (.inl 13) [some (am_r (am_a 36)), some (am_r (X1)), u2, some (am_i 0)] [] (zS L, h) := (am_cut _ _ 19 11 _ _ _).trans rfl
set_option maxRecDepth 20000 in
theorem q_4_20_13 (d L : Nat) (h : am_H) (X1 : am_R) (u2 : Option am_V) (x3 : Int) :
    am_E (am_D d) m_4_20 (.inl 13) [some (am_r (am_a 36)), some (am_r (X1)), u2, some (am_i x3)] [] (zS L, h) =
    am_obj (zS L, h) (X1) 3 fun a1 r2 => if (x3 : Int) < h a1 4 then am_obj (zS L, h) (X1) 3 fun a3 r4 => am_arr (zS L, h) (r4.getD 8 am_n) 1 fun a6 n7 _ => am_idx x3 n7 fun k5 => am_xV (zS L) (am_D d 4 28 [am_r (am_a 36), am_r (X1), am_i (h a6 k5)] (zS L, h)) (am_up1 (zS L)) fun h8 => am_E (am_D d) m_4_20 (.inl 13) [some (am_r (am_a 36)), some (am_r (X1)), u2, some (am_i (am_w (x3 + 1)))] [] (zS L, h8) else some (.inl none, (zS L, h)) := (am_cut _ _ 19 13 _ _ _).trans rfl
-- TowerComputer$ChipReader.heads(LTowerComputer$Chip;)V
theorem q_4_21_0 (d L : Nat) (h : am_H) (X1 : am_R) :
    am_E (am_D d) m_4_21 (.inl 0) [some (am_r (am_a 36)), some (am_r (X1)), none, none] [] (zS L, h) =
    am_E (am_D d) m_4_21 (.inl 1) [some (am_r (am_a 36)), some (am_r (X1)), some (am_i 0), none] [] (zS L, h) := (am_cut _ _ 8 0 _ _ _).trans rfl
theorem D_4_21 (d L : Nat) (h : am_H) (X1 : am_R) :
    am_D (d + 1) 4 21 [am_r (am_a 36), am_r (X1)] (zS L, h) =
    am_E (am_D d) m_4_21 (.inl 1) [some (am_r (am_a 36)), some (am_r (X1)), some (am_i 0), none] [] (zS L, h) := (q_4_21_0 d L h X1)
set_option maxRecDepth 20000 in
theorem q_4_21_1 (d L : Nat) (h : am_H) (X1 : am_R) (x2 : Int) (u3 : Option am_V) :
    am_E (am_D d) m_4_21 (.inl 1) [some (am_r (am_a 36)), some (am_r (X1)), some (am_i x2), u3] [] (zS L, h) =
    am_obj (zS L, h) (X1) 3 fun a1 r2 => if (x2 : Int) < h a1 2 then am_obj (zS L, h) (X1) 3 fun a3 r4 => am_arr (zS L, h) (r4.getD 7 am_n) 1 fun a6 n7 _ => am_idx x2 n7 fun k5 => am_xI (zS L) (am_D d 4 23 [am_r (am_a 36), am_r (X1)] (zS L, h)) (am_up1 (zS L)) fun v9 h8 => am_idx v9 16 fun k10 => am_arr (zS L, h8) (List.getD [am_a 56, am_a 57, am_a 58, am_a 59, am_a 60, am_a 61, am_a 62, am_a 63, am_a 64, am_a 65, am_a 66, am_a 67, am_a 68, am_a 69, am_a 70, am_a 71] k10 am_n) 1 fun a12 n13 _ => am_idx x2 n13 fun k11 => cond (Nat.beq a12 0) none (am_obj (zS L, (am_up h8 a12 k11 (h a6 k5))) (X1) 3 fun a14 r15 => am_xI (zS L) (am_D d 4 22 [am_r (am_a 36), am_i (h a6 k5)] (zS L, (am_up h8 a12 k11 (h a6 k5)))) (am_up1 (zS L)) fun v17 h16 => if (v17 : Int) = 0 then am_arr (zS L, h16) (r15.getD 7 am_n) 1 fun a19 n20 _ => am_idx x2 n20 fun k18 => cond (Nat.beq a19 0) none (am_E (am_D d) m_4_21 (.inl 1) [some (am_r (am_a 36)), some (am_r (X1)), some (am_i (am_w (x2 + 1))), some (am_i (h a6 k5))] [] (zS L, (am_up h16 a19 k18 (1)))) else am_idx (am_w (h a6 k5 + 2)) 2002 fun k21 => if (h16 79 k21 : Int) < 1 then am_arr (zS L, h16) (r15.getD 7 am_n) 1 fun a23 n24 _ => am_idx x2 n24 fun k22 => cond (Nat.beq a23 0) none (am_E (am_D d) m_4_21 (.inl 1) [some (am_r (am_a 36)), some (am_r (X1)), some (am_i (am_w (x2 + 1))), some (am_i (h a6 k5))] [] (zS L, (am_up h16 a23 k22 (1)))) else am_idx (am_w (h a6 k5 + 2)) 2002 fun k25 => if (16 : Int) < h16 79 k25 then am_arr (zS L, h16) (r15.getD 7 am_n) 1 fun a27 n28 _ => am_idx x2 n28 fun k26 => cond (Nat.beq a27 0) none (am_E (am_D d) m_4_21 (.inl 1) [some (am_r (am_a 36)), some (am_r (X1)), some (am_i (am_w (x2 + 1))), some (am_i (h a6 k5))] [] (zS L, (am_up h16 a27 k26 (1)))) else am_idx (am_w (h a6 k5 + 2)) 2002 fun k29 => am_arr (zS L, h16) (r15.getD 7 am_n) 1 fun a31 n32 _ => am_idx x2 n32 fun k30 => cond (Nat.beq a31 0) none (am_E (am_D d) m_4_21 (.inl 1) [some (am_r (am_a 36)), some (am_r (X1)), some (am_i (am_w (x2 + 1))), some (am_i (h a6 k5))] [] (zS L, (am_up h16 a31 k30 (h16 79 k29))))) else some (.inl none, (zS L, h)) := (am_cut _ _ 75 1 _ _ _).trans rfl
-- TowerComputer$ChipReader.isTold(I)Z
set_option maxRecDepth 20000 in
theorem q_4_22_0 (d L : Nat) (h : am_H) (x1 : Int) :
    am_E (am_D d) m_4_22 (.inl 0) [some (am_r (am_a 36)), some (am_i x1)] [] (zS L, h) =
    am_idx (am_w (x1 + 1)) 2002 fun k1 => if (h 78 k1 : Int) = 4 then am_idx (am_w (x1 + 1)) 2002 fun k2 => if (h 79 k2 : Int) = 91 then am_bit 1 (some (.inl (some (am_i 1)), (zS L, h))) else am_bit 0 (some (.inl (some (am_i 0)), (zS L, h))) else am_bit 0 (some (.inl (some (am_i 0)), (zS L, h))) := (am_cut _ _ 32 0 _ _ _).trans rfl
theorem D_4_22 (d L : Nat) (h : am_H) (x1 : Int) :
    am_D (d + 1) 4 22 [am_r (am_a 36), am_i x1] (zS L, h) =
    am_idx (am_w (x1 + 1)) 2002 fun k1 => if (h 78 k1 : Int) = 4 then am_idx (am_w (x1 + 1)) 2002 fun k2 => if (h 79 k2 : Int) = 91 then am_bit 1 (some (.inl (some (am_i 1)), (zS L, h))) else am_bit 0 (some (.inl (some (am_i 0)), (zS L, h))) else am_bit 0 (some (.inl (some (am_i 0)), (zS L, h))) := (q_4_22_0 d L h x1)
-- TowerComputer$ChipReader.indexOf(LTowerComputer$Chip;)I
theorem q_4_23_0 (d L : Nat) (h : am_H) (X1 : am_R) :
    am_E (am_D d) m_4_23 (.inl 0) [some (am_r (am_a 36)), some (am_r (X1)), none] [] (zS L, h) =
    am_E (am_D d) m_4_23 (.inl 1) [some (am_r (am_a 36)), some (am_r (X1)), some (am_i 0)] [] (zS L, h) := (am_cut _ _ 8 0 _ _ _).trans rfl
theorem D_4_23 (d L : Nat) (h : am_H) (X1 : am_R) :
    am_D (d + 1) 4 23 [am_r (am_a 36), am_r (X1)] (zS L, h) =
    am_E (am_D d) m_4_23 (.inl 1) [some (am_r (am_a 36)), some (am_r (X1)), some (am_i 0)] [] (zS L, h) := (q_4_23_0 d L h X1)
theorem q_4_23_1 (d L : Nat) (h : am_H) (X1 : am_R) (x2 : Int) :
    am_E (am_D d) m_4_23 (.inl 1) [some (am_r (am_a 36)), some (am_r (X1)), some (am_i x2)] [] (zS L, h) =
    am_idx x2 16 fun k1 => am_acmp .eq (List.getD [am_a 83, am_a 90, am_a 97, am_a 104, am_a 111, am_a 118, am_a 125, am_a 132, am_a 139, am_a 146, am_a 153, am_a 160, am_a 167, am_a 174, am_a 181, am_a 188] k1 am_n) (X1) (some (.inl (some (am_i x2)), (zS L, h))) (am_E (am_D d) m_4_23 (.inl 1) [some (am_r (am_a 36)), some (am_r (X1)), some (am_i (am_w (x2 + 1)))] [] (zS L, h)) := (am_cut _ _ 15 1 _ _ _).trans rfl
-- TowerComputer$ChipReader.headFault(LTowerComputer$Chip;I)V
set_option maxRecDepth 20000 in
theorem q_4_24_0 (d L : Nat) (h : am_H) (X1 : am_R) (x2 : Int) :
    am_E (am_D d) m_4_24 (.inl 0) [some (am_r (am_a 36)), some (am_r (X1)), some (am_i x2), none] [] (zS L, h) =
    am_xI (zS L) (am_D d 4 23 [am_r (am_a 36), am_r (X1)] (zS L, h)) (am_up1 (zS L)) fun v2 h1 => am_idx v2 16 fun k3 => am_arr (zS L, h1) (List.getD [am_a 56, am_a 57, am_a 58, am_a 59, am_a 60, am_a 61, am_a 62, am_a 63, am_a 64, am_a 65, am_a 66, am_a 67, am_a 68, am_a 69, am_a 70, am_a 71] k3 am_n) 1 fun a5 n6 _ => am_idx x2 n6 fun k4 => am_obj (zS L, h1) (X1) 3 fun a7 r8 => am_arr (zS L, h1) (r8.getD 6 am_n) 1 fun a10 n11 _ => am_idx x2 n11 fun k9 => am_obj (zS L, h1) (X1) 3 fun _ _ => am_xI (zS L) (am_D d 3 2 [am_r (X1), am_i (h1 a10 k9)] (zS L, h1)) (am_up1 (zS L)) fun v13 h12 => if (v13 : Int) = x2 then am_E (am_D d) m_4_24 (.inl 2) [some (am_r (am_a 36)), some (am_r (X1)), some (am_i x2), some (am_i (h1 a5 k4))] [am_i 1, am_r (am_a 36)] (zS L, h12) else am_E (am_D d) m_4_24 (.inl 2) [some (am_r (am_a 36)), some (am_r (X1)), some (am_i x2), some (am_i (h1 a5 k4))] [am_i 0, am_r (am_a 36)] (zS L, h12) := (am_cut _ _ 27 0 _ _ _).trans rfl
theorem D_4_24 (d L : Nat) (h : am_H) (X1 : am_R) (x2 : Int) :
    am_D (d + 1) 4 24 [am_r (am_a 36), am_r (X1), am_i x2] (zS L, h) =
    am_xI (zS L) (am_D d 4 23 [am_r (am_a 36), am_r (X1)] (zS L, h)) (am_up1 (zS L)) fun v2 h1 => am_idx v2 16 fun k3 => am_arr (zS L, h1) (List.getD [am_a 56, am_a 57, am_a 58, am_a 59, am_a 60, am_a 61, am_a 62, am_a 63, am_a 64, am_a 65, am_a 66, am_a 67, am_a 68, am_a 69, am_a 70, am_a 71] k3 am_n) 1 fun a5 n6 _ => am_idx x2 n6 fun k4 => am_obj (zS L, h1) (X1) 3 fun a7 r8 => am_arr (zS L, h1) (r8.getD 6 am_n) 1 fun a10 n11 _ => am_idx x2 n11 fun k9 => am_obj (zS L, h1) (X1) 3 fun _ _ => am_xI (zS L) (am_D d 3 2 [am_r (X1), am_i (h1 a10 k9)] (zS L, h1)) (am_up1 (zS L)) fun v13 h12 => if (v13 : Int) = x2 then am_E (am_D d) m_4_24 (.inl 2) [some (am_r (am_a 36)), some (am_r (X1)), some (am_i x2), some (am_i (h1 a5 k4))] [am_i 1, am_r (am_a 36)] (zS L, h12) else am_E (am_D d) m_4_24 (.inl 2) [some (am_r (am_a 36)), some (am_r (X1)), some (am_i x2), some (am_i (h1 a5 k4))] [am_i 0, am_r (am_a 36)] (zS L, h12) := (q_4_24_0 d L h X1 x2)
set_option maxRecDepth 20000 in
theorem q_4_24_2 (d L : Nat) (h : am_H) (u1 : Option am_V) (u2 : Option am_V) (x3 : Int) (s0 : Int) :
    am_E (am_D d) m_4_24 (.inl 2) [some (am_r (am_a 36)), u1, u2, some (am_i x3)] [am_i s0, am_r (am_a 36)] (zS L, h) =
    am_idx x3 2002 fun k1 => am_xV (zS L) (am_D d 4 6 [am_r (am_a 36), am_i s0, am_i 3, am_i (h 80 k1)] (zS L, h)) (am_up1 (zS L)) fun h2 => am_xI (zS L) (am_D d 4 22 [am_r (am_a 36), am_i x3] (zS L, h2)) (am_up1 (zS L)) fun v4 h3 => if (v4 : Int) = 0 then am_idx (am_w (x3 + 2)) 2002 fun k5 => am_xV (zS L) (am_D d 4 6 [am_r (am_a 36), am_i 1, am_i 5, am_i (h3 80 k5)] (zS L, h3)) (am_up1 (zS L)) fun h6 => some (.inl none, (zS L, h6)) else am_idx (am_w (x3 + 2)) 2002 fun k7 => if (h3 79 k7 : Int) < 1 then am_idx (am_w (x3 + 2)) 2002 fun k8 => am_xV (zS L) (am_D d 4 6 [am_r (am_a 36), am_i 0, am_i 5, am_i (h3 80 k8)] (zS L, h3)) (am_up1 (zS L)) fun h9 => some (.inl none, (zS L, h9)) else am_idx (am_w (x3 + 2)) 2002 fun k10 => if (16 : Int) < h3 79 k10 then am_idx (am_w (x3 + 2)) 2002 fun k11 => am_xV (zS L) (am_D d 4 6 [am_r (am_a 36), am_i 0, am_i 5, am_i (h3 80 k11)] (zS L, h3)) (am_up1 (zS L)) fun h12 => some (.inl none, (zS L, h12)) else am_idx (am_w (x3 + 2)) 2002 fun k13 => am_xV (zS L) (am_D d 4 6 [am_r (am_a 36), am_i 1, am_i 5, am_i (h3 80 k13)] (zS L, h3)) (am_up1 (zS L)) fun h14 => some (.inl none, (zS L, h14)) := (am_cut _ _ 84 2 _ _ _).trans rfl
-- TowerComputer$ChipReader.bits(I)Z
set_option maxRecDepth 20000 in
theorem q_4_25_0 (d L : Nat) (h : am_H) (x1 : Int) :
    am_E (am_D d) m_4_25 (.inl 0) [some (am_r (am_a 36)), some (am_i x1), none] [] (zS L, h) =
    am_xI (zS L) (am_D d 4 8 [am_r (am_a 36), am_i 91] (zS L, (am_up (am_up h 36 9 (0)) 36 10 (am_w (x1 - 1))))) (am_up1 (zS L)) fun v2 h1 => if (v2 : Int) = 0 then am_bit 1 (some (.inl (some (am_i 1)), (zS L, h1))) else am_idx (am_w (h1 36 5 + 1)) 2002 fun k3 => am_idx (am_w (h1 36 5 + 2)) 2002 fun k4 => if (h1 78 k4 : Int) = 4 then am_idx (am_w (h1 36 5 + 2)) 2002 fun k5 => if (h1 79 k5 : Int) = 256 then am_E (am_D d) m_4_25 (.inl 3) [some (am_r (am_a 36)), some (am_i x1), none] [am_i 1] (zS L, (am_up h1 36 9 (h1 79 k3))) else am_E (am_D d) m_4_25 (.inl 3) [some (am_r (am_a 36)), some (am_i x1), none] [am_i 0] (zS L, (am_up h1 36 9 (h1 79 k3))) else am_E (am_D d) m_4_25 (.inl 3) [some (am_r (am_a 36)), some (am_i x1), none] [am_i 0] (zS L, (am_up h1 36 9 (h1 79 k3))) := (am_cut _ _ 55 0 _ _ _).trans rfl
theorem D_4_25 (d L : Nat) (h : am_H) (x1 : Int) :
    am_D (d + 1) 4 25 [am_r (am_a 36), am_i x1] (zS L, h) =
    am_xI (zS L) (am_D d 4 8 [am_r (am_a 36), am_i 91] (zS L, (am_up (am_up h 36 9 (0)) 36 10 (am_w (x1 - 1))))) (am_up1 (zS L)) fun v2 h1 => if (v2 : Int) = 0 then am_bit 1 (some (.inl (some (am_i 1)), (zS L, h1))) else am_idx (am_w (h1 36 5 + 1)) 2002 fun k3 => am_idx (am_w (h1 36 5 + 2)) 2002 fun k4 => if (h1 78 k4 : Int) = 4 then am_idx (am_w (h1 36 5 + 2)) 2002 fun k5 => if (h1 79 k5 : Int) = 256 then am_E (am_D d) m_4_25 (.inl 3) [some (am_r (am_a 36)), some (am_i x1), none] [am_i 1] (zS L, (am_up h1 36 9 (h1 79 k3))) else am_E (am_D d) m_4_25 (.inl 3) [some (am_r (am_a 36)), some (am_i x1), none] [am_i 0] (zS L, (am_up h1 36 9 (h1 79 k3))) else am_E (am_D d) m_4_25 (.inl 3) [some (am_r (am_a 36)), some (am_i x1), none] [am_i 0] (zS L, (am_up h1 36 9 (h1 79 k3))) := (q_4_25_0 d L h x1)
set_option maxRecDepth 20000 in
theorem q_4_25_3 (d L : Nat) (h : am_H) (x1 : Int) (u2 : Option am_V) (s0 : Int) :
    am_E (am_D d) m_4_25 (.inl 3) [some (am_r (am_a 36)), some (am_i x1), u2] [am_i s0] (zS L, h) =
    if (s0 : Int) = 0 then if (s0 : Int) = 0 then am_E (am_D d) m_4_25 (.inl 7) [some (am_r (am_a 36)), some (am_i x1), some (am_i s0)] [am_i 3, am_i (h 36 5), am_r (am_a 36)] (zS L, (am_up h 36 10 (h 36 9))) else am_E (am_D d) m_4_25 (.inl 7) [some (am_r (am_a 36)), some (am_i x1), some (am_i s0)] [am_i 5, am_i (h 36 5), am_r (am_a 36)] (zS L, (am_up h 36 10 (h 36 9))) else am_idx (am_w (h 36 5 + 3)) 2002 fun k1 => if (s0 : Int) = 0 then am_E (am_D d) m_4_25 (.inl 7) [some (am_r (am_a 36)), some (am_i x1), some (am_i s0)] [am_i 3, am_i (h 36 5), am_r (am_a 36)] (zS L, (am_up h 36 10 (h 79 k1))) else am_E (am_D d) m_4_25 (.inl 7) [some (am_r (am_a 36)), some (am_i x1), some (am_i s0)] [am_i 5, am_i (h 36 5), am_r (am_a 36)] (zS L, (am_up h 36 10 (h 79 k1))) := (am_cut _ _ 41 3 _ _ _).trans rfl
set_option maxRecDepth 20000 in
theorem q_4_25_7 (d L : Nat) (h : am_H) (x1 : Int) (u2 : Option am_V) (s0 : Int) (s1 : Int) :
    am_E (am_D d) m_4_25 (.inl 7) [some (am_r (am_a 36)), some (am_i x1), u2] [am_i s0, am_i s1, am_r (am_a 36)] (zS L, h) =
    if (h 36 10 : Int) < h 36 9 then am_bit 0 (some (.inl (some (am_i 0)), (zS L, (am_up h 36 5 (am_w (s1 + s0)))))) else if (h 36 10 : Int) < x1 then am_bit 1 (some (.inl (some (am_i 1)), (zS L, (am_up h 36 5 (am_w (s1 + s0)))))) else am_bit 0 (some (.inl (some (am_i 0)), (zS L, (am_up h 36 5 (am_w (s1 + s0)))))) := (am_cut _ _ 25 7 _ _ _).trans rfl
-- TowerComputer$ChipReader.pass()V
theorem q_4_26_0 (d L : Nat) (h : am_H)  :
    am_E (am_D d) m_4_26 (.inl 0) [some (am_r (am_a 36))] [] (zS L, h) =
    am_xI (zS L) (am_D d 4 8 [am_r (am_a 36), am_i 91] (zS L, h)) (am_up1 (zS L)) fun v2 h1 => if (v2 : Int) = 0 then some (.inl none, (zS L, h1)) else am_E (am_D d) m_4_26 (.inl 1) [some (am_r (am_a 36))] [] (zS L, h1) := (am_cut _ _ 10 0 _ _ _).trans rfl
theorem D_4_26 (d L : Nat) (h : am_H)  :
    am_D (d + 1) 4 26 [am_r (am_a 36)] (zS L, h) =
    am_xI (zS L) (am_D d 4 8 [am_r (am_a 36), am_i 91] (zS L, h)) (am_up1 (zS L)) fun v2 h1 => if (v2 : Int) = 0 then some (.inl none, (zS L, h1)) else am_E (am_D d) m_4_26 (.inl 1) [some (am_r (am_a 36))] [] (zS L, h1) := (q_4_26_0 d L h )
set_option maxRecDepth 20000 in
theorem q_4_26_1 (d L : Nat) (h : am_H)  :
    am_E (am_D d) m_4_26 (.inl 1) [some (am_r (am_a 36))] [] (zS L, h) =
    am_xI (zS L) (am_D d 4 8 [am_r (am_a 36), am_i 93] (zS L, h)) (am_up1 (zS L)) fun v2 h1 => if (v2 : Int) = 0 then am_E (am_D d) m_4_26 (.inl 1) [some (am_r (am_a 36))] [] (zS L, (am_up h1 36 5 (am_w (h1 36 5 + 1)))) else some (.inl none, (zS L, (am_up h1 36 5 (am_w (h1 36 5 + 1))))) := (am_cut _ _ 23 1 _ _ _).trans rfl
-- TowerComputer$ChipReader.gives(LTowerComputer$Chip;I)V
set_option maxRecDepth 20000 in
theorem q_4_27_0 (d L : Nat) (h : am_H) (X1 : am_R) (x2 : Int) :
    am_E (am_D d) m_4_27 (.inl 0) [some (am_r (am_a 36)), some (am_r (X1)), some (am_i x2), none, none, none, none, none, none] [] (zS L, h) =
    am_xI (zS L) (am_D d 4 3 [am_r (am_a 36)] (zS L, (am_up h 36 5 (x2)))) (am_up1 (zS L)) fun v2 h1 => am_xR (zS L) (am_D d 4 19 [am_r (am_a 36), am_i v2] (zS L, h1)) (am_up1 (zS L)) fun v4 h3 => am_nul (v4) (am_E (am_D d) m_4_27 (.inl 3) [some (am_r (am_a 36)), some (am_r (X1)), some (am_i x2), some (am_r (v4)), some (am_i 0), none, none, none, none] [] (zS L, (am_up h3 36 5 (am_w (h3 36 5 + 2))))) (am_E (am_D d) m_4_27 (.inl 3) [some (am_r (am_a 36)), some (am_r (X1)), some (am_i x2), some (am_r (v4)), some (am_i 1), none, none, none, none] [] (zS L, (am_up h3 36 5 (am_w (h3 36 5 + 2))))) := (am_cut _ _ 29 0 _ _ _).trans rfl
theorem D_4_27 (d L : Nat) (h : am_H) (X1 : am_R) (x2 : Int) :
    am_D (d + 1) 4 27 [am_r (am_a 36), am_r (X1), am_i x2] (zS L, h) =
    am_xI (zS L) (am_D d 4 3 [am_r (am_a 36)] (zS L, (am_up h 36 5 (x2)))) (am_up1 (zS L)) fun v2 h1 => am_xR (zS L) (am_D d 4 19 [am_r (am_a 36), am_i v2] (zS L, h1)) (am_up1 (zS L)) fun v4 h3 => am_nul (v4) (am_E (am_D d) m_4_27 (.inl 3) [some (am_r (am_a 36)), some (am_r (X1)), some (am_i x2), some (am_r (v4)), some (am_i 0), none, none, none, none] [] (zS L, (am_up h3 36 5 (am_w (h3 36 5 + 2))))) (am_E (am_D d) m_4_27 (.inl 3) [some (am_r (am_a 36)), some (am_r (X1)), some (am_i x2), some (am_r (v4)), some (am_i 1), none, none, none, none] [] (zS L, (am_up h3 36 5 (am_w (h3 36 5 + 2))))) := (q_4_27_0 d L h X1 x2)
set_option maxRecDepth 20000 in
theorem q_4_27_3 (d L : Nat) (h : am_H) (X1 : am_R) (u2 : Option am_V) (X3 : am_R) (x4 : Int) (u5 : Option am_V) (u6 : Option am_V) (u7 : Option am_V) (u8 : Option am_V) :
    am_E (am_D d) m_4_27 (.inl 3) [some (am_r (am_a 36)), some (am_r (X1)), u2, some (am_r (X3)), some (am_i x4), u5, u6, u7, u8] [] (zS L, h) =
    if (x4 : Int) = 0 then some (.inl none, (zS L, h)) else am_xI (zS L) (am_D d 4 3 [am_r (am_a 36)] (zS L, h)) (am_up1 (zS L)) fun v2 h1 => am_obj (zS L, h1) (X3) 3 fun _ _ => am_xI (zS L) (am_D d 3 2 [am_r (X3), am_i v2] (zS L, h1)) (am_up1 (zS L)) fun v4 h3 => am_obj (zS L, (am_up h3 36 5 (am_w (h3 36 5 + 1)))) (X3) 3 fun a5 r6 => if (v4 : Int) < (am_up h3 36 5 (am_w (h3 36 5 + 1))) a5 3 then am_E (am_D d) m_4_27 (.inl 5) [some (am_r (am_a 36)), some (am_r (X1)), u2, some (am_r (X3)), some (am_i x4), some (am_i v4), u6, u7, u8] [am_i 0] (zS L, (am_up h3 36 5 (am_w (h3 36 5 + 1)))) else am_E (am_D d) m_4_27 (.inl 5) [some (am_r (am_a 36)), some (am_r (X1)), u2, some (am_r (X3)), some (am_i x4), some (am_i v4), u6, u7, u8] [am_i 1] (zS L, (am_up h3 36 5 (am_w (h3 36 5 + 1)))) := (am_cut _ _ 27 3 _ _ _).trans rfl
set_option maxRecDepth 20000 in
theorem q_4_27_5 (d L : Nat) (h : am_H) (X1 : am_R) (u2 : Option am_V) (X3 : am_R) (u4 : Option am_V) (x5 : Int) (u6 : Option am_V) (u7 : Option am_V) (u8 : Option am_V) (s0 : Int) :
    am_E (am_D d) m_4_27 (.inl 5) [some (am_r (am_a 36)), some (am_r (X1)), u2, some (am_r (X3)), u4, some (am_i x5), u6, u7, u8] [am_i s0] (zS L, h) =
    if (s0 : Int) = 0 then if (s0 : Int) = 0 then am_xV (zS L) (am_D d 4 26 [am_r (am_a 36)] (zS L, h)) (am_up1 (zS L)) fun h1 => am_E (am_D d) m_4_27 (.inl 9) [some (am_r (am_a 36)), some (am_r (X1)), u2, some (am_r (X3)), u4, some (am_i x5), some (am_i s0), some (am_i 1), u8] [] (zS L, h1) else am_E (am_D d) m_4_27 (.inl 9) [some (am_r (am_a 36)), some (am_r (X1)), u2, some (am_r (X3)), u4, some (am_i x5), some (am_i s0), some (am_i 1), u8] [] (zS L, h) else am_obj (zS L, h) (X3) 3 fun a2 r3 => am_arr (zS L, h) (r3.getD 7 am_n) 1 fun a5 n6 _ => am_idx x5 n6 fun k4 => am_xI (zS L) (am_D d 4 25 [am_r (am_a 36), am_i (h a5 k4)] (zS L, h)) (am_up1 (zS L)) fun v8 h7 => if (v8 : Int) = 0 then if (s0 : Int) = 0 then am_xV (zS L) (am_D d 4 26 [am_r (am_a 36)] (zS L, h7)) (am_up1 (zS L)) fun h9 => am_E (am_D d) m_4_27 (.inl 9) [some (am_r (am_a 36)), some (am_r (X1)), u2, some (am_r (X3)), u4, some (am_i x5), some (am_i s0), some (am_i 0), u8] [] (zS L, h9) else am_E (am_D d) m_4_27 (.inl 9) [some (am_r (am_a 36)), some (am_r (X1)), u2, some (am_r (X3)), u4, some (am_i x5), some (am_i s0), some (am_i 0), u8] [] (zS L, h7) else if (s0 : Int) = 0 then am_xV (zS L) (am_D d 4 26 [am_r (am_a 36)] (zS L, h7)) (am_up1 (zS L)) fun h10 => am_E (am_D d) m_4_27 (.inl 9) [some (am_r (am_a 36)), some (am_r (X1)), u2, some (am_r (X3)), u4, some (am_i x5), some (am_i s0), some (am_i 1), u8] [] (zS L, h10) else am_E (am_D d) m_4_27 (.inl 9) [some (am_r (am_a 36)), some (am_r (X1)), u2, some (am_r (X3)), u4, some (am_i x5), some (am_i s0), some (am_i 1), u8] [] (zS L, h7) := (am_cut _ _ 40 5 _ _ _).trans rfl
set_option maxRecDepth 20000 in
theorem q_4_27_9 (d L : Nat) (h : am_H) (X1 : am_R) (u2 : Option am_V) (X3 : am_R) (u4 : Option am_V) (u5 : Option am_V) (x6 : Int) (x7 : Int) (u8 : Option am_V) :
    am_E (am_D d) m_4_27 (.inl 9) [some (am_r (am_a 36)), some (am_r (X1)), u2, some (am_r (X3)), u4, u5, some (am_i x6), some (am_i x7), u8] [] (zS L, h) =
    am_xI (zS L) (am_D d 4 2 [am_r (am_a 36)] (zS L, (am_up h 36 5 (am_w (h 36 5 + 1))))) (am_up1 (zS L)) fun v2 h1 => if (v2 : Int) = 2 then am_xI (zS L) (am_D d 4 3 [am_r (am_a 36)] (zS L, h1)) (am_up1 (zS L)) fun v4 h3 => am_obj (zS L, h3) (X1) 3 fun _ _ => am_xI (zS L) (am_D d 3 3 [am_r (X1), am_i v4] (zS L, h3)) (am_up1 (zS L)) fun v6 h5 => am_E (am_D d) m_4_27 (.inl 11) [some (am_r (am_a 36)), some (am_r (X1)), u2, some (am_r (X3)), u4, u5, some (am_i x6), some (am_i x7), u8] [am_i v6] (zS L, h5) else am_E (am_D d) m_4_27 (.inl 11) [some (am_r (am_a 36)), some (am_r (X1)), u2, some (am_r (X3)), u4, u5, some (am_i x6), some (am_i x7), u8] [am_i (-1)] (zS L, h1) := (am_cut _ _ 22 9 _ _ _).trans rfl
set_option maxRecDepth 20000 in
theorem q_4_27_11 (d L : Nat) (h : am_H) (X1 : am_R) (u2 : Option am_V) (X3 : am_R) (u4 : Option am_V) (u5 : Option am_V) (x6 : Int) (x7 : Int) (u8 : Option am_V) (s0 : Int) :
    am_E (am_D d) m_4_27 (.inl 11) [some (am_r (am_a 36)), some (am_r (X1)), u2, some (am_r (X3)), u4, u5, some (am_i x6), some (am_i x7), u8] [am_i s0] (zS L, h) =
    if (x6 : Int) = 0 then am_E (am_D d) m_4_27 (.inl 14) [some (am_r (am_a 36)), some (am_r (X1)), u2, some (am_r (X3)), u4, u5, some (am_i x6), some (am_i x7), some (am_i s0)] [] (zS L, h) else if (s0 : Int) = (-1) then am_E (am_D d) m_4_27 (.inl 14) [some (am_r (am_a 36)), some (am_r (X1)), u2, some (am_r (X3)), u4, u5, some (am_i x6), some (am_i x7), some (am_i s0)] [] (zS L, h) else am_obj (zS L, h) (X1) 3 fun a1 r2 => am_arr (zS L, h) (r2.getD 11 am_n) 4 fun a4 n5 _ => am_idx s0 n5 fun k3 => if (h a4 k3 : Int) = 0 then am_obj (zS L, h) (X1) 3 fun a6 r7 => am_bit 1 (am_arr (zS L, h) (r7.getD 11 am_n) 4 fun a9 n10 _ => am_idx s0 n10 fun k8 => cond (Nat.beq a9 0) none (am_obj (zS L, (am_up h a9 k8 (1))) (X1) 3 fun a11 r12 => if (x7 : Int) = 0 then am_arr (zS L, (am_up h a9 k8 (1))) (r12.getD 10 am_n) 1 fun a14 n15 _ => am_idx s0 n15 fun k13 => cond (Nat.beq a14 0) none (am_E (am_D d) m_4_27 (.inl 14) [some (am_r (am_a 36)), some (am_r (X1)), u2, some (am_r (X3)), u4, u5, some (am_i x6), some (am_i x7), some (am_i s0)] [] (zS L, (am_up (am_up h a9 k8 (1)) a14 k13 ((-1))))) else am_arr (zS L, (am_up h a9 k8 (1))) (r12.getD 10 am_n) 1 fun a17 n18 _ => am_idx s0 n18 fun k16 => cond (Nat.beq a17 0) none (am_E (am_D d) m_4_27 (.inl 14) [some (am_r (am_a 36)), some (am_r (X1)), u2, some (am_r (X3)), u4, u5, some (am_i x6), some (am_i x7), some (am_i s0)] [] (zS L, (am_up (am_up h a9 k8 (1)) a17 k16 (am_w ((am_w (((am_up h a9 k8 (1)) 36 10) - ((am_up h a9 k8 (1)) 36 9))) + 1))))))) else am_E (am_D d) m_4_27 (.inl 14) [some (am_r (am_a 36)), some (am_r (X1)), u2, some (am_r (X3)), u4, u5, some (am_i x6), some (am_i x7), some (am_i s0)] [] (zS L, h) := (am_cut _ _ 40 11 _ _ _).trans rfl
set_option maxRecDepth 20000 in
theorem q_4_27_14 (d L : Nat) (h : am_H) (X1 : am_R) (u2 : Option am_V) (X3 : am_R) (u4 : Option am_V) (u5 : Option am_V) (u6 : Option am_V) (u7 : Option am_V) (u8 : Option am_V) :
    am_E (am_D d) m_4_27 (.inl 14) [some (am_r (am_a 36)), some (am_r (X1)), u2, some (am_r (X3)), u4, u5, u6, u7, u8] [] (zS L, h) =
    am_xV (zS L) (am_D d 4 26 [am_r (am_a 36)] (zS L, (am_up h 36 5 (am_w (h 36 5 + 1))))) (am_up1 (zS L)) fun h1 => am_xI (zS L) (am_D d 4 8 [am_r (am_a 36), am_i 44] (zS L, h1)) (am_up1 (zS L)) fun v3 h2 => am_E (am_D d) m_4_27 (.inl 3) [some (am_r (am_a 36)), some (am_r (X1)), u2, some (am_r (X3)), some (am_i v3), u5, u6, u7, u8] [] (zS L, (am_up h2 36 5 (am_w (h2 36 5 + 1)))) := (am_cut _ _ 24 14 _ _ _).trans rfl
