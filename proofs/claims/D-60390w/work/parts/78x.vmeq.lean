/-! VM, 2: equations of the system's subs, printed by gen/vsys.py -/
section
variable (ky : List Int) (d : Nat) (G : vG)
set_option maxRecDepth 4000 in
/-- Memory._init -/
theorem w_0 : vD ky (d + 1) 0 [] G =
    some (.inl 0, ((p_set (p_set G.1 16 16520) 17 16640), G.2)) := (v_cut ky (vD ky d) 8 c_0 [] 200 c_0 ([], [], none, none, [], G)).trans rfl
set_option maxRecDepth 4000 in
/-- Memory.peek -/
theorem w_1 (x0 : Int) : vD ky (d + 1) 1 [x0] G =
    v_cl (vD ky d 5 [x0] G) fun v1 G2 => some (.inl v1, G2) := (v_cut ky (vD ky d) 8 c_1 [] 200 c_1 ([x0], [], none, none, [], G)).trans rfl
set_option maxRecDepth 4000 in
/-- Memory.poke -/
theorem w_2 (x0 x1 : Int) : vD ky (d + 1) 2 [x0, x1] G =
    v_cl (vD ky d 6 [x0, x1] G) fun v1 G2 => some (.inl 0, G2) := (v_cut ky (vD ky d) 8 c_2 [] 200 c_2 ([x0, x1], [], none, none, [], G)).trans rfl
set_option maxRecDepth 4000 in
/-- Memory.alloc -/
theorem w_3 (x0 : Int) : vD ky (d + 1) 3 [x0] G =
    v_if (if (x0 : Int) < 1 then -1 else 0) (v_cl (vD ky d 47 [5] G) fun v1 G2 => vE ky (vD ky d) 8 c_3 (vlab c_3 1) ([x0], [0, 0, 0, G.1 16, G.1 17], none, (some v1), [], G2)) (vE ky (vD ky d) 8 c_3 (vlab c_3 1) ([x0], [0, 0, 0, G.1 16, G.1 17], none, none, [], G)) := (v_cut ky (vD ky d) 8 c_3 [1, 4, 11] 200 c_3 ([x0], [0, 0, 0, 0, 0], none, none, [], G)).trans rfl
set_option maxRecDepth 4000 in
theorem w_3_1 (x0 : Int) (y0 y1 y2 y3 y4 : Int) (th : Option Int) (tm : Option Int) : vE ky (vD ky d) 8 c_3 (vlab c_3 1) ([x0], [y0, y1, y2, y3, y4], th, tm, [], G) =
    v_if (if ((G.1 18) : Int) = 100 then -1 else 0) (v_cl (vD ky d 47 [6] G) fun v1 G2 => vE ky (vD ky d) 8 c_3 (vlab c_3 4) ([x0], [2048, y1, y2, y3, y4], th, (some v1), [], G2)) (vE ky (vD ky d) 8 c_3 (vlab c_3 4) ([x0], [2048, y1, y2, y3, y4], th, tm, [], G)) := (v_cut ky (vD ky d) 8 c_3 [1, 4, 11] 200 (vlab c_3 1) ([x0], [y0, y1, y2, y3, y4], th, tm, [], G)).trans rfl
set_option maxRecDepth 4000 in
theorem w_3_4 (x0 : Int) (y0 y1 y2 y3 y4 : Int) (th : Option Int) (tm : Option Int) : vE ky (vD ky d) 8 c_3 (vlab c_3 4) ([x0], [y0, y1, y2, y3, y4], th, tm, [], G) =
    v_rd ky (am_s16 (y3 + y1)) G fun v1 G2 => v_if (am_and (if (y1 : Int) < (G.1 18) then -1 else 0) (if ((am_s16 (v1 - y0)) : Int) < x0 then -1 else 0)) (v_rd ky (am_s16 (y3 + y1)) G2 fun v3 G4 => v_rd ky (am_s16 (y4 + y1)) G4 fun v5 G6 => vE ky (vD ky d) 8 c_3 (vlab c_3 4) ([x0], [am_s16 (v3 + v5), am_s16 (y1 + 1), y2, y3, y4], th, tm, [], G6)) (v_if (if (y1 : Int) = (G2.1 18) then -1 else 0) (v_if (if ((am_s16 (14336 - y0)) : Int) < x0 then -1 else 0) (v_cl (vD ky d 47 [6] G2) fun v7 G8 => vE ky (vD ky d) 8 c_3 (vlab c_3 11) ([x0], [y0, y1, G8.1 18, y3, y4], th, (some v7), [], G8)) (vE ky (vD ky d) 8 c_3 (vlab c_3 11) ([x0], [y0, y1, G2.1 18, y3, y4], th, tm, [], G2))) (vE ky (vD ky d) 8 c_3 (vlab c_3 11) ([x0], [y0, y1, G2.1 18, y3, y4], th, tm, [], G2))) := (v_cut ky (vD ky d) 8 c_3 [1, 4, 11] 200 (vlab c_3 4) ([x0], [y0, y1, y2, y3, y4], th, tm, [], G)).trans rfl
set_option maxRecDepth 4000 in
theorem w_3_11 (x0 : Int) (y0 y1 y2 y3 y4 : Int) (th : Option Int) (tm : Option Int) : vE ky (vD ky d) 8 c_3 (vlab c_3 11) ([x0], [y0, y1, y2, y3, y4], th, tm, [], G) =
    v_if (if (y1 : Int) < y2 then -1 else 0) (v_rd ky (am_s16 (y3 + (am_s16 (y2 - 1)))) G fun v1 G2 => v_wr (am_s16 (y3 + y2)) v1 G2 fun G3 => v_rd ky (am_s16 (y4 + (am_s16 (y2 - 1)))) G3 fun v4 G5 => v_wr (am_s16 (y4 + y2)) v4 G5 fun G6 => vE ky (vD ky d) 8 c_3 (vlab c_3 11) ([x0], [y0, y1, am_s16 (y2 - 1), y3, y4], th, (some v4), [], G6)) (v_wr (am_s16 (y3 + y1)) y0 G fun G7 => v_wr (am_s16 (y4 + y1)) x0 G7 fun G8 => some (.inl y0, ((p_set G8.1 18 (am_s16 ((G8.1 18) + 1))), G8.2))) := (v_cut ky (vD ky d) 8 c_3 [1, 4, 11] 200 (vlab c_3 11) ([x0], [y0, y1, y2, y3, y4], th, tm, [], G)).trans rfl
set_option maxRecDepth 4000 in
/-- Memory.deAlloc -/
theorem w_4 (x0 : Int) : vD ky (d + 1) 4 [x0] G =
    vE ky (vD ky d) 8 c_4 (vlab c_4 14) ([x0], [0, G.1 16, G.1 17], none, none, [], G) := (v_cut ky (vD ky d) 8 c_4 [14, 18, 19] 200 c_4 ([x0], [0, 0, 0], none, none, [], G)).trans rfl
set_option maxRecDepth 4000 in
theorem w_4_14 (x0 : Int) (y0 y1 y2 : Int) (th : Option Int) (tm : Option Int) : vE ky (vD ky d) 8 c_4 (vlab c_4 14) ([x0], [y0, y1, y2], th, tm, [], G) =
    v_rd ky (am_s16 (y1 + y0)) G fun v1 G2 => v_if (am_and (if (y0 : Int) < (G.1 18) then -1 else 0) (-(if (v1 : Int) = x0 then -1 else 0) - 1)) (vE ky (vD ky d) 8 c_4 (vlab c_4 14) ([x0], [am_s16 (y0 + 1), y1, y2], th, tm, [], G2)) (v_if (if (y0 : Int) = (G2.1 18) then -1 else 0) (v_cl (vD ky d 47 [21] G2) fun v3 G4 => vE ky (vD ky d) 8 c_4 (vlab c_4 18) ([x0], [y0, y1, y2], th, (some v3), [], G4)) (vE ky (vD ky d) 8 c_4 (vlab c_4 18) ([x0], [y0, y1, y2], th, tm, [], G2))) := (v_cut ky (vD ky d) 8 c_4 [14, 18, 19] 200 (vlab c_4 14) ([x0], [y0, y1, y2], th, tm, [], G)).trans rfl
set_option maxRecDepth 4000 in
theorem w_4_18 (x0 : Int) (y0 y1 y2 : Int) (th : Option Int) (tm : Option Int) : vE ky (vD ky d) 8 c_4 (vlab c_4 18) ([x0], [y0, y1, y2], th, tm, [], G) =
    vE ky (vD ky d) 8 c_4 (vlab c_4 19) ([x0], [y0, y1, y2], th, tm, [], ((p_set G.1 18 (am_s16 ((G.1 18) - 1))), G.2)) := (v_cut ky (vD ky d) 8 c_4 [14, 18, 19] 200 (vlab c_4 18) ([x0], [y0, y1, y2], th, tm, [], G)).trans rfl
set_option maxRecDepth 4000 in
theorem w_4_19 (x0 : Int) (y0 y1 y2 : Int) (th : Option Int) (tm : Option Int) : vE ky (vD ky d) 8 c_4 (vlab c_4 19) ([x0], [y0, y1, y2], th, tm, [], G) =
    v_if (if (y0 : Int) < (G.1 18) then -1 else 0) (v_rd ky (am_s16 (y1 + (am_s16 (y0 + 1)))) G fun v1 G2 => v_wr (am_s16 (y1 + y0)) v1 G2 fun G3 => v_rd ky (am_s16 (y2 + (am_s16 (y0 + 1)))) G3 fun v4 G5 => v_wr (am_s16 (y2 + y0)) v4 G5 fun G6 => vE ky (vD ky d) 8 c_4 (vlab c_4 19) ([x0], [am_s16 (y0 + 1), y1, y2], th, (some v4), [], G6)) (some (.inl 0, G)) := (v_cut ky (vD ky d) 8 c_4 [14, 18, 19] 200 (vlab c_4 19) ([x0], [y0, y1, y2], th, tm, [], G)).trans rfl
set_option maxRecDepth 4000 in
/-- _Words._get -/
theorem w_5 (x0 : Int) : vD ky (d + 1) 5 [x0] G =
    v_rc (am_s16 (x0 + 0)) G fun v1 G2 => some (.inl v1, G2) := (v_cut ky (vD ky d) 8 c_5 [] 200 c_5 ([x0], [], none, none, [], G)).trans rfl
set_option maxRecDepth 4000 in
/-- _Words._set -/
theorem w_6 (x0 x1 : Int) : vD ky (d + 1) 6 [x0, x1] G =
    v_wc (am_s16 (x0 + 0)) x1 G fun G1 => some (.inl 0, G1) := (v_cut ky (vD ky d) 8 c_6 [] 200 c_6 ([x0, x1], [], none, none, [], G)).trans rfl
set_option maxRecDepth 4000 in
/-- Math.abs -/
theorem w_7 (x0 : Int) : vD ky (d + 1) 7 [x0] G =
    v_if (if (x0 : Int) < 0 then -1 else 0) (some (.inl (am_s16 (-x0)), G)) (some (.inl x0, G)) := (v_cut ky (vD ky d) 8 c_7 [] 200 c_7 ([x0], [], none, none, [], G)).trans rfl
set_option maxRecDepth 4000 in
/-- Math.min -/
theorem w_8 (x0 x1 : Int) : vD ky (d + 1) 8 [x0, x1] G =
    v_if (if (x0 : Int) < x1 then -1 else 0) (some (.inl x0, G)) (some (.inl x1, G)) := (v_cut ky (vD ky d) 8 c_8 [] 200 c_8 ([x0, x1], [], none, none, [], G)).trans rfl
set_option maxRecDepth 4000 in
/-- Math.max -/
theorem w_9 (x0 x1 : Int) : vD ky (d + 1) 9 [x0, x1] G =
    v_if (if (x1 : Int) < x0 then -1 else 0) (some (.inl x0, G)) (some (.inl x1, G)) := (v_cut ky (vD ky d) 8 c_9 [] 200 c_9 ([x0, x1], [], none, none, [], G)).trans rfl
set_option maxRecDepth 4000 in
/-- Math.multiply -/
theorem w_10 (x0 x1 : Int) : vD ky (d + 1) 10 [x0, x1] G =
    vE ky (vD ky d) 8 c_10 (vlab c_10 28) ([x0, x1], [0, 1, 0], none, none, [], G) := (v_cut ky (vD ky d) 8 c_10 [28, 32] 200 c_10 ([x0, x1], [0, 0, 0], none, none, [], G)).trans rfl
set_option maxRecDepth 4000 in
theorem w_10_28 (x0 x1 : Int) (y0 y1 y2 : Int) (th : Option Int) (tm : Option Int) : vE ky (vD ky d) 8 c_10 (vlab c_10 28) ([x0, x1], [y0, y1, y2], th, tm, [], G) =
    v_if (if (y2 : Int) < 16 then -1 else 0) (v_if (am_and x1 y1) (vE ky (vD ky d) 8 c_10 (vlab c_10 32) ([x0, x1], [am_s16 (y0 + x0), y1, y2], th, tm, [], G)) (vE ky (vD ky d) 8 c_10 (vlab c_10 32) ([x0, x1], [y0, y1, y2], th, tm, [], G))) (some (.inl y0, G)) := (v_cut ky (vD ky d) 8 c_10 [28, 32] 200 (vlab c_10 28) ([x0, x1], [y0, y1, y2], th, tm, [], G)).trans rfl
set_option maxRecDepth 4000 in
theorem w_10_32 (x0 x1 : Int) (y0 y1 y2 : Int) (th : Option Int) (tm : Option Int) : vE ky (vD ky d) 8 c_10 (vlab c_10 32) ([x0, x1], [y0, y1, y2], th, tm, [], G) =
    vE ky (vD ky d) 8 c_10 (vlab c_10 28) ([am_s16 (x0 + x0), x1], [y0, am_s16 (y1 + y1), am_s16 (y2 + 1)], th, tm, [], G) := (v_cut ky (vD ky d) 8 c_10 [28, 32] 200 (vlab c_10 32) ([x0, x1], [y0, y1, y2], th, tm, [], G)).trans rfl
set_option maxRecDepth 4000 in
/-- Math.divide -/
theorem w_11 (x0 x1 : Int) : vD ky (d + 1) 11 [x0, x1] G =
    v_if (if (x1 : Int) = 0 then -1 else 0) (v_cl (vD ky d 47 [3] G) fun v1 G2 => vE ky (vD ky d) 8 c_11 (vlab c_11 34) ([x0, x1], [0, 0, 0, 0, 0], none, (some v1), [], G2)) (vE ky (vD ky d) 8 c_11 (vlab c_11 34) ([x0, x1], [0, 0, 0, 0, 0], none, none, [], G)) := (v_cut ky (vD ky d) 8 c_11 [34, 40, 43, 47, 49] 200 c_11 ([x0, x1], [0, 0, 0, 0, 0], none, none, [], G)).trans rfl
set_option maxRecDepth 4000 in
theorem w_11_34 (x0 x1 : Int) (y0 y1 y2 y3 y4 : Int) (th : Option Int) (tm : Option Int) : vE ky (vD ky d) 8 c_11 (vlab c_11 34) ([x0, x1], [y0, y1, y2, y3, y4], th, tm, [], G) =
    v_if (if (x1 : Int) = (am_s16 ((am_s16 (-32767)) - 1)) then -1 else 0) (v_if (if (x0 : Int) = x1 then -1 else 0) (some (.inl 1, G)) (some (.inl 0, G))) (v_if (if (x0 : Int) < 0 then -1 else 0) (vE ky (vD ky d) 8 c_11 (vlab c_11 40) ([am_s16 (-x0), x1], [y0, y1, y2, am_s16 ((am_s16 (-32767)) - 1), -(if ((if (x0 : Int) < 0 then -1 else 0) : Int) = (if (x1 : Int) < 0 then -1 else 0) then -1 else 0) - 1], th, tm, [], G)) (vE ky (vD ky d) 8 c_11 (vlab c_11 40) ([x0, x1], [y0, y1, y2, am_s16 ((am_s16 (-32767)) - 1), -(if ((if (x0 : Int) < 0 then -1 else 0) : Int) = (if (x1 : Int) < 0 then -1 else 0) then -1 else 0) - 1], th, tm, [], G))) := (v_cut ky (vD ky d) 8 c_11 [34, 40, 43, 47, 49] 200 (vlab c_11 34) ([x0, x1], [y0, y1, y2, y3, y4], th, tm, [], G)).trans rfl
set_option maxRecDepth 4000 in
theorem w_11_40 (x0 x1 : Int) (y0 y1 y2 y3 y4 : Int) (th : Option Int) (tm : Option Int) : vE ky (vD ky d) 8 c_11 (vlab c_11 40) ([x0, x1], [y0, y1, y2, y3, y4], th, tm, [], G) =
    v_if (if (x1 : Int) < 0 then -1 else 0) (vE ky (vD ky d) 8 c_11 (vlab c_11 43) ([x0, am_s16 (-x1)], [y0, y1, y2, y3, y4], th, tm, [], G)) (vE ky (vD ky d) 8 c_11 (vlab c_11 43) ([x0, x1], [y0, y1, y2, y3, y4], th, tm, [], G)) := (v_cut ky (vD ky d) 8 c_11 [34, 40, 43, 47, 49] 200 (vlab c_11 40) ([x0, x1], [y0, y1, y2, y3, y4], th, tm, [], G)).trans rfl
set_option maxRecDepth 4000 in
theorem w_11_43 (x0 x1 : Int) (y0 y1 y2 y3 y4 : Int) (th : Option Int) (tm : Option Int) : vE ky (vD ky d) 8 c_11 (vlab c_11 43) ([x0, x1], [y0, y1, y2, y3, y4], th, tm, [], G) =
    v_if (if (y2 : Int) < 16 then -1 else 0) (v_if (if (x0 : Int) < 0 then -1 else 0) (vE ky (vD ky d) 8 c_11 (vlab c_11 47) ([x0, x1], [y0, am_s16 ((am_s16 (y1 + y1)) + 1), y2, y3, y4], th, tm, [], G)) (vE ky (vD ky d) 8 c_11 (vlab c_11 47) ([x0, x1], [y0, am_s16 (y1 + y1), y2, y3, y4], th, tm, [], G))) (v_if y4 (some (.inl (am_s16 (-y0)), G)) (some (.inl y0, G))) := (v_cut ky (vD ky d) 8 c_11 [34, 40, 43, 47, 49] 200 (vlab c_11 43) ([x0, x1], [y0, y1, y2, y3, y4], th, tm, [], G)).trans rfl
set_option maxRecDepth 4000 in
theorem w_11_47 (x0 x1 : Int) (y0 y1 y2 y3 y4 : Int) (th : Option Int) (tm : Option Int) : vE ky (vD ky d) 8 c_11 (vlab c_11 47) ([x0, x1], [y0, y1, y2, y3, y4], th, tm, [], G) =
    v_if (am_or (if (y1 : Int) < 0 then -1 else 0) (-(if (y1 : Int) < x1 then -1 else 0) - 1)) (vE ky (vD ky d) 8 c_11 (vlab c_11 49) ([am_s16 (x0 + x0), x1], [am_s16 ((am_s16 (y0 + y0)) + 1), am_s16 (y1 - x1), y2, y3, y4], th, tm, [], G)) (vE ky (vD ky d) 8 c_11 (vlab c_11 49) ([am_s16 (x0 + x0), x1], [am_s16 (y0 + y0), y1, y2, y3, y4], th, tm, [], G)) := (v_cut ky (vD ky d) 8 c_11 [34, 40, 43, 47, 49] 200 (vlab c_11 47) ([x0, x1], [y0, y1, y2, y3, y4], th, tm, [], G)).trans rfl
set_option maxRecDepth 4000 in
theorem w_11_49 (x0 x1 : Int) (y0 y1 y2 y3 y4 : Int) (th : Option Int) (tm : Option Int) : vE ky (vD ky d) 8 c_11 (vlab c_11 49) ([x0, x1], [y0, y1, y2, y3, y4], th, tm, [], G) =
    vE ky (vD ky d) 8 c_11 (vlab c_11 43) ([x0, x1], [y0, y1, am_s16 (y2 + 1), y3, y4], th, tm, [], G) := (v_cut ky (vD ky d) 8 c_11 [34, 40, 43, 47, 49] 200 (vlab c_11 49) ([x0, x1], [y0, y1, y2, y3, y4], th, tm, [], G)).trans rfl
set_option maxRecDepth 4000 in
/-- Math.sqrt -/
theorem w_12 (x0 : Int) : vD ky (d + 1) 12 [x0] G =
    v_if (if (x0 : Int) < 0 then -1 else 0) (v_cl (vD ky d 47 [4] G) fun v1 G2 => vE ky (vD ky d) 8 c_12 (vlab c_12 54) ([x0], [0, 0, 128, 0], none, (some v1), [], G2)) (vE ky (vD ky d) 8 c_12 (vlab c_12 54) ([x0], [0, 0, 128, 0], none, none, [], G)) := (v_cut ky (vD ky d) 8 c_12 [54, 58] 200 c_12 ([x0], [0, 0, 0, 0], none, none, [], G)).trans rfl
set_option maxRecDepth 4000 in
theorem w_12_54 (x0 : Int) (y0 y1 y2 y3 : Int) (th : Option Int) (tm : Option Int) : vE ky (vD ky d) 8 c_12 (vlab c_12 54) ([x0], [y0, y1, y2, y3], th, tm, [], G) =
    v_if (if (0 : Int) < y2 then -1 else 0) (v_cl (vD ky d 10 [am_s16 (y0 + y2), am_s16 (y0 + y2)] G) fun v1 G2 => v_if (am_and (if ((am_s16 (y0 + y2)) : Int) < 182 then -1 else 0) (-(if (x0 : Int) < v1 then -1 else 0) - 1)) (vE ky (vD ky d) 8 c_12 (vlab c_12 58) ([x0], [am_s16 (y0 + y2), am_s16 (y0 + y2), y2, v1], th, none, [], G2)) (vE ky (vD ky d) 8 c_12 (vlab c_12 58) ([x0], [y0, am_s16 (y0 + y2), y2, v1], th, none, [], G2))) (some (.inl y0, G)) := (v_cut ky (vD ky d) 8 c_12 [54, 58] 200 (vlab c_12 54) ([x0], [y0, y1, y2, y3], th, tm, [], G)).trans rfl
set_option maxRecDepth 4000 in
theorem w_12_58 (x0 : Int) (y0 y1 y2 y3 : Int) (th : Option Int) (tm : Option Int) : vE ky (vD ky d) 8 c_12 (vlab c_12 58) ([x0], [y0, y1, y2, y3], th, tm, [], G) =
    v_cl (vD ky d 11 [y2, 2] G) fun v1 G2 => vE ky (vD ky d) 8 c_12 (vlab c_12 54) ([x0], [y0, y1, v1, y3], th, none, [], G2) := (v_cut ky (vD ky d) 8 c_12 [54, 58] 200 (vlab c_12 58) ([x0], [y0, y1, y2, y3], th, tm, [], G)).trans rfl
set_option maxRecDepth 4000 in
/-- Array.new -/
theorem w_13 (x0 : Int) : vD ky (d + 1) 13 [x0] G =
    v_if (if (x0 : Int) < 1 then -1 else 0) (v_cl (vD ky d 47 [2] G) fun v1 G2 => v_cl (vD ky d 3 [x0] G2) fun v3 G4 => some (.inl v3, G4)) (v_cl (vD ky d 3 [x0] G) fun v5 G6 => some (.inl v5, G6)) := (v_cut ky (vD ky d) 8 c_13 [] 200 c_13 ([x0], [], none, none, [], G)).trans rfl
set_option maxRecDepth 4000 in
/-- Array.dispose -/
theorem w_14 (x0 : Int) : vD ky (d + 1) 14 [x0] G =
    v_cl (vD ky d 4 [x0] G) fun v1 G2 => some (.inl 0, G2) := (v_cut ky (vD ky d) 8 c_14 [] 200 c_14 ([x0], [], none, none, [], G)).trans rfl
set_option maxRecDepth 4000 in
/-- String.new -/
theorem w_15 (x0 : Int) : vD ky (d + 1) 15 [x0] G =
    v_if (if (x0 : Int) < 0 then -1 else 0) (v_cl (vD ky d 47 [14] G) fun v1 G2 => vE ky (vD ky d) 8 c_15 (vlab c_15 62) ([x0], [0], none, (some v1), [], G2)) (vE ky (vD ky d) 8 c_15 (vlab c_15 62) ([x0], [0], none, none, [], G)) := (v_cut ky (vD ky d) 8 c_15 [62] 200 c_15 ([x0], [0], none, none, [], G)).trans rfl
set_option maxRecDepth 4000 in
theorem w_15_62 (x0 : Int) (y0 : Int) (th : Option Int) (tm : Option Int) : vE ky (vD ky d) 8 c_15 (vlab c_15 62) ([x0], [y0], th, tm, [], G) =
    v_cl (vD ky d 3 [am_s16 (x0 + 2)] G) fun v1 G2 => v_wc (am_s16 (v1 + 0)) x0 G2 fun G3 => v_wc (am_s16 (v1 + 1)) 0 G3 fun G4 => some (.inl v1, G4) := (v_cut ky (vD ky d) 8 c_15 [62] 200 (vlab c_15 62) ([x0], [y0], th, tm, [], G)).trans rfl
set_option maxRecDepth 4000 in
/-- String.dispose -/
theorem w_16 (x0 : Int) : vD ky (d + 1) 16 [x0] G =
    v_cl (vD ky d 4 [x0] G) fun v1 G2 => some (.inl 0, G2) := (v_cut ky (vD ky d) 8 c_16 [] 200 c_16 ([x0], [], none, none, [], G)).trans rfl
set_option maxRecDepth 4000 in
/-- String.length -/
theorem w_17 (x0 : Int) : vD ky (d + 1) 17 [x0] G =
    v_rc (am_s16 (x0 + 1)) G fun v1 G2 => some (.inl v1, G2) := (v_cut ky (vD ky d) 8 c_17 [] 200 c_17 ([x0], [0], none, none, [], G)).trans rfl
set_option maxRecDepth 4000 in
/-- String.charAt -/
theorem w_18 (x0 x1 : Int) : vD ky (d + 1) 18 [x0, x1] G =
    v_if (if (x1 : Int) < 0 then -1 else 0) (v_cl (vD ky d 47 [15] G) fun v1 G2 => vE ky (vD ky d) 8 c_18 (vlab c_18 64) ([x0, x1], [x0], (some x0), (some v1), [], G2)) (vE ky (vD ky d) 8 c_18 (vlab c_18 64) ([x0, x1], [x0], (some x0), none, [], G)) := (v_cut ky (vD ky d) 8 c_18 [64, 66] 200 c_18 ([x0, x1], [0], none, none, [], G)).trans rfl
set_option maxRecDepth 4000 in
theorem w_18_64 (x0 x1 : Int) (y0 : Int) (o : Int) (tm : Option Int) : vE ky (vD ky d) 8 c_18 (vlab c_18 64) ([x0, x1], [y0], (some o), tm, [], G) =
    v_rc (am_s16 (y0 + 1)) G fun v1 G2 => v_if (-(if (x1 : Int) < v1 then -1 else 0) - 1) (v_cl (vD ky d 47 [15] G2) fun v3 G4 => vE ky (vD ky d) 8 c_18 (vlab c_18 66) ([x0, x1], [y0], (some o), (some v3), [], G4)) (vE ky (vD ky d) 8 c_18 (vlab c_18 66) ([x0, x1], [y0], (some o), tm, [], G2)) := (v_cut ky (vD ky d) 8 c_18 [64, 66] 200 (vlab c_18 64) ([x0, x1], [y0], (some o), tm, [], G)).trans rfl
set_option maxRecDepth 4000 in
theorem w_18_66 (x0 x1 : Int) (y0 : Int) (o : Int) (tm : Option Int) : vE ky (vD ky d) 8 c_18 (vlab c_18 66) ([x0, x1], [y0], (some o), tm, [], G) =
    v_rc (am_s16 (y0 + (am_s16 (2 + x1)))) G fun v1 G2 => some (.inl v1, G2) := (v_cut ky (vD ky d) 8 c_18 [64, 66] 200 (vlab c_18 66) ([x0, x1], [y0], (some o), tm, [], G)).trans rfl
set_option maxRecDepth 4000 in
/-- String.setCharAt -/
theorem w_19 (x0 x1 x2 : Int) : vD ky (d + 1) 19 [x0, x1, x2] G =
    v_if (if (x1 : Int) < 0 then -1 else 0) (v_cl (vD ky d 47 [16] G) fun v1 G2 => vE ky (vD ky d) 8 c_19 (vlab c_19 68) ([x0, x1, x2], [x0], (some x0), (some v1), [], G2)) (vE ky (vD ky d) 8 c_19 (vlab c_19 68) ([x0, x1, x2], [x0], (some x0), none, [], G)) := (v_cut ky (vD ky d) 8 c_19 [68, 70] 200 c_19 ([x0, x1, x2], [0], none, none, [], G)).trans rfl
set_option maxRecDepth 4000 in
theorem w_19_68 (x0 x1 x2 : Int) (y0 : Int) (o : Int) (tm : Option Int) : vE ky (vD ky d) 8 c_19 (vlab c_19 68) ([x0, x1, x2], [y0], (some o), tm, [], G) =
    v_rc (am_s16 (y0 + 1)) G fun v1 G2 => v_if (-(if (x1 : Int) < v1 then -1 else 0) - 1) (v_cl (vD ky d 47 [16] G2) fun v3 G4 => vE ky (vD ky d) 8 c_19 (vlab c_19 70) ([x0, x1, x2], [y0], (some o), (some v3), [], G4)) (vE ky (vD ky d) 8 c_19 (vlab c_19 70) ([x0, x1, x2], [y0], (some o), tm, [], G2)) := (v_cut ky (vD ky d) 8 c_19 [68, 70] 200 (vlab c_19 68) ([x0, x1, x2], [y0], (some o), tm, [], G)).trans rfl
set_option maxRecDepth 4000 in
theorem w_19_70 (x0 x1 x2 : Int) (y0 : Int) (o : Int) (tm : Option Int) : vE ky (vD ky d) 8 c_19 (vlab c_19 70) ([x0, x1, x2], [y0], (some o), tm, [], G) =
    v_wc (am_s16 (y0 + (am_s16 (2 + x1)))) x2 G fun G1 => some (.inl 0, G1) := (v_cut ky (vD ky d) 8 c_19 [68, 70] 200 (vlab c_19 70) ([x0, x1, x2], [y0], (some o), tm, [], G)).trans rfl
set_option maxRecDepth 4000 in
/-- String.appendChar -/
theorem w_20 (x0 x1 : Int) : vD ky (d + 1) 20 [x0, x1] G =
    v_rc (am_s16 (x0 + 1)) G fun v1 G2 => v_rc (am_s16 (x0 + 0)) G2 fun v3 G4 => v_if (-(if (v1 : Int) < v3 then -1 else 0) - 1) (v_cl (vD ky d 47 [17] G4) fun v5 G6 => vE ky (vD ky d) 8 c_20 (vlab c_20 72) ([x0, x1], [x0, v1], (some x0), (some v5), [], G6)) (vE ky (vD ky d) 8 c_20 (vlab c_20 72) ([x0, x1], [x0, v1], (some x0), none, [], G4)) := (v_cut ky (vD ky d) 8 c_20 [72] 200 c_20 ([x0, x1], [0, 0], none, none, [], G)).trans rfl
set_option maxRecDepth 4000 in
theorem w_20_72 (x0 x1 : Int) (y0 y1 : Int) (o : Int) (tm : Option Int) : vE ky (vD ky d) 8 c_20 (vlab c_20 72) ([x0, x1], [y0, y1], (some o), tm, [], G) =
    v_wc (am_s16 (y0 + (am_s16 (2 + y1)))) x1 G fun G1 => v_wc (am_s16 (y0 + 1)) (am_s16 (y1 + 1)) G1 fun G2 => some (.inl o, G2) := (v_cut ky (vD ky d) 8 c_20 [72] 200 (vlab c_20 72) ([x0, x1], [y0, y1], (some o), tm, [], G)).trans rfl
set_option maxRecDepth 4000 in
/-- String.eraseLastChar -/
theorem w_21 (x0 : Int) : vD ky (d + 1) 21 [x0] G =
    v_rc (am_s16 (x0 + 1)) G fun v1 G2 => v_if (if (v1 : Int) < 1 then -1 else 0) (v_cl (vD ky d 47 [18] G2) fun v3 G4 => vE ky (vD ky d) 8 c_21 (vlab c_21 74) ([x0], [x0, v1], (some x0), (some v3), [], G4)) (vE ky (vD ky d) 8 c_21 (vlab c_21 74) ([x0], [x0, v1], (some x0), none, [], G2)) := (v_cut ky (vD ky d) 8 c_21 [74] 200 c_21 ([x0], [0, 0], none, none, [], G)).trans rfl
set_option maxRecDepth 4000 in
theorem w_21_74 (x0 : Int) (y0 y1 : Int) (o : Int) (tm : Option Int) : vE ky (vD ky d) 8 c_21 (vlab c_21 74) ([x0], [y0, y1], (some o), tm, [], G) =
    v_wc (am_s16 (y0 + 1)) (am_s16 (y1 - 1)) G fun G1 => some (.inl 0, G1) := (v_cut ky (vD ky d) 8 c_21 [74] 200 (vlab c_21 74) ([x0], [y0, y1], (some o), tm, [], G)).trans rfl
set_option maxRecDepth 4000 in
/-- String.intValue -/
theorem w_22 (x0 : Int) : vD ky (d + 1) 22 [x0] G =
    v_rc (am_s16 (x0 + 1)) G fun v1 G2 => v_if (if (0 : Int) < v1 then -1 else 0) (v_rc (am_s16 (x0 + 2)) G2 fun v3 G4 => v_if (if (v3 : Int) = 45 then -1 else 0) (vE ky (vD ky d) 8 c_22 (vlab c_22 79) ([x0], [x0, 1, v1, 0, 0, -0 - 1], (some x0), none, [], G4)) (vE ky (vD ky d) 8 c_22 (vlab c_22 79) ([x0], [x0, 0, v1, 0, 0, 0], (some x0), none, [], G4))) (vE ky (vD ky d) 8 c_22 (vlab c_22 79) ([x0], [x0, 0, v1, 0, 0, 0], (some x0), none, [], G2)) := (v_cut ky (vD ky d) 8 c_22 [79] 200 c_22 ([x0], [0, 0, 0, 0, 0, 0], none, none, [], G)).trans rfl
set_option maxRecDepth 4000 in
theorem w_22_79 (x0 : Int) (y0 y1 y2 y3 y4 y5 : Int) (o : Int) (tm : Option Int) : vE ky (vD ky d) 8 c_22 (vlab c_22 79) ([x0], [y0, y1, y2, y3, y4, y5], (some o), tm, [], G) =
    v_if (if (y1 : Int) < y2 then -1 else 0) (v_rc (am_s16 (y0 + (am_s16 (2 + y1)))) G fun v1 G2 => v_if (am_or (if ((am_s16 (v1 - 48)) : Int) < 0 then -1 else 0) (if (9 : Int) < (am_s16 (v1 - 48)) then -1 else 0)) (vE ky (vD ky d) 8 c_22 (vlab c_22 79) ([x0], [y0, y2, y2, y3, am_s16 (v1 - 48), y5], (some o), tm, [], G2)) (v_cl (vD ky d 10 [y3, 10] G2) fun v3 G4 => vE ky (vD ky d) 8 c_22 (vlab c_22 79) ([x0], [y0, am_s16 (y1 + 1), y2, am_s16 (v3 + (am_s16 (v1 - 48))), am_s16 (v1 - 48), y5], (some o), none, [], G4))) (v_if y5 (some (.inl (am_s16 (-y3)), G)) (some (.inl y3, G))) := (v_cut ky (vD ky d) 8 c_22 [79] 200 (vlab c_22 79) ([x0], [y0, y1, y2, y3, y4, y5], (some o), tm, [], G)).trans rfl
set_option maxRecDepth 4000 in
/-- String.setInt -/
theorem w_23 (x0 x1 : Int) : vD ky (d + 1) 23 [x0, x1] G =
    v_wc (am_s16 (x0 + 1)) 0 G fun G1 => v_if (if (x1 : Int) < 0 then -1 else 0) (v_cl (vD ky d 20 [x0, 45] G1) fun v2 G3 => vE ky (vD ky d) 8 c_23 (vlab c_23 88) ([x0, x1], [x0], (some x0), (some v2), [], G3)) (vE ky (vD ky d) 8 c_23 (vlab c_23 88) ([x0, x1], [x0], (some x0), (some 0), [], G1)) := (v_cut ky (vD ky d) 8 c_23 [88] 200 c_23 ([x0, x1], [0], none, none, [], G)).trans rfl
set_option maxRecDepth 4000 in
theorem w_23_88 (x0 x1 : Int) (y0 : Int) (o : Int) (tm : Option Int) : vE ky (vD ky d) 8 c_23 (vlab c_23 88) ([x0, x1], [y0], (some o), tm, [], G) =
    v_cl (vD ky d 24 [o, x1] G) fun v1 G2 => some (.inl 0, G2) := (v_cut ky (vD ky d) 8 c_23 [88] 200 (vlab c_23 88) ([x0, x1], [y0], (some o), tm, [], G)).trans rfl
set_option maxRecDepth 4000 in
/-- String._digits -/
theorem w_24 (x0 x1 : Int) : vD ky (d + 1) 24 [x0, x1] G =
    v_cl (vD ky d 11 [x1, 10] G) fun v1 G2 => v_if (-(if (v1 : Int) = 0 then -1 else 0) - 1) (v_cl (vD ky d 24 [x0, v1] G2) fun v3 G4 => vE ky (vD ky d) 8 c_24 (vlab c_24 90) ([x0, x1], [v1], (some x0), (some v3), [], G4)) (vE ky (vD ky d) 8 c_24 (vlab c_24 90) ([x0, x1], [v1], (some x0), none, [], G2)) := (v_cut ky (vD ky d) 8 c_24 [90] 200 c_24 ([x0, x1], [0], none, none, [], G)).trans rfl
set_option maxRecDepth 4000 in
theorem w_24_90 (x0 x1 : Int) (y0 : Int) (o : Int) (tm : Option Int) : vE ky (vD ky d) 8 c_24 (vlab c_24 90) ([x0, x1], [y0], (some o), tm, [], G) =
    v_cl (vD ky d 10 [y0, 10] G) fun v1 G2 => v_cl (vD ky d 7 [am_s16 (x1 - v1)] G2) fun v3 G4 => v_cl (vD ky d 20 [o, am_s16 (48 + v3)] G4) fun v5 G6 => some (.inl 0, G6) := (v_cut ky (vD ky d) 8 c_24 [90] 200 (vlab c_24 90) ([x0, x1], [y0], (some o), tm, [], G)).trans rfl
set_option maxRecDepth 4000 in
/-- String.newLine -/
theorem w_25 : vD ky (d + 1) 25 [] G =
    some (.inl 10, G) := (v_cut ky (vD ky d) 8 c_25 [] 200 c_25 ([], [], none, none, [], G)).trans rfl
set_option maxRecDepth 4000 in
/-- String.doubleQuote -/
theorem w_26 : vD ky (d + 1) 26 [] G =
    some (.inl 34, G) := (v_cut ky (vD ky d) 8 c_26 [] 200 c_26 ([], [], none, none, [], G)).trans rfl
set_option maxRecDepth 4000 in
/-- String.backSpace -/
theorem w_27 : vD ky (d + 1) 27 [] G =
    some (.inl 8, G) := (v_cut ky (vD ky d) 8 c_27 [] 200 c_27 ([], [], none, none, [], G)).trans rfl
set_option maxRecDepth 4000 in
/-- Output.printChar -/
theorem w_28 (x0 : Int) : vD ky (d + 1) 28 [x0] G =
    v_wr (am_s16 (32001 + 0)) x0 G fun G1 => some (.inl 0, G1) := (v_cut ky (vD ky d) 8 c_28 [] 200 c_28 ([x0], [0], none, none, [], G)).trans rfl
set_option maxRecDepth 4000 in
/-- Output.println -/
theorem w_29 : vD ky (d + 1) 29 [] G =
    v_cl (vD ky d 28 [10] G) fun v1 G2 => some (.inl 0, G2) := (v_cut ky (vD ky d) 8 c_29 [] 200 c_29 ([], [], none, none, [], G)).trans rfl
set_option maxRecDepth 4000 in
/-- Output.printString -/
theorem w_30 (x0 : Int) : vD ky (d + 1) 30 [x0] G =
    v_cl (vD ky d 17 [x0] G) fun v1 G2 => vE ky (vD ky d) 8 c_30 (vlab c_30 91) ([x0], [0, v1], none, none, [], G2) := (v_cut ky (vD ky d) 8 c_30 [91] 200 c_30 ([x0], [0, 0], none, none, [], G)).trans rfl
set_option maxRecDepth 4000 in
theorem w_30_91 (x0 : Int) (y0 y1 : Int) (th : Option Int) (tm : Option Int) : vE ky (vD ky d) 8 c_30 (vlab c_30 91) ([x0], [y0, y1], th, tm, [], G) =
    v_if (if (y0 : Int) < y1 then -1 else 0) (v_cl (vD ky d 18 [x0, y0] G) fun v1 G2 => v_cl (vD ky d 28 [v1] G2) fun v3 G4 => vE ky (vD ky d) 8 c_30 (vlab c_30 91) ([x0], [am_s16 (y0 + 1), y1], th, (some v3), [], G4)) (some (.inl 0, G)) := (v_cut ky (vD ky d) 8 c_30 [91] 200 (vlab c_30 91) ([x0], [y0, y1], th, tm, [], G)).trans rfl
set_option maxRecDepth 4000 in
/-- Output.printInt -/
theorem w_31 (x0 : Int) : vD ky (d + 1) 31 [x0] G =
    v_if (if (x0 : Int) < 0 then -1 else 0) (v_cl (vD ky d 28 [45] G) fun v1 G2 => vE ky (vD ky d) 8 c_31 (vlab c_31 95) ([x0], [], none, (some v1), [], G2)) (vE ky (vD ky d) 8 c_31 (vlab c_31 95) ([x0], [], none, none, [], G)) := (v_cut ky (vD ky d) 8 c_31 [95] 200 c_31 ([x0], [], none, none, [], G)).trans rfl
set_option maxRecDepth 4000 in
theorem w_31_95 (x0 : Int) (th : Option Int) (tm : Option Int) : vE ky (vD ky d) 8 c_31 (vlab c_31 95) ([x0], [], th, tm, [], G) =
    v_cl (vD ky d 32 [x0] G) fun v1 G2 => some (.inl 0, G2) := (v_cut ky (vD ky d) 8 c_31 [95] 200 (vlab c_31 95) ([x0], [], th, tm, [], G)).trans rfl
set_option maxRecDepth 4000 in
/-- Output._digits -/
theorem w_32 (x0 : Int) : vD ky (d + 1) 32 [x0] G =
    v_cl (vD ky d 11 [x0, 10] G) fun v1 G2 => v_if (-(if (v1 : Int) = 0 then -1 else 0) - 1) (v_cl (vD ky d 32 [v1] G2) fun v3 G4 => vE ky (vD ky d) 8 c_32 (vlab c_32 97) ([x0], [v1], none, (some v3), [], G4)) (vE ky (vD ky d) 8 c_32 (vlab c_32 97) ([x0], [v1], none, none, [], G2)) := (v_cut ky (vD ky d) 8 c_32 [97] 200 c_32 ([x0], [0], none, none, [], G)).trans rfl
set_option maxRecDepth 4000 in
theorem w_32_97 (x0 : Int) (y0 : Int) (th : Option Int) (tm : Option Int) : vE ky (vD ky d) 8 c_32 (vlab c_32 97) ([x0], [y0], th, tm, [], G) =
    v_cl (vD ky d 10 [y0, 10] G) fun v1 G2 => v_cl (vD ky d 7 [am_s16 (x0 - v1)] G2) fun v3 G4 => v_cl (vD ky d 28 [am_s16 (48 + v3)] G4) fun v5 G6 => some (.inl 0, G6) := (v_cut ky (vD ky d) 8 c_32 [97] 200 (vlab c_32 97) ([x0], [y0], th, tm, [], G)).trans rfl
set_option maxRecDepth 4000 in
/-- Keyboard.keyPressed -/
theorem w_33 : vD ky (d + 1) 33 [] G =
    v_rd ky (am_s16 (32003 + 0)) G fun v1 G2 => some (.inl v1, G2) := (v_cut ky (vD ky d) 8 c_33 [] 200 c_33 ([], [0], none, none, [], G)).trans rfl
set_option maxRecDepth 4000 in
/-- Keyboard.readChar -/
theorem w_34 : vD ky (d + 1) 34 [] G =
    v_rd ky (am_s16 (32002 + 0)) G fun v1 G2 => some (.inl v1, G2) := (v_cut ky (vD ky d) 8 c_34 [] 200 c_34 ([], [0], none, none, [], G)).trans rfl
set_option maxRecDepth 4000 in
/-- Keyboard._left -/
theorem w_35 : vD ky (d + 1) 35 [] G =
    v_rd ky (am_s16 (32005 + 0)) G fun v1 G2 => some (.inl (if (0 : Int) < v1 then -1 else 0), G2) := (v_cut ky (vD ky d) 8 c_35 [] 200 c_35 ([], [0], none, none, [], G)).trans rfl
set_option maxRecDepth 4000 in
/-- Keyboard.readLine -/
theorem w_36 (x0 : Int) : vD ky (d + 1) 36 [x0] G =
    v_cl (vD ky d 30 [x0] G) fun v1 G2 => v_cl (vD ky d 15 [80] G2) fun v3 G4 => v_cl (vD ky d 35 [] G4) fun v5 G6 => vE ky (vD ky d) 8 c_36 (vlab c_36 98) ([x0], [v3, 0, v5], none, none, [], G6) := (v_cut ky (vD ky d) 8 c_36 [98] 200 c_36 ([x0], [0, 0, 0], none, none, [], G)).trans rfl
set_option maxRecDepth 4000 in
theorem w_36_98 (x0 : Int) (y0 y1 y2 : Int) (th : Option Int) (tm : Option Int) : vE ky (vD ky d) 8 c_36 (vlab c_36 98) ([x0], [y0, y1, y2], th, tm, [], G) =
    v_if y2 (v_cl (vD ky d 34 [] G) fun v1 G2 => v_if (if (v1 : Int) = 10 then -1 else 0) (vE ky (vD ky d) 8 c_36 (vlab c_36 98) ([x0], [y0, v1, 0], th, none, [], G2)) (v_cl (vD ky d 20 [y0, v1] G2) fun v3 G4 => v_cl (vD ky d 35 [] G4) fun v5 G6 => vE ky (vD ky d) 8 c_36 (vlab c_36 98) ([x0], [y0, v1, v5], th, none, [], G6))) (some (.inl y0, G)) := (v_cut ky (vD ky d) 8 c_36 [98] 200 (vlab c_36 98) ([x0], [y0, y1, y2], th, tm, [], G)).trans rfl
set_option maxRecDepth 4000 in
/-- Screen._init -/
theorem w_37 : vD ky (d + 1) 37 [] G =
    some (.inl 0, ((p_set G.1 19 (am_s16 (-1))), G.2)) := (v_cut ky (vD ky d) 8 c_37 [] 200 c_37 ([], [], none, none, [], G)).trans rfl
set_option maxRecDepth 4000 in
/-- Screen.setColor -/
theorem w_38 (x0 : Int) : vD ky (d + 1) 38 [x0] G =
    some (.inl 0, ((p_set G.1 19 x0), G.2)) := (v_cut ky (vD ky d) 8 c_38 [] 200 c_38 ([x0], [], none, none, [], G)).trans rfl
set_option maxRecDepth 4000 in
/-- Screen.clearScreen -/
theorem w_39 : vD ky (d + 1) 39 [] G =
    vE ky (vD ky d) 8 c_39 (vlab c_39 104) ([], [16384, 0], none, none, [], G) := (v_cut ky (vD ky d) 8 c_39 [104] 200 c_39 ([], [0, 0], none, none, [], G)).trans rfl
set_option maxRecDepth 4000 in
theorem w_39_104 (y0 y1 : Int) (th : Option Int) (tm : Option Int) : vE ky (vD ky d) 8 c_39 (vlab c_39 104) ([], [y0, y1], th, tm, [], G) =
    v_if (if (y1 : Int) < 128 then -1 else 0) (v_wr (am_s16 (y0 + y1)) 0 G fun G1 => vE ky (vD ky d) 8 c_39 (vlab c_39 104) ([], [y0, am_s16 (y1 + 1)], th, (some 0), [], G1)) (some (.inl 0, G)) := (v_cut ky (vD ky d) 8 c_39 [104] 200 (vlab c_39 104) ([], [y0, y1], th, tm, [], G)).trans rfl
set_option maxRecDepth 4000 in
/-- Screen._out -/
theorem w_40 (x0 x1 : Int) : vD ky (d + 1) 40 [x0, x1] G =
    some (.inl (am_or (am_or (am_or (if (x0 : Int) < 0 then -1 else 0) (if (63 : Int) < x0 then -1 else 0)) (if (x1 : Int) < 0 then -1 else 0)) (if (31 : Int) < x1 then -1 else 0)), G) := (v_cut ky (vD ky d) 8 c_40 [] 200 c_40 ([x0, x1], [], none, none, [], G)).trans rfl
set_option maxRecDepth 4000 in
/-- Screen.drawPixel -/
theorem w_41 (x0 x1 : Int) : vD ky (d + 1) 41 [x0, x1] G =
    v_cl (vD ky d 40 [x0, x1] G) fun v1 G2 => v_if v1 (v_cl (vD ky d 47 [7] G2) fun v3 G4 => vE ky (vD ky d) 8 c_41 (vlab c_41 108) ([x0, x1], [], none, (some v3), [], G4)) (vE ky (vD ky d) 8 c_41 (vlab c_41 108) ([x0, x1], [], none, none, [], G2)) := (v_cut ky (vD ky d) 8 c_41 [108] 200 c_41 ([x0, x1], [], none, none, [], G)).trans rfl
set_option maxRecDepth 4000 in
theorem w_41_108 (x0 x1 : Int) (th : Option Int) (tm : Option Int) : vE ky (vD ky d) 8 c_41 (vlab c_41 108) ([x0, x1], [], th, tm, [], G) =
    v_cl (vD ky d 42 [x0, x0, x1] G) fun v1 G2 => some (.inl 0, G2) := (v_cut ky (vD ky d) 8 c_41 [108] 200 (vlab c_41 108) ([x0, x1], [], th, tm, [], G)).trans rfl
set_option maxRecDepth 4000 in
/-- Screen._row -/
theorem w_42 (x0 x1 x2 : Int) : vD ky (d + 1) 42 [x0, x1, x2] G =
    vE ky (vD ky d) 8 c_42 (vlab c_42 109) ([x0, x1, x2], [am_s16 ((am_s16 ((am_s16 ((am_s16 (16384 + x2)) + x2)) + x2)) + x2), 1, 0], none, none, [], G) := (v_cut ky (vD ky d) 8 c_42 [109, 114, 119] 200 c_42 ([x0, x1, x2], [0, 0, 0], none, none, [], G)).trans rfl
set_option maxRecDepth 4000 in
theorem w_42_109 (x0 x1 x2 : Int) (y0 y1 y2 : Int) (th : Option Int) (tm : Option Int) : vE ky (vD ky d) 8 c_42 (vlab c_42 109) ([x0, x1, x2], [y0, y1, y2], th, tm, [], G) =
    v_if (if (y2 : Int) < x0 then -1 else 0) (v_if (if ((am_s16 (y1 + y1)) : Int) = 0 then -1 else 0) (vE ky (vD ky d) 8 c_42 (vlab c_42 109) ([x0, x1, x2], [am_s16 (y0 + 1), 1, am_s16 (y2 + 1)], th, tm, [], G)) (vE ky (vD ky d) 8 c_42 (vlab c_42 109) ([x0, x1, x2], [y0, am_s16 (y1 + y1), am_s16 (y2 + 1)], th, tm, [], G))) (vE ky (vD ky d) 8 c_42 (vlab c_42 114) ([x0, x1, x2], [y0, y1, y2], th, tm, [], G)) := (v_cut ky (vD ky d) 8 c_42 [109, 114, 119] 200 (vlab c_42 109) ([x0, x1, x2], [y0, y1, y2], th, tm, [], G)).trans rfl
set_option maxRecDepth 4000 in
theorem w_42_114 (x0 x1 x2 : Int) (y0 y1 y2 : Int) (th : Option Int) (tm : Option Int) : vE ky (vD ky d) 8 c_42 (vlab c_42 114) ([x0, x1, x2], [y0, y1, y2], th, tm, [], G) =
    v_if (-(if (x1 : Int) < y2 then -1 else 0) - 1) (v_if (G.1 19) (v_rd ky (am_s16 (y0 + 0)) G fun v1 G2 => v_wr (am_s16 (y0 + 0)) (am_or v1 y1) G2 fun G3 => vE ky (vD ky d) 8 c_42 (vlab c_42 119) ([x0, x1, x2], [y0, y1, y2], th, (some (am_or v1 y1)), [], G3)) (v_rd ky (am_s16 (y0 + 0)) G fun v4 G5 => v_wr (am_s16 (y0 + 0)) (am_and v4 (-y1 - 1)) G5 fun G6 => vE ky (vD ky d) 8 c_42 (vlab c_42 119) ([x0, x1, x2], [y0, y1, y2], th, (some (am_and v4 (-y1 - 1))), [], G6))) (some (.inl 0, G)) := (v_cut ky (vD ky d) 8 c_42 [109, 114, 119] 200 (vlab c_42 114) ([x0, x1, x2], [y0, y1, y2], th, tm, [], G)).trans rfl
set_option maxRecDepth 4000 in
theorem w_42_119 (x0 x1 x2 : Int) (y0 y1 y2 : Int) (th : Option Int) (tm : Option Int) : vE ky (vD ky d) 8 c_42 (vlab c_42 119) ([x0, x1, x2], [y0, y1, y2], th, tm, [], G) =
    v_if (if ((am_s16 (y1 + y1)) : Int) = 0 then -1 else 0) (vE ky (vD ky d) 8 c_42 (vlab c_42 114) ([x0, x1, x2], [am_s16 (y0 + 1), 1, am_s16 (y2 + 1)], th, tm, [], G)) (vE ky (vD ky d) 8 c_42 (vlab c_42 114) ([x0, x1, x2], [y0, am_s16 (y1 + y1), am_s16 (y2 + 1)], th, tm, [], G)) := (v_cut ky (vD ky d) 8 c_42 [109, 114, 119] 200 (vlab c_42 119) ([x0, x1, x2], [y0, y1, y2], th, tm, [], G)).trans rfl
set_option maxRecDepth 4000 in
/-- Screen.drawLine -/
theorem w_43 (x0 x1 x2 x3 : Int) : vD ky (d + 1) 43 [x0, x1, x2, x3] G =
    v_cl (vD ky d 40 [x0, x1] G) fun v1 G2 => v_cl (vD ky d 40 [x2, x3] G2) fun v3 G4 => v_if (am_or v1 v3) (v_cl (vD ky d 47 [8] G4) fun v5 G6 => vE ky (vD ky d) 8 c_43 (vlab c_43 123) ([x0, x1, x2, x3], [0, 0, 0, 0, 0, 0, 0], none, (some v5), [], G6)) (vE ky (vD ky d) 8 c_43 (vlab c_43 123) ([x0, x1, x2, x3], [0, 0, 0, 0, 0, 0, 0], none, none, [], G4)) := (v_cut ky (vD ky d) 8 c_43 [123, 125, 127, 130] 200 c_43 ([x0, x1, x2, x3], [0, 0, 0, 0, 0, 0, 0], none, none, [], G)).trans rfl
set_option maxRecDepth 4000 in
theorem w_43_123 (x0 x1 x2 x3 : Int) (y0 y1 y2 y3 y4 y5 y6 : Int) (th : Option Int) (tm : Option Int) : vE ky (vD ky d) 8 c_43 (vlab c_43 123) ([x0, x1, x2, x3], [y0, y1, y2, y3, y4, y5, y6], th, tm, [], G) =
    v_if (if ((am_s16 (x2 - x0)) : Int) < 0 then -1 else 0) (vE ky (vD ky d) 8 c_43 (vlab c_43 125) ([x0, x1, x2, x3], [y0, y1, y2, am_s16 (-(am_s16 (x2 - x0))), am_s16 (x3 - x1), am_s16 (-1), 1], th, tm, [], G)) (vE ky (vD ky d) 8 c_43 (vlab c_43 125) ([x0, x1, x2, x3], [y0, y1, y2, am_s16 (x2 - x0), am_s16 (x3 - x1), 1, 1], th, tm, [], G)) := (v_cut ky (vD ky d) 8 c_43 [123, 125, 127, 130] 200 (vlab c_43 123) ([x0, x1, x2, x3], [y0, y1, y2, y3, y4, y5, y6], th, tm, [], G)).trans rfl
set_option maxRecDepth 4000 in
theorem w_43_125 (x0 x1 x2 x3 : Int) (y0 y1 y2 y3 y4 y5 y6 : Int) (th : Option Int) (tm : Option Int) : vE ky (vD ky d) 8 c_43 (vlab c_43 125) ([x0, x1, x2, x3], [y0, y1, y2, y3, y4, y5, y6], th, tm, [], G) =
    v_if (if (y4 : Int) < 0 then -1 else 0) (vE ky (vD ky d) 8 c_43 (vlab c_43 127) ([x0, x1, x2, x3], [y0, y1, y2, y3, am_s16 (-y4), y5, am_s16 (-1)], th, tm, [], G)) (vE ky (vD ky d) 8 c_43 (vlab c_43 127) ([x0, x1, x2, x3], [y0, y1, y2, y3, y4, y5, y6], th, tm, [], G)) := (v_cut ky (vD ky d) 8 c_43 [123, 125, 127, 130] 200 (vlab c_43 125) ([x0, x1, x2, x3], [y0, y1, y2, y3, y4, y5, y6], th, tm, [], G)).trans rfl
set_option maxRecDepth 4000 in
theorem w_43_127 (x0 x1 x2 x3 : Int) (y0 y1 y2 y3 y4 y5 y6 : Int) (th : Option Int) (tm : Option Int) : vE ky (vD ky d) 8 c_43 (vlab c_43 127) ([x0, x1, x2, x3], [y0, y1, y2, y3, y4, y5, y6], th, tm, [], G) =
    v_if (if (y4 : Int) = 0 then -1 else 0) (vE ky (vD ky d) 8 c_43 (vlab c_43 130) ([x0, x1, x2, x3], [y0, y1, am_s16 (-1), y3, y4, y5, y6], th, tm, [], G)) (vE ky (vD ky d) 8 c_43 (vlab c_43 130) ([x0, x1, x2, x3], [y0, y1, y2, y3, y4, y5, y6], th, tm, [], G)) := (v_cut ky (vD ky d) 8 c_43 [123, 125, 127, 130] 200 (vlab c_43 127) ([x0, x1, x2, x3], [y0, y1, y2, y3, y4, y5, y6], th, tm, [], G)).trans rfl
set_option maxRecDepth 4000 in
theorem w_43_130 (x0 x1 x2 x3 : Int) (y0 y1 y2 y3 y4 y5 y6 : Int) (th : Option Int) (tm : Option Int) : vE ky (vD ky d) 8 c_43 (vlab c_43 130) ([x0, x1, x2, x3], [y0, y1, y2, y3, y4, y5, y6], th, tm, [], G) =
    v_if (am_and (-(if (y3 : Int) < y0 then -1 else 0) - 1) (-(if (y4 : Int) < y1 then -1 else 0) - 1)) (v_cl (vD ky d 42 [x0, x0, x1] G) fun v1 G2 => v_if (if (y2 : Int) < 0 then -1 else 0) (vE ky (vD ky d) 8 c_43 (vlab c_43 130) ([am_s16 (x0 + y5), x1, x2, x3], [am_s16 (y0 + 1), y1, am_s16 (y2 + y4), y3, y4, y5, y6], th, (some v1), [], G2)) (vE ky (vD ky d) 8 c_43 (vlab c_43 130) ([x0, am_s16 (x1 + y6), x2, x3], [y0, am_s16 (y1 + 1), am_s16 (y2 - y3), y3, y4, y5, y6], th, (some v1), [], G2))) (some (.inl 0, G)) := (v_cut ky (vD ky d) 8 c_43 [123, 125, 127, 130] 200 (vlab c_43 130) ([x0, x1, x2, x3], [y0, y1, y2, y3, y4, y5, y6], th, tm, [], G)).trans rfl
set_option maxRecDepth 4000 in
/-- Screen.drawRectangle -/
theorem w_44 (x0 x1 x2 x3 : Int) : vD ky (d + 1) 44 [x0, x1, x2, x3] G =
    v_cl (vD ky d 40 [x0, x1] G) fun v1 G2 => v_cl (vD ky d 40 [x2, x3] G2) fun v3 G4 => v_if (am_or (am_or (am_or (if (x2 : Int) < x0 then -1 else 0) (if (x3 : Int) < x1 then -1 else 0)) v1) v3) (v_cl (vD ky d 47 [9] G4) fun v5 G6 => vE ky (vD ky d) 8 c_44 (vlab c_44 138) ([x0, x1, x2, x3], [], none, (some v5), [], G6)) (vE ky (vD ky d) 8 c_44 (vlab c_44 138) ([x0, x1, x2, x3], [], none, none, [], G4)) := (v_cut ky (vD ky d) 8 c_44 [138] 200 c_44 ([x0, x1, x2, x3], [], none, none, [], G)).trans rfl
set_option maxRecDepth 4000 in
theorem w_44_138 (x0 x1 x2 x3 : Int) (th : Option Int) (tm : Option Int) : vE ky (vD ky d) 8 c_44 (vlab c_44 138) ([x0, x1, x2, x3], [], th, tm, [], G) =
    v_if (-(if (x3 : Int) < x1 then -1 else 0) - 1) (v_cl (vD ky d 42 [x0, x2, x1] G) fun v1 G2 => vE ky (vD ky d) 8 c_44 (vlab c_44 138) ([x0, am_s16 (x1 + 1), x2, x3], [], th, (some v1), [], G2)) (some (.inl 0, G)) := (v_cut ky (vD ky d) 8 c_44 [138] 200 (vlab c_44 138) ([x0, x1, x2, x3], [], th, tm, [], G)).trans rfl
set_option maxRecDepth 4000 in
/-- Screen.drawCircle -/
theorem w_45 (x0 x1 x2 : Int) : vD ky (d + 1) 45 [x0, x1, x2] G =
    v_if (am_or (if (x2 : Int) < 0 then -1 else 0) (if (31 : Int) < x2 then -1 else 0)) (v_cl (vD ky d 47 [13] G) fun v1 G2 => vE ky (vD ky d) 8 c_45 (vlab c_45 142) ([x0, x1, x2], [0, 0], none, (some v1), [], G2)) (vE ky (vD ky d) 8 c_45 (vlab c_45 142) ([x0, x1, x2], [0, 0], none, none, [], G)) := (v_cut ky (vD ky d) 8 c_45 [142, 144, 147] 200 c_45 ([x0, x1, x2], [0, 0], none, none, [], G)).trans rfl
set_option maxRecDepth 4000 in
theorem w_45_142 (x0 x1 x2 : Int) (y0 y1 : Int) (th : Option Int) (tm : Option Int) : vE ky (vD ky d) 8 c_45 (vlab c_45 142) ([x0, x1, x2], [y0, y1], th, tm, [], G) =
    v_cl (vD ky d 40 [x0, x1] G) fun v1 G2 => v_if v1 (v_cl (vD ky d 47 [13] G2) fun v3 G4 => vE ky (vD ky d) 8 c_45 (vlab c_45 144) ([x0, x1, x2], [y0, y1], th, (some v3), [], G4)) (vE ky (vD ky d) 8 c_45 (vlab c_45 144) ([x0, x1, x2], [y0, y1], th, none, [], G2)) := (v_cut ky (vD ky d) 8 c_45 [142, 144, 147] 200 (vlab c_45 142) ([x0, x1, x2], [y0, y1], th, tm, [], G)).trans rfl
set_option maxRecDepth 4000 in
theorem w_45_144 (x0 x1 x2 : Int) (y0 y1 : Int) (th : Option Int) (tm : Option Int) : vE ky (vD ky d) 8 c_45 (vlab c_45 144) ([x0, x1, x2], [y0, y1], th, tm, [], G) =
    v_cl (vD ky d 40 [am_s16 (x0 - x2), am_s16 (x1 - x2)] G) fun v1 G2 => v_cl (vD ky d 40 [am_s16 (x0 + x2), am_s16 (x1 + x2)] G2) fun v3 G4 => v_if (am_or v1 v3) (v_cl (vD ky d 47 [13] G4) fun v5 G6 => vE ky (vD ky d) 8 c_45 (vlab c_45 147) ([x0, x1, x2], [am_s16 (-x2), y1], th, (some v5), [], G6)) (vE ky (vD ky d) 8 c_45 (vlab c_45 147) ([x0, x1, x2], [am_s16 (-x2), y1], th, none, [], G4)) := (v_cut ky (vD ky d) 8 c_45 [142, 144, 147] 200 (vlab c_45 144) ([x0, x1, x2], [y0, y1], th, tm, [], G)).trans rfl
set_option maxRecDepth 4000 in
theorem w_45_147 (x0 x1 x2 : Int) (y0 y1 : Int) (th : Option Int) (tm : Option Int) : vE ky (vD ky d) 8 c_45 (vlab c_45 147) ([x0, x1, x2], [y0, y1], th, tm, [], G) =
    v_if (-(if (x2 : Int) < y0 then -1 else 0) - 1) (v_cl (vD ky d 10 [x2, x2] G) fun v1 G2 => v_cl (vD ky d 10 [y0, y0] G2) fun v3 G4 => v_cl (vD ky d 12 [am_s16 (v1 - v3)] G4) fun v5 G6 => v_cl (vD ky d 42 [am_s16 (x0 - v5), am_s16 (x0 + v5), am_s16 (x1 + y0)] G6) fun v7 G8 => vE ky (vD ky d) 8 c_45 (vlab c_45 147) ([x0, x1, x2], [am_s16 (y0 + 1), v5], th, (some v7), [], G8)) (some (.inl 0, G)) := (v_cut ky (vD ky d) 8 c_45 [142, 144, 147] 200 (vlab c_45 147) ([x0, x1, x2], [y0, y1], th, tm, [], G)).trans rfl
set_option maxRecDepth 4000 in
/-- Sys.halt -/
theorem w_46 : vD ky (d + 1) 46 [] G =
    v_wr (am_s16 (32000 + 0)) 0 G fun G1 => some (.inl 0, G1) := (v_cut ky (vD ky d) 8 c_46 [] 200 c_46 ([], [0], none, none, [], G)).trans rfl
set_option maxRecDepth 4000 in
/-- Sys.error -/
theorem w_47 (x0 : Int) : vD ky (d + 1) 47 [x0] G =
    v_wr (am_s16 (32004 + 0)) x0 G fun G1 => some (.inl 0, G1) := (v_cut ky (vD ky d) 8 c_47 [] 200 c_47 ([x0], [0], none, none, [], G)).trans rfl
set_option maxRecDepth 4000 in
/-- Sys.wait -/
theorem w_48 (x0 : Int) : vD ky (d + 1) 48 [x0] G =
    v_if (if (x0 : Int) < 1 then -1 else 0) (v_cl (vD ky d 47 [1] G) fun v1 G2 => some (.inl 0, G2)) (some (.inl 0, G)) := (v_cut ky (vD ky d) 8 c_48 [] 200 c_48 ([x0], [], none, none, [], G)).trans rfl
end
