/-! CONSTRUCTORS, 10: checked by evaluation. Printed by gen/cons2.py -/
set_option maxRecDepth 100000 in
theorem sy_ev : gp true (sy2 syK) (sy2 syV) (sy2 syP) coll 3000 [] = .inr syEv.reverse := by decide +kernel
