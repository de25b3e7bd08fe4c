/-! CONSTRUCTORS, 10: checked by evaluation. Printed by gen/cons2.py -/
set_option maxRecDepth 100000 in
theorem sy_r1 : ctck (gx_fold (ct false true (sy2 syK) (sy2 syV) (sy2 syP)) syEv (sT0, 0, 0, 0, 0, 0, [])) sT1 (-1, (0, (0, (1, (0, []))))) = true := by decide +kernel
