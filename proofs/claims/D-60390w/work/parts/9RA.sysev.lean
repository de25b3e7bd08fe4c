/-! CONSTRUCTORS, 10: checked by evaluation. Printed by gen/cons2.py -/
set_option maxRecDepth 100000 in
theorem sy_lx0 : lxck (lx_pre sy64 7370 4498 300 0 0 (syN2.take 35)) ((syTk.drop 0).take 300) 763 (syN2.take 54) = true := by decide +kernel
set_option maxRecDepth 100000 in
theorem sy_lx1 : lxck (lx_pre sy64 7370 4498 300 300 763 (syN2.take 54)) ((syTk.drop 300).take 300) 1527 (syN2.take 61) = true := by decide +kernel
set_option maxRecDepth 100000 in
theorem sy_lx2 : lxck (lx_pre sy64 7370 4498 300 600 1527 (syN2.take 61)) ((syTk.drop 600).take 300) 2217 (syN2.take 68) = true := by decide +kernel
set_option maxRecDepth 100000 in
theorem sy_lx3 : lxck (lx_pre sy64 7370 4498 300 900 2217 (syN2.take 68)) ((syTk.drop 900).take 300) 2994 (syN2.take 75) = true := by decide +kernel
