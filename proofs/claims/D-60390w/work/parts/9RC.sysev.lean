/-! CONSTRUCTORS, 10: checked by evaluation. Printed by gen/cons2.py -/
set_option maxRecDepth 100000 in
theorem sy_lx8 : lxck (lx_pre sy64 7370 4498 300 2400 6222 (syN2.take 108)) ((syTk.drop 2400).take 300) 6891 (syN2.take 112) = true := by decide +kernel
set_option maxRecDepth 100000 in
theorem sy_lx9 : lxck (lx_pre sy64 7370 4498 199 2700 6891 (syN2.take 112)) ((syTk.drop 2700).take 199) 7369 (syN2.take 113) = true := by decide +kernel
set_option maxRecDepth 100000 in
theorem sy_lxe : lx_toks sy64 7370 4498 4472 2899 7369 (syN2.take 113) = ([(0, 0, 7370)], syN2) := by decide +kernel
