/-! CONSTRUCTORS, 10: checked by evaluation. Printed by gen/cons2.py -/
set_option maxRecDepth 100000 in
theorem sy_lx4 : lxck (lx_pre sy64 7370 4498 300 1200 2994 (syN2.take 75)) ((syTk.drop 1200).take 300) 3720 (syN2.take 78) = true := by decide +kernel
set_option maxRecDepth 100000 in
theorem sy_lx5 : lxck (lx_pre sy64 7370 4498 300 1500 3720 (syN2.take 78)) ((syTk.drop 1500).take 300) 4593 (syN2.take 87) = true := by decide +kernel
set_option maxRecDepth 100000 in
theorem sy_lx6 : lxck (lx_pre sy64 7370 4498 300 1800 4593 (syN2.take 87)) ((syTk.drop 1800).take 300) 5509 (syN2.take 99) = true := by decide +kernel
set_option maxRecDepth 100000 in
theorem sy_lx7 : lxck (lx_pre sy64 7370 4498 300 2100 5509 (syN2.take 99)) ((syTk.drop 2100).take 300) 6222 (syN2.take 108) = true := by decide +kernel
