/-! CONSTRUCTORS, 10: checked by evaluation. Printed by gen/cons2.py -/
set_option maxRecDepth 100000 in
theorem sy_evr : (match gp true (sy2 syK) (sy2 syV) (sy2 syP) (xl_c fun (_ : gx_V) (_ : Unit) => .inr ()) 3000 ((), []) with
  | .inr _ => true
  | .inl _ => false) = true := by decide +kernel
