/-! THE ABSTRACT MACHINE: a method's first locals; no long is handed over (no method of the program takes one) -/
def am_ent (n : Nat) (as : List am_V) : List (Option am_V) := as.map some ++ List.replicate (n - as.length) none
def am_nol (v : am_V) : Bool := match v with
  | .inr (.inl _) => false
  | _ => true
