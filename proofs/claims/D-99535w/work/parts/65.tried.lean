def cpI (F G : Nat → Int32) (n : Nat) : Nat → Int32 := fun i => if i < n then F i else G i
theorem cp_I {F G : Nat → Int32} {n : Nat} : va_cpy (fun i => Value.int (F i)) (fun i => Value.int (G i)) 0 0 n = fun i => .int (cpI F G n i) := sorry
