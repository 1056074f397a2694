theorem p2le4 {n : Nat} (h : n ≤ 4) : 2 ^ n ≤ 16 := sorry
