theorem eOk_hk {n : Nat} {P : Pk} (h : eOk n P) : eOk n (hkW P) := sorry
theorem eOk_rw {n : Nat} {P : Pk} (h : eOk n P) : eOk n (reW P) := sorry
theorem nu_f {t : Nat → Int32} {n : Nat} {lo hi : Int32} {P : Pk} (h : (nuP t n lo hi P).f = 0) : P.f = 0 := sorry
