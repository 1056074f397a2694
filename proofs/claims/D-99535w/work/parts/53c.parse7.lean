section LL
variable {t : Nat → Int32} {n nb nh nl ns np nf x i : Nat} {P : Pk}
theorem li_reL (h : LIq nb nh nl ns np nf 13 P.fr) (hf : (reL t n P).f = 0) : LIq nb nh nl ns np nf 13 (reL t n P).fr := by
  unfold reL at hf ⊢
  by_cases c : (reW P).f = 0
  · rw [if_pos c] at hf ⊢
    have e0 : reW P = P := by
      unfold reW at c ⊢
      by_cases z : P.fr 0 ≤ 0
      · rw [if_pos z]
      · rw [if_neg z] at c
        exact absurd c f_wgN
    rw [e0] at hf ⊢
    by_cases c2 : (reM t n P).f = 0
    · rw [if_pos c2] at hf ⊢
      have h1 : LIq nb nh nl ns np nf 13 (afP t n 23 1 20 (nxP t n P)).fr := li_fr h (fr_af.trans fr_nx)
      have h2 := li_sA (t := t) (n := n) (i := 1) h1 (lo := 1) (hi := 6) 1 6 rfl rfl (by omega) (by omega) 3 (by omega) (fun l hl => by omega) (by omega) (by decide)
      have h3 := li_sA (t := t) (n := n) (i := 2) h2 (lo := 0) (hi := 30) 0 30 rfl rfl (by omega) (by omega) 18 (by omega) (fun l hl => by omega) (by omega) (by decide)
      have h4 := li_sA (t := t) (n := n) (i := 3) h3 (lo := 0) (hi := 100) 0 100 rfl rfl (by omega) (by omega) 13 (by omega) (fun l hl => by omega) (by omega) (by decide)
      have h5 := li_sA (t := t) (n := n) (i := 4) h4 (lo := 0) (hi := 9) 0 9 rfl rfl (by omega) (by omega) 4 (by omega) (fun l hl => by omega) (by omega) (by decide)
      exact li_sP (P := reM t n P) h5 (by omega) (fun l hl => by omega) (by omega) (bd_le (nuV_bd (lo := 1) (hi := 20) (by omega) (by omega)) (by decide))
    · rw [if_neg c2] at hf
      exact absurd hf c2
  · rw [if_neg c] at hf
    exact absurd hf c
theorem li_prL (h : LIq nb nh nl ns np nf 13 P.fr) (hv : np < 4) (hf : (prL t n P).f = 0) : LIq nb nh nl ns (np + 1) nf 13 (prL t n P).fr := by
  have hvx : ix (P.fr 9) = np := by rw [h.2.1.2.2.2.2.1, ix_nI (by omega)]
  unfold prL at hf ⊢
  by_cases c : (nuP t n 0 99 P).f = 0
  · rw [if_pos c, hvx] at hf ⊢
    obtain ⟨-, -, -, -, -, -, g⟩ := bnd_b ⟨np, hv⟩
    have g : bnd (55 + np) = 99 := g
    have h1 : LIq nb nh nl ns np nf 13 (sfP (55 + np) (nuV 0 99 P) (nuP t n 0 99 P)).fr := li_sP (li_fr h fr_nu) (by omega) (fun l hl => by omega) (by omega) (bd_le (nuV_bd (lo := 0) (hi := 99) (by omega) (by omega)) (by omega))
    exact li_i9 h1 hv
  · rw [if_neg c] at hf
    exact absurd hf c
end LL
