section LL
variable {t : Nat → Int32} {n nb nh nl ns np nf x i : Nat} {P : Pk}
theorem li_beL (h : LIq nb nh nl ns np nf 13 P.fr) (hv : nb < 4) (E : eOk n P) (hf : (beL t n P).f = 0) : LIq (nb + 1) nh nl ns np nf 13 (beL t n P).fr := by
  have hvx : ix (P.fr 5) = nb := by rw [h.2.1.1, ix_nI (by omega)]
  unfold beL at hf ⊢
  by_cases c : P.f = 0
  · rw [if_pos c, hvx] at hf ⊢
    obtain ⟨f1, e1⟩ := f_in hf
    rw [e1]
    obtain ⟨-, f4, f5, e2⟩ := f_nn (f_sA (f_sS f1))
    obtain ⟨g1, g2, -⟩ := bnd_b ⟨nb, hv⟩
    have g1 : bnd (11 + 2 * nb) = 30 := g1
    have g2 : bnd (11 + 2 * nb + 1) = 1 := g2
    have h1 : LIq nb nh nl ns np nf (4 + nb) (nnP t n (4 + nb) P).fr := by
      rw [e2]
      exact li_fr (li_na h (by omega) (by unfold told; have := h.1; omega) E f4 f5) fr_nx
    have h2 := li_sA (t := t) (n := n) (i := 11 + 2 * nb) h1 (lo := 1) (hi := 30) 1 30 rfl rfl (by omega) (by omega) 10 (by omega) (fun l hl => by omega) (by omega) (by omega)
    have h3 := li_sS (t := t) (n := n) (i := 11 + 2 * nb + 1) h2 (by omega) (fun l hl => by omega) (by omega) (by omega)
    exact li_i5 h3 hv
  · rw [if_neg c] at hf
    exact absurd hf c
theorem li_loL (h : LIq nb nh nl ns np nf 13 P.fr) (hv : nl < 5) (E : eOk n P) (hf : (loL t n P).f = 0) : LIq nb nh (nl + 1) ns np nf 13 (loL t n P).fr := by
  have hvx : ix (P.fr 7) = nl := by rw [h.2.1.2.2.1, ix_nI (by omega)]
  unfold loL at hf ⊢
  by_cases c : P.f = 0
  · rw [if_pos c, hvx] at hf ⊢
    obtain ⟨f1, e1⟩ := f_in hf
    rw [e1]
    obtain ⟨-, f4, f5, e2⟩ := f_nn (f_sA (f_sA f1))
    obtain ⟨g1, g2, -⟩ := bnd_l ⟨nl, hv⟩
    have g1 : bnd (35 + 4 * nl) = 30 := g1
    have g2 : bnd (35 + 4 * nl + 1) = 9 := g2
    have h1 : LIq nb nh nl ns np nf (8 + nl) (nnP t n (8 + nl) P).fr := by
      rw [e2]
      exact li_fr (li_na h (by omega) (by unfold told; have := h.1; omega) E f4 f5) fr_nx
    have h2 := li_sA (t := t) (n := n) (i := 35 + 4 * nl) h1 (lo := 0) (hi := 30) 0 30 rfl rfl (by omega) (by omega) 24 (by omega) (fun l hl => by omega) (by omega) (by omega)
    have h3 := li_sA (t := t) (n := n) (i := 35 + 4 * nl + 1) h2 (lo := 0) (hi := 9) 0 9 rfl rfl (by omega) (by omega) 16 (by omega) (fun l hl => by omega) (by omega) (by omega)
    exact li_i7 h3 hv
  · rw [if_neg c] at hf
    exact absurd hf c
theorem li_hoL (h : LIq nb nh nl ns np nf 13 P.fr) (hv : nh < 4) (E : eOk n P) (hf : (hoL t n P).f = 0) : LIq nb (nh + 1) nl ns np nf 13 (hoL t n P).fr := by
  have hvx : ix (P.fr 6) = nh := by rw [h.2.1.2.1, ix_nI (by omega)]
  unfold hoL at hf ⊢
  by_cases c : P.f = 0
  · rw [if_pos c, hvx] at hf ⊢
    unfold hoM at hf ⊢
    by_cases c2 : (hkW (nnP t n nh P)).f = 0
    · rw [if_pos c2] at hf ⊢
      obtain ⟨hk1, hk2⟩ := hkV_bd c2
      obtain ⟨f1, e1⟩ := f_in hf
      rw [e1]
      have f2 : (nnP t n nh P).f = 0 := hk2 ▸ c2
      obtain ⟨-, f4, f5, e2⟩ := f_nn f2
      obtain ⟨-, -, g0, g1, g2, g3, -⟩ := bnd_b ⟨nh, hv⟩
      have g0 : bnd (19 + 4 * nh) = 3 := g0
      have g1 : bnd (19 + 4 * nh + 1) = 1 := g1
      have g2 : bnd (19 + 4 * nh + 2) = 50 := g2
      have g3 : bnd (19 + 4 * nh + 3) = 6 := g3
      have h1 : LIq nb nh nl ns np nf nh (nnP t n nh P).fr := by
        rw [e2]
        exact li_fr (li_na h (by omega) (by unfold told; omega) E f4 f5) fr_nx
      have h1b : LIq nb nh nl ns np nf nh (sfP (19 + 4 * nh) (hkV (nnP t n nh P)) (nxP t n (hkW (nnP t n nh P)))).fr := li_sP (li_fr h1 (fr_nx.trans (congrArg Pk.fr hk2))) (by omega) (fun l hl => by omega) (by omega) (bd_le hk1 (by omega))
      have h2 := li_sS (t := t) (n := n) (i := 19 + 4 * nh + 1) h1b (by omega) (fun l hl => by omega) (by omega) (by omega)
      have h3 := li_sA (t := t) (n := n) (i := 19 + 4 * nh + 2) h2 (lo := 0) (hi := 50) 0 50 rfl rfl (by omega) (by omega) 21 (by omega) (fun l hl => by omega) (by omega) (by omega)
      have h4 := li_sA (t := t) (n := n) (i := 19 + 4 * nh + 3) h3 (lo := 1) (hi := 6) 1 6 rfl rfl (by omega) (by omega) 19 (by omega) (fun l hl => by omega) (by omega) (by omega)
      exact li_i6 h4 hv
    · rw [if_neg c2] at hf
      exact absurd hf c2
  · rw [if_neg c] at hf
    exact absurd hf c
end LL
