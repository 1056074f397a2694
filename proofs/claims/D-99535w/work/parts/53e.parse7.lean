section LL
variable {t : Nat → Int32} {n nb nh nl ns np nf x i : Nat} {P : Pk}
theorem or_bd {x : Int32} {b : Nat} (hx : bd x 31) (hb : b < 5) : bd (x ||| (1 : Int32) <<< (nI b &&& 31)) 31 := by
  obtain ⟨k, h1, rfl⟩ := hx
  have : ∀ (k : Fin 32) (b : Fin 5), (nI k.val ||| (1 : Int32) <<< (nI b.val &&& 31)).toInt.toNat ≤ 31 ∧ nI k.val ||| (1 : Int32) <<< (nI b.val &&& 31) = nI (nI k.val ||| (1 : Int32) <<< (nI b.val &&& 31)).toInt.toNat := by decide +kernel
  obtain ⟨q1, q2⟩ := this ⟨k, by omega⟩ ⟨b, hb⟩
  exact ⟨_, q1, q2⟩
theorem li_orF (h : LIq nb nh nl ns np nf 13 P.fr) {a b : Nat} (ha : a < 5) (hb : b < 5) : LIq nb nh nl ns np nf 13 (orF a b P).fr := by
  obtain ⟨-, -, -, g⟩ := bnd_l ⟨a, ha⟩
  have g : bnd (35 + 4 * a + 3) = 31 := g
  have h3 := h.2.2.1 (35 + 4 * a + 3) (by omega) (by omega)
  rw [g] at h3
  exact li_sf (fr := P.fr) h (by omega) (fun l hl => by omega) (by omega) (by rw [g]; exact or_bd h3 hb)
theorem li_frL (h : LIq nb nh nl ns np nf 13 P.fr) (hv : nf < 6) (hf : (frL t n P).f = 0) : LIq nb nh nl ns np (nf + 1) 13 (frL t n P).fr := by
  unfold frL frE at hf ⊢
  by_cases c : (paP t n (frW (ix (ndV 8 12 P)) (ix (ndV 8 12 (frQ t n P))) (ndP 8 12 (frQ t n P)))).f = 0
  · rw [if_pos c] at hf ⊢
    have frz : (paP t n (frW (ix (ndV 8 12 P)) (ix (ndV 8 12 (frQ t n P))) (ndP 8 12 (frQ t n P)))).fr = P.fr := fr_pa.trans (fr_fw.trans (fr_nd.trans (fr_pa.trans fr_nd)))
    obtain ⟨i, i1, i2⟩ := ndV_nat (lo := 8) (hi := 12) (P := P) (by omega) (by omega)
    obtain ⟨j, j1, j2⟩ := ndV_nat (lo := 8) (hi := 12) (P := frQ t n P) (by omega) (by omega)
    have e1 : ix (ndV 8 12 P) = i := (congrArg ix i2).trans (ix_nI (by omega))
    have e2 : ix (ndV 8 12 (frQ t n P)) = j := (congrArg ix j2).trans (ix_nI (by omega))
    rw [e1, e2] at frz ⊢
    have h1 := li_orF (a := j) (b := i) (li_orF (a := i) (b := j) (li_fr h frz) (by omega) (by omega)) (by omega) (by omega)
    exact li_i8 h1 hv
  · rw [if_neg c] at hf
    exact absurd hf c
theorem li_saL (h : LIq nb nh nl ns np nf 13 P.fr) (hv : ns < 5) (hf : (saL t n P).f = 0) : LIq nb nh nl (ns + 1) np nf 13 (saL t n P).fr := by
  have hvx : ix (P.fr 10) = ns := by rw [h.2.1.2.2.2.1, ix_nI (by omega)]
  unfold saL saE at hf ⊢
  by_cases c : (paP t n (ndP 4 7 (saR t n P))).f = 0
  · rw [if_pos c, hvx] at hf ⊢
    have frq : (saQ t n P).fr = P.fr := by unfold saQ; rw [fr_pa, fr_nd]
    have frr : (saR t n P).fr = P.fr := by unfold saR; rw [fr_pa, fr_sw, fr_nd]; exact frq
    have frz : (paP t n (ndP 4 7 (saR t n P))).fr = P.fr := by rw [fr_pa, fr_nd]; exact frr
    rw [f_pa] at c
    obtain ⟨c1, -, -, -, k, k1, k2, k3, k4, k5⟩ := nd_okI (lo := 4) (hi := 7) (P := saR t n P) 4 7 rfl rfl (by omega) (by omega) c
    unfold saR at c1
    rw [f_pa] at c1
    obtain ⟨c2, -, -⟩ := f_sw c1
    obtain ⟨c3, -, -, -, j, j1, j2, j3, j4, j5⟩ := nd_okI (lo := 0) (hi := 3) (P := saQ t n P) 0 3 rfl rfl (by omega) (by omega) c2
    unfold saQ at c3
    rw [f_pa] at c3
    obtain ⟨-, -, -, -, i, i1, i2, i3, i4, i5⟩ := nd_okI (lo := 0) (hi := 3) (P := P) 0 3 rfl rfl (by omega) (by omega) c3
    have e1 : ix (ndV 0 3 P) = i := (congrArg ix i5).trans (ix_nI (by omega))
    have e2 : ix (ndV 0 3 (saQ t n P)) = j := (congrArg ix j5).trans (ix_nI (by omega))
    have e3 : ix (ndV 4 7 (saR t n P)) = k - 4 := (congrArg ix k5).trans (ix_nI (by omega))
    have ti := nm_told h (by omega) i3
    have tj := nm_told (li_fr h frq) (by omega) j3
    have tk := nm_told (li_fr h frr) (by omega) k3
    unfold told at ti tj tk
    have h1 := h.1
    rw [e1, e2, e3]
    have g1 : LIq nb nh nl ns np nf 13 (sfP (59 + 3 * ns + 2) (nI (k - 4)) (sfP (59 + 3 * ns + 1) (nI j) (sfP (59 + 3 * ns) (nI i) (paP t n (ndP 4 7 (saR t n P)))))).fr := by
      refine li_sn ?_ (i := 59 + 3 * ns + 2) (by omega) (by omega) ⟨k - 4, by omega, rfl⟩
      refine li_sn ?_ (i := 59 + 3 * ns + 1) (by omega) (by omega) ⟨j, by omega, rfl⟩
      exact li_sn (li_fr h frz) (i := 59 + 3 * ns) (by omega) (by omega) ⟨i, by omega, rfl⟩
    refine li_iX g1 hv ⟨i, j, k - 4, by omega, by omega, by omega, ?_, ?_, ?_⟩
    · show (if 59 + 3 * ns = 59 + 3 * ns + 2 then _ else (if 59 + 3 * ns = 59 + 3 * ns + 1 then _ else (if 59 + 3 * ns = 59 + 3 * ns then _ else _))) = _
      rw [if_neg (by omega), if_neg (by omega), if_pos rfl]
    · show (if 59 + 3 * ns + 1 = 59 + 3 * ns + 2 then _ else (if 59 + 3 * ns + 1 = 59 + 3 * ns + 1 then _ else _)) = _
      rw [if_neg (by omega), if_pos rfl]
    · exact if_pos rfl
  · rw [if_neg c] at hf
    exact absurd hf c
end LL
