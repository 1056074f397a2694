/-! lines that tell one more: what they make of the state -/
section LN
variable {t : Nat → Int32} {n i x : Nat} {lo hi : Int32} {P : Pk}
theorem nu_n (h : ¬ P.f = 0) : nuP t n lo hi P = P := if_neg h
theorem mu_n (h : ¬ P.f = 0) : muP t n i P = P := if_neg h
theorem af_n (h : ¬ P.f = 0) : afP t n i lo hi P = P := by unfold afP; rw [mu_n h, nu_n h]
theorem sip_n (h : ¬ P.f = 0) : siP t n P = P := by
  unfold siP
  rw [if_neg (bf (show isT 8 P = false from isW_1 h)), mu_n h]
theorem nn_n (h : ¬ P.f = 0) : nnP t n i P = P := if_neg h
theorem sA_n (h : ¬ P.f = 0) : stA t n i x lo hi P = sfP x (afV t n i lo hi P) P := by unfold stA; rw [af_n h]
theorem sS_n (h : ¬ P.f = 0) : stS t n x P = sfP x (siV P) P := by unfold stS; rw [sip_n h]
theorem in_n {k : Nat} (h : ¬ P.f = 0) : inP k P = P := if_neg h
theorem in_y {k : Nat} (h : P.f = 0) : inP k P = icP k P := if_pos h
theorem hkw_n (h : ¬ P.f = 0) : hkW P = P := (hk_p (P := P) (k := 0) (by decide) (fun q => absurd q h)).symm
theorem na_1 {j : Nat} (h1 : j ≠ 74 + i) (h2 : ¬ (87 + 8 * i ≤ j ∧ j < 87 + 8 * i + 8)) (h8 : ix P.z ≤ 8) : (naP i P).fr j = P.fr j := by
  show (if j = 74 + i then P.z else (if 87 + 8 * i ≤ j ∧ j < 87 + 8 * i + ix P.z then P.le (j - (87 + 8 * i)) else P.fr j)) = _
  rw [if_neg h1, if_neg (by omega)]
theorem na_2 : (naP i P).fr (74 + i) = P.z := if_pos rfl
theorem na_3 {j : Nat} (hi : i < 13) (h : j < ix P.z) (h8 : ix P.z ≤ 8) : (naP i P).fr (87 + 8 * i + j) = P.le j := by
  show (if 87 + 8 * i + j = 74 + i then P.z else (if 87 + 8 * i ≤ 87 + 8 * i + j ∧ 87 + 8 * i + j < 87 + 8 * i + ix P.z then P.le (87 + 8 * i + j - (87 + 8 * i)) else P.fr (87 + 8 * i + j))) = _
  rw [if_neg (by omega), if_pos ⟨by omega, by omega⟩, Nat.add_sub_cancel_left]
theorem sA_fr : (stA t n i x lo hi P).fr = fun q => if q = x then afV t n i lo hi P else P.fr q := by
  funext q
  show (if q = x then afV t n i lo hi P else (afP t n i lo hi P).fr q) = _
  rw [fr_af]
theorem sS_fr : (stS t n x P).fr = fun q => if q = x then siV P else P.fr q := by
  funext q
  show (if q = x then siV P else (siP t n P).fr q) = _
  rw [fr_si]
theorem z_8 (EO : eOk n P) (hk : P.k = 2) : ix P.z ≤ 8 := by
  obtain ⟨z, h1, h2, h3⟩ := EO.2 hk
  rw [h3, ix_nI (by omega)]; exact h2
end LN
section PXS
variable {Δ : Cx} {E : Ev} {L : Nat} {h : Hp} {c : Nat → Option Cel} {P : Pk} {i k : Nat} {x : Int32}
theorem px_sf (X : PX Δ E L h c P) : PX Δ E L h c (sfP i x P) := px_fr (g := fun q => if q = i then x else P.fr q) X
theorem px_usf (X : PX Δ E L h c (sfP i x P)) : PX Δ E L h c P := px_fr (P := sfP i x P) (g := P.fr) X
theorem px_ic (X : PX Δ E L h c P) : PX Δ E L h c (icP k P) := px_sf X
theorem px_in (X : PX Δ E L h c P) : PX Δ E L h c (inP k P) := by
  unfold inP
  split
  · exact px_ic X
  · exact X
theorem px_eq {Q : Pk} (e : P = Q) (X : PX Δ E L h c P) : PX Δ E L h c Q := e ▸ X
theorem sf_f {h0 : ¬ P.f = 0} : ¬ (sfP i x P).f = 0 := h0
theorem f_sf : (sfP i x P).f = P.f := rfl
theorem f_ic : (icP k P).f = P.f := rfl
end PXS
section LNB
variable {t : Nat → Int32} {n : Nat} {P S1 S2 S3 S4 S5 : Pk}
theorem beL_y (q1 : S1 = nnP t n (4 + ix (P.fr 5)) P) (q2 : S2 = stA t n 10 (11 + 2 * ix (P.fr 5)) 1 30 S1) (q3 : S3 = stS t n (11 + 2 * ix (P.fr 5) + 1) S2) (f : P.f = 0) : beL t n P = inP 5 S3 := by
  rw [q3, q2, q1]; exact if_pos f
theorem loL_y (q1 : S1 = nnP t n (8 + ix (P.fr 7)) P) (q2 : S2 = stA t n 24 (35 + 4 * ix (P.fr 7)) 0 30 S1) (q3 : S3 = stA t n 16 (35 + 4 * ix (P.fr 7) + 1) 0 9 S2) (f : P.f = 0) : loL t n P = inP 7 S3 := by
  rw [q3, q2, q1]; exact if_pos f
theorem hoL_y (q1 : S1 = nnP t n (ix (P.fr 6)) P) (q2 : S2 = sfP (19 + 4 * ix (P.fr 6)) (hkV S1) (paP t n (hkW S1))) (q3 : S3 = stS t n (19 + 4 * ix (P.fr 6) + 1) S2) (q4 : S4 = stA t n 21 (19 + 4 * ix (P.fr 6) + 2) 0 50 S3) (q5 : S5 = stA t n 19 (19 + 4 * ix (P.fr 6) + 3) 1 6 S4) (f : P.f = 0) (f2 : (hkW S1).f = 0) : hoL t n P = inP 6 S5 := by
  rw [pa_y f2] at q2
  rw [q5, q4, q3, q2]
  rw [q1] at f2 ⊢
  unfold hoL
  rw [if_pos f]
  exact if_pos f2
theorem hoL_n (q1 : S1 = nnP t n (ix (P.fr 6)) P) (f : P.f = 0) (f2 : ¬ (hkW S1).f = 0) : hoL t n P = hkW S1 := by
  rw [q1] at f2 ⊢
  unfold hoL
  rw [if_pos f]
  exact if_neg f2
theorem be_nf (q1 : S1 = nnP t n (4 + ix (P.fr 5)) P) (q2 : S2 = stA t n 10 (11 + 2 * ix (P.fr 5)) 1 30 S1) (q3 : S3 = stS t n (11 + 2 * ix (P.fr 5) + 1) S2) (h : ¬ S3.f = 0) : ¬ (beL t n P).f = 0 := by
  by_cases e : P.f = 0
  · rw [beL_y q1 q2 q3 e, in_n h]; exact h
  · rw [show beL t n P = P from if_neg e]; exact e
theorem lo_nf (q1 : S1 = nnP t n (8 + ix (P.fr 7)) P) (q2 : S2 = stA t n 24 (35 + 4 * ix (P.fr 7)) 0 30 S1) (q3 : S3 = stA t n 16 (35 + 4 * ix (P.fr 7) + 1) 0 9 S2) (h : ¬ S3.f = 0) : ¬ (loL t n P).f = 0 := by
  by_cases e : P.f = 0
  · rw [loL_y q1 q2 q3 e, in_n h]; exact h
  · rw [show loL t n P = P from if_neg e]; exact e
theorem ho_nf (q1 : S1 = nnP t n (ix (P.fr 6)) P) (q2 : S2 = sfP (19 + 4 * ix (P.fr 6)) (hkV S1) (paP t n (hkW S1))) (q3 : S3 = stS t n (19 + 4 * ix (P.fr 6) + 1) S2) (q4 : S4 = stA t n 21 (19 + 4 * ix (P.fr 6) + 2) 0 50 S3) (q5 : S5 = stA t n 19 (19 + 4 * ix (P.fr 6) + 3) 1 6 S4) (h : ¬ S5.f = 0) : ¬ (hoL t n P).f = 0 := by
  by_cases e : P.f = 0
  · by_cases e2 : (hkW S1).f = 0
    · rw [hoL_y q1 q2 q3 q4 q5 e e2, in_n h]; exact h
    · rw [hoL_n q1 e e2]; exact e2
  · rw [show hoL t n P = P from if_neg e]; exact e
theorem ho_f (q2 : S2 = sfP (19 + 4 * ix (P.fr 6)) (hkV S1) (paP t n (hkW S1))) (q3 : S3 = stS t n (19 + 4 * ix (P.fr 6) + 1) S2) (q4 : S4 = stA t n 21 (19 + 4 * ix (P.fr 6) + 2) 0 50 S3) (q5 : S5 = stA t n 19 (19 + 4 * ix (P.fr 6) + 3) 1 6 S4) (h : S5.f = 0) : (hkW S1).f = 0 ∧ S1.f = 0 := by
  rw [q5] at h
  have h := f_sA h
  rw [q4] at h
  have h := f_sA h
  rw [q3] at h
  have h := f_sS h
  rw [q2, f_sf, f_pa] at h
  refine ⟨h, ?_⟩
  by_cases c : S1.f = 0
  · exact c
  · rw [hkw_n c] at h; exact h
/-! the tables behind such a line -/
theorem be_fr (q1 : S1 = nnP t n (4 + ix (P.fr 5)) P) (q2 : S2 = stA t n 10 (11 + 2 * ix (P.fr 5)) 1 30 S1) (q3 : S3 = stS t n (11 + 2 * ix (P.fr 5) + 1) S2) (h : S3.f = 0) : P.f = 0 ∧ P.k = 2 ∧ beL t n P = icP 5 S3 ∧ ∀ q, (beL t n P).fr q = if q = 5 then P.fr 5 + 1 else if q = 11 + 2 * ix (P.fr 5) + 1 then siV S2 else if q = 11 + 2 * ix (P.fr 5) then afV t n 10 1 30 S1 else (naP (4 + ix (P.fr 5)) P).fr q := by
  have f2 : S2.f = 0 := f_sS (t := t) (n := n) (x := 11 + 2 * ix (P.fr 5) + 1) (by rw [← q3]; exact h)
  have f1 : S1.f = 0 := f_sA (t := t) (n := n) (i := 10) (x := 11 + 2 * ix (P.fr 5)) (lo := 1) (hi := 30) (by rw [← q2]; exact f2)
  obtain ⟨g1, g2, -, g4⟩ := f_nn (t := t) (n := n) (i := 4 + ix (P.fr 5)) (P := P) (by rw [← q1]; exact f1)
  have e0 : beL t n P = icP 5 S3 := (beL_y q1 q2 q3 g1).trans (in_y h)
  refine ⟨g1, g2, e0, fun q => ?_⟩
  have a1 : ∀ q, S1.fr q = (naP (4 + ix (P.fr 5)) P).fr q := fun q => by rw [q1, g4, fr_nx]
  have a2 : ∀ q, S2.fr q = if q = 11 + 2 * ix (P.fr 5) then afV t n 10 1 30 S1 else S1.fr q := fun q => by rw [q2, sA_fr]
  have a3 : ∀ q, S3.fr q = if q = 11 + 2 * ix (P.fr 5) + 1 then siV S2 else S2.fr q := fun q => by rw [q3, sS_fr]
  rw [e0]
  show (if q = 5 then S3.fr 5 + 1 else S3.fr q) = _
  by_cases c : q = 5
  · rw [if_pos c, if_pos c, a3, if_neg (by omega), a2, if_neg (by omega), a1]
    rw [show (naP (4 + ix (P.fr 5)) P).fr 5 = P.fr 5 from by
      show (if 5 = 74 + (4 + ix (P.fr 5)) then P.z else (if 87 + 8 * (4 + ix (P.fr 5)) ≤ 5 ∧ 5 < 87 + 8 * (4 + ix (P.fr 5)) + ix P.z then P.le (5 - (87 + 8 * (4 + ix (P.fr 5)))) else P.fr 5)) = _
      rw [if_neg (by omega), if_neg (by omega)]]
  · rw [if_neg c, if_neg c, a3, a2, a1]
theorem lo_fr (q1 : S1 = nnP t n (8 + ix (P.fr 7)) P) (q2 : S2 = stA t n 24 (35 + 4 * ix (P.fr 7)) 0 30 S1) (q3 : S3 = stA t n 16 (35 + 4 * ix (P.fr 7) + 1) 0 9 S2) (h : S3.f = 0) : P.f = 0 ∧ P.k = 2 ∧ loL t n P = icP 7 S3 ∧ ∀ q, (loL t n P).fr q = if q = 7 then P.fr 7 + 1 else if q = 35 + 4 * ix (P.fr 7) + 1 then afV t n 16 0 9 S2 else if q = 35 + 4 * ix (P.fr 7) then afV t n 24 0 30 S1 else (naP (8 + ix (P.fr 7)) P).fr q := by
  have f2 : S2.f = 0 := f_sA (t := t) (n := n) (i := 16) (x := 35 + 4 * ix (P.fr 7) + 1) (lo := 0) (hi := 9) (by rw [← q3]; exact h)
  have f1 : S1.f = 0 := f_sA (t := t) (n := n) (i := 24) (x := 35 + 4 * ix (P.fr 7)) (lo := 0) (hi := 30) (by rw [← q2]; exact f2)
  obtain ⟨g1, g2, -, g4⟩ := f_nn (t := t) (n := n) (i := 8 + ix (P.fr 7)) (P := P) (by rw [← q1]; exact f1)
  have e0 : loL t n P = icP 7 S3 := (loL_y q1 q2 q3 g1).trans (in_y h)
  refine ⟨g1, g2, e0, fun q => ?_⟩
  have a1 : ∀ q, S1.fr q = (naP (8 + ix (P.fr 7)) P).fr q := fun q => by rw [q1, g4, fr_nx]
  have a2 : ∀ q, S2.fr q = if q = 35 + 4 * ix (P.fr 7) then afV t n 24 0 30 S1 else S1.fr q := fun q => by rw [q2, sA_fr]
  have a3 : ∀ q, S3.fr q = if q = 35 + 4 * ix (P.fr 7) + 1 then afV t n 16 0 9 S2 else S2.fr q := fun q => by rw [q3, sA_fr]
  rw [e0]
  show (if q = 7 then S3.fr 7 + 1 else S3.fr q) = _
  by_cases c : q = 7
  · rw [if_pos c, if_pos c, a3, if_neg (by omega), a2, if_neg (by omega), a1]
    rw [show (naP (8 + ix (P.fr 7)) P).fr 7 = P.fr 7 from by
      show (if 7 = 74 + (8 + ix (P.fr 7)) then P.z else (if 87 + 8 * (8 + ix (P.fr 7)) ≤ 7 ∧ 7 < 87 + 8 * (8 + ix (P.fr 7)) + ix P.z then P.le (7 - (87 + 8 * (8 + ix (P.fr 7)))) else P.fr 7)) = _
      rw [if_neg (by omega), if_neg (by omega)]]
  · rw [if_neg c, if_neg c, a3, a2, a1]
theorem ho_fr (q1 : S1 = nnP t n (ix (P.fr 6)) P) (q2 : S2 = sfP (19 + 4 * ix (P.fr 6)) (hkV S1) (paP t n (hkW S1))) (q3 : S3 = stS t n (19 + 4 * ix (P.fr 6) + 1) S2) (q4 : S4 = stA t n 21 (19 + 4 * ix (P.fr 6) + 2) 0 50 S3) (q5 : S5 = stA t n 19 (19 + 4 * ix (P.fr 6) + 3) 1 6 S4) (h : S5.f = 0) : P.f = 0 ∧ P.k = 2 ∧ hoL t n P = icP 6 S5 ∧ ∀ q, (hoL t n P).fr q = if q = 6 then P.fr 6 + 1 else if q = 19 + 4 * ix (P.fr 6) + 3 then afV t n 19 1 6 S4 else if q = 19 + 4 * ix (P.fr 6) + 2 then afV t n 21 0 50 S3 else if q = 19 + 4 * ix (P.fr 6) + 1 then siV S2 else if q = 19 + 4 * ix (P.fr 6) then hkV S1 else (naP (ix (P.fr 6)) P).fr q := by
  obtain ⟨f2, f1⟩ := ho_f q2 q3 q4 q5 h
  obtain ⟨g1, g2, -, g4⟩ := f_nn (t := t) (n := n) (i := ix (P.fr 6)) (P := P) (by rw [← q1]; exact f1)
  have e0 : hoL t n P = icP 6 S5 := (hoL_y q1 q2 q3 q4 q5 g1 f2).trans (in_y h)
  refine ⟨g1, g2, e0, fun q => ?_⟩
  have hw : (hkW S1).fr = S1.fr := by
    unfold hkW
    split
    · rfl
    · exact fr_wg
  have a1 : ∀ q, S1.fr q = (naP (ix (P.fr 6)) P).fr q := fun q => by rw [q1, g4, fr_nx]
  have a2 : ∀ q, S2.fr q = if q = 19 + 4 * ix (P.fr 6) then hkV S1 else S1.fr q := fun q => by
    rw [q2]
    show (if q = 19 + 4 * ix (P.fr 6) then hkV S1 else (paP t n (hkW S1)).fr q) = _
    rw [fr_pa, hw]
  have a3 : ∀ q, S3.fr q = if q = 19 + 4 * ix (P.fr 6) + 1 then siV S2 else S2.fr q := fun q => by rw [q3, sS_fr]
  have a4 : ∀ q, S4.fr q = if q = 19 + 4 * ix (P.fr 6) + 2 then afV t n 21 0 50 S3 else S3.fr q := fun q => by rw [q4, sA_fr]
  have a5 : ∀ q, S5.fr q = if q = 19 + 4 * ix (P.fr 6) + 3 then afV t n 19 1 6 S4 else S4.fr q := fun q => by rw [q5, sA_fr]
  rw [e0]
  show (if q = 6 then S5.fr 6 + 1 else S5.fr q) = _
  by_cases c : q = 6
  · rw [if_pos c, if_pos c, a5, if_neg (by omega), a4, if_neg (by omega), a3, if_neg (by omega), a2, if_neg (by omega), a1]
    rw [show (naP (ix (P.fr 6)) P).fr 6 = P.fr 6 from by
      show (if 6 = 74 + ix (P.fr 6) then P.z else (if 87 + 8 * ix (P.fr 6) ≤ 6 ∧ 6 < 87 + 8 * ix (P.fr 6) + ix P.z then P.le (6 - (87 + 8 * ix (P.fr 6))) else P.fr 6)) = _
      rw [if_neg (by omega), if_neg (by omega)]]
  · rw [if_neg c, if_neg c, a5, a4, a3, a2, a1]
end LNB
section LNX
variable {Δ : Cx} {E : Ev} {L : Nat} {h : Hp} {c : Nat → Option Cel} {P S1 S2 S3 S4 S5 : Pk}
theorem px_be (q1 : S1 = nnP E.t E.n (4 + ix (P.fr 5)) P) (q2 : S2 = stA E.t E.n 10 (11 + 2 * ix (P.fr 5)) 1 30 S1) (q3 : S3 = stS E.t E.n (11 + 2 * ix (P.fr 5) + 1) S2) (X : PX Δ E L h c S3) : PX Δ E L h c (beL E.t E.n P) := by
  by_cases e : P.f = 0
  · rw [beL_y q1 q2 q3 e]; exact px_in X
  · rw [show beL E.t E.n P = P from if_neg e]
    rw [nn_n e] at q1
    rw [q1, sA_n e] at q2
    have e2 : ¬ S2.f = 0 := by rw [q2]; exact e
    rw [sS_n e2] at q3
    rw [q3] at X
    have X := px_usf X
    rw [q2] at X
    exact px_usf X
theorem px_lo (q1 : S1 = nnP E.t E.n (8 + ix (P.fr 7)) P) (q2 : S2 = stA E.t E.n 24 (35 + 4 * ix (P.fr 7)) 0 30 S1) (q3 : S3 = stA E.t E.n 16 (35 + 4 * ix (P.fr 7) + 1) 0 9 S2) (X : PX Δ E L h c S3) : PX Δ E L h c (loL E.t E.n P) := by
  by_cases e : P.f = 0
  · rw [loL_y q1 q2 q3 e]; exact px_in X
  · rw [show loL E.t E.n P = P from if_neg e]
    rw [nn_n e] at q1
    rw [q1, sA_n e] at q2
    have e2 : ¬ S2.f = 0 := by rw [q2]; exact e
    rw [sA_n e2] at q3
    rw [q3] at X
    have X := px_usf X
    rw [q2] at X
    exact px_usf X
theorem px_ho (q1 : S1 = nnP E.t E.n (ix (P.fr 6)) P) (q2 : S2 = sfP (19 + 4 * ix (P.fr 6)) (hkV S1) (paP E.t E.n (hkW S1))) (q3 : S3 = stS E.t E.n (19 + 4 * ix (P.fr 6) + 1) S2) (q4 : S4 = stA E.t E.n 21 (19 + 4 * ix (P.fr 6) + 2) 0 50 S3) (q5 : S5 = stA E.t E.n 19 (19 + 4 * ix (P.fr 6) + 3) 1 6 S4) (X : PX Δ E L h c S5) : PX Δ E L h c (hoL E.t E.n P) := by
  have key : ¬ (hkW S1).f = 0 → PX Δ E L h c (hkW S1) := fun e => by
    rw [pa_n e] at q2
    have e2 : ¬ S2.f = 0 := by rw [q2]; exact e
    rw [sS_n e2] at q3
    have e3 : ¬ S3.f = 0 := by rw [q3]; exact e2
    rw [sA_n e3] at q4
    have e4 : ¬ S4.f = 0 := by rw [q4]; exact e3
    rw [sA_n e4] at q5
    rw [q5] at X
    have X := px_usf X
    rw [q4] at X
    have X := px_usf X
    rw [q3] at X
    have X := px_usf X
    rw [q2] at X
    exact px_usf X
  by_cases e : P.f = 0
  · by_cases e2 : (hkW S1).f = 0
    · rw [hoL_y q1 q2 q3 q4 q5 e e2]; exact px_in X
    · rw [hoL_n q1 e e2]; exact key e2
  · have q : hkW S1 = P := by rw [q1, nn_n e, hkw_n e]
    rw [show hoL E.t E.n P = P from if_neg e]
    have := key (by rw [q]; exact e)
    rw [q] at this
    exact this
end LNX
