/-! a line keeps it true -/
theorem f_wgN {k p : Int32} {P : Pk} : ¬ (wgP k p P).f = 0 := by
  unfold wgP
  by_cases h : P.f = 0
  · rw [if_pos h]; exact (by decide : ¬ (1 : Int32) = 0)
  · rw [if_neg h]; exact h
theorem f_nx {t : Nat → Int32} {n : Nat} {P : Pk} : (nxP t n P).f = P.f := by
  unfold nxP nxQ
  split
  · rfl
  · split
    · rfl
    · split <;> rfl
theorem f_pa {t : Nat → Int32} {n : Nat} {P : Pk} : (paP t n P).f = P.f := by
  unfold paP; split
  · exact f_nx
  · rfl
section FF
variable {t : Nat → Int32} {n i x : Nat} {lo hi : Int32} {P : Pk}
theorem f_mu (h : (muP t n i P).f = 0) : P.f = 0 := by
  unfold muP at h
  split at h
  · assumption
  · exact h
theorem f_nu (h : (nuP t n lo hi P).f = 0) : P.f = 0 := nu_f h
theorem f_af (h : (afP t n i lo hi P).f = 0) : P.f = 0 := f_mu (f_nu h)
theorem f_si (h : (siP t n P).f = 0) : P.f = 0 := by
  unfold siP at h
  split at h
  · exact f_nx.symm.trans h
  · exact f_mu h
theorem f_sA (h : (stA t n i x lo hi P).f = 0) : P.f = 0 := f_af (t := t) (n := n) (i := i) (lo := lo) (hi := hi) h
theorem f_sS (h : (stS t n x P).f = 0) : P.f = 0 := f_si (t := t) (n := n) h
theorem f_in {k : Nat} (h : (inP k P).f = 0) : P.f = 0 ∧ inP k P = icP k P := by
  unfold inP at h ⊢
  by_cases c : P.f = 0
  · exact ⟨c, if_pos c⟩
  · rw [if_neg c] at h; exact absurd h c
theorem f_nn (h : (nnP t n i P).f = 0) : P.f = 0 ∧ P.k = 2 ∧ ¬ 0 ≤ fnS P 13 0 ∧ nnP t n i P = nxP t n (naP i P) := by
  unfold nnP at h ⊢
  by_cases c : P.f = 0
  · rw [if_pos c] at h ⊢
    by_cases c2 : (nnC P).f = 0
    · rw [if_pos c2] at h ⊢
      refine ⟨c, (nnC_ok c c2).2, ?_, rfl⟩
      intro z
      unfold nnC at c2
      by_cases c3 : (mnP P).f = 0
      · rw [if_pos c3] at c2
        unfold nnW at c2
        rw [if_pos z] at c2
        exact f_wgN c2
      · rw [if_neg c3] at c2
        exact c3 c2
    · rw [if_neg c2] at h
      exact absurd h c2
  · rw [if_neg c] at h
    exact absurd h c
end FF
theorem nuV_bd {lo hi : Nat} {P : Pk} (hl : lo ≤ hi) (hh : hi < 2 ^ 30) : bd (nuV (nI lo) (nI hi) P) hi := by
  unfold nuV
  by_cases h1 : P.f = 0
  · rw [if_pos h1]
    by_cases h2 : (nuW (nI lo) (nI hi) P).f = 0
    · rw [if_pos h2]
      unfold nuW at h2
      split at h2
      · split at h2
        · next c =>
          have c2 := of_decide_eq_true c
          obtain ⟨k, hk, e⟩ := in_nat2 (n := hi) hh (decide_eq_true ⟨Int32.le_trans (nI_pos' (by omega)) c2.1, c2.2⟩)
          exact ⟨k, hk, e⟩
        · exact absurd h2 f_wgN
      · exact absurd h2 f_wgN
    · rw [if_neg h2]; exact ⟨lo, hl, rfl⟩
  · rw [if_neg h1]; exact ⟨lo, hl, rfl⟩
theorem nuV_ge {lo hi : Nat} {P : Pk} (hl : lo ≤ hi) (hh : hi < 2 ^ 30) : ∃ k : Nat, lo ≤ k ∧ k ≤ hi ∧ nuV (nI lo) (nI hi) P = nI k := by
  unfold nuV
  by_cases h1 : P.f = 0
  · rw [if_pos h1]
    by_cases h2 : (nuW (nI lo) (nI hi) P).f = 0
    · rw [if_pos h2]
      unfold nuW at h2
      split at h2
      · split at h2
        · next c =>
          have c2 := of_decide_eq_true c
          obtain ⟨k, hk, e⟩ := in_nat2 (n := hi) hh (decide_eq_true ⟨Int32.le_trans (nI_pos' (by omega)) c2.1, c2.2⟩)
          exact ⟨k, (nI_leI (a := lo) (b := k) (by omega) (by omega)).mp (e ▸ c2.1), hk, e⟩
        · exact absurd h2 f_wgN
      · exact absurd h2 f_wgN
    · rw [if_neg h2]; exact ⟨lo, Nat.le_refl _, hl, rfl⟩
  · rw [if_neg h1]; exact ⟨lo, Nat.le_refl _, hl, rfl⟩
theorem siV_bd {P : Pk} : bd (siV P) 1 := by
  unfold siV
  split
  · exact ⟨0, by omega, rfl⟩
  · exact ⟨1, by omega, rfl⟩
theorem hkV_bd {P : Pk} (h : (hkW P).f = 0) : bd (hkV P) 3 ∧ hkW P = P := by
  unfold hkW at h ⊢
  by_cases c : 0 ≤ hkV P
  · refine ⟨?_, if_pos c⟩
    unfold hkV at c ⊢
    by_cases c1 : isT 5 P = true
    · rw [if_pos c1]; exact ⟨0, by omega, rfl⟩
    rw [if_neg c1] at c ⊢
    by_cases c2 : isT 20 P = true
    · rw [if_pos c2]; exact ⟨1, by omega, rfl⟩
    rw [if_neg c2] at c ⊢
    by_cases c3 : isT 22 P = true
    · rw [if_pos c3]; exact ⟨2, by omega, rfl⟩
    rw [if_neg c3] at c ⊢
    by_cases c4 : isT 12 P = true
    · rw [if_pos c4]; exact ⟨3, by omega, rfl⟩
    rw [if_neg c4] at c
    exact absurd c (by decide)
  · rw [if_neg c] at h
    exact absurd h f_wgN
theorem nd_ok {lo hi : Nat} {P : Pk} (hl : lo ≤ hi) (hh : hi < 13) (h : (ndP (nI lo) (nI hi) P).f = 0) : P.f = 0 ∧ P.k = 2 ∧ (mnP P).f = 0 ∧ ndP (nI lo) (nI hi) P = P ∧ ∃ i : Nat, lo ≤ i ∧ i ≤ hi ∧ nmB P i = true ∧ fnS P 13 0 = nI i ∧ ndV (nI lo) (nI hi) P = nI (i - lo) := by
  unfold ndP at h ⊢
  by_cases c1 : P.f = 0
  · rw [if_pos c1] at h ⊢
    by_cases c2 : (mnP P).f = 0
    · rw [if_pos c2] at h ⊢
      have e := ndW_ok c1 h
      refine ⟨c1, (mnP_ok c1 c2).2, c2, e, ?_⟩
      have hW := h
      unfold ndW at h
      by_cases c3 : inS (fnS P 13 0) (nI lo) (nI hi) = true
      · have c4 := of_decide_eq_true c3
        obtain ⟨i, i1, i2, i3, i4, -⟩ := fn_some (P := P) (m := 13) (k := 0) (Int32.le_trans (nI_pos' (n := lo) (by omega)) c4.1)
        rw [i4] at c4
        have j1 := (nI_leI (a := lo) (b := i) (by omega) (by omega)).mp c4.1
        have j2 := (nI_leI (a := i) (b := hi) (by omega) (by omega)).mp c4.2
        refine ⟨i, j1, j2, i3, i4, ?_⟩
        unfold ndV
        rw [if_pos c1, if_pos c2, if_pos hW, i4]
        exact pk_sub j1
      · rw [if_neg c3] at h
        exact absurd h f_wgN
    · rw [if_neg c2] at h
      exact absurd h c2
  · rw [if_neg c1] at h
    exact absurd h c1
theorem nd_okI {lo hi : Int32} {P : Pk} (u v : Nat) (hlo : lo = nI u) (hhi : hi = nI v) (hl : u ≤ v) (hh : v < 13) (h : (ndP lo hi P).f = 0) : P.f = 0 ∧ P.k = 2 ∧ (mnP P).f = 0 ∧ ndP lo hi P = P ∧ ∃ i : Nat, u ≤ i ∧ i ≤ v ∧ nmB P i = true ∧ fnS P 13 0 = nI i ∧ ndV lo hi P = nI (i - u) := by
  subst hlo; subst hhi
  exact nd_ok hl hh h
theorem nm_told {nb nh nl ns np nf i : Nat} {P : Pk} (h : LIq nb nh nl ns np nf 13 P.fr) (hi : i < 13) (hb : nmB P i = true) : told nb nh nl i := by
  obtain ⟨z, h1, h2, h3⟩ := h.2.2.2.2.2.1 i hi
  unfold nmB szB at hb
  rw [Bool.and_eq_true, Bool.and_eq_true] at hb
  have := of_decide_eq_true hb.1.1
  rw [h2] at this
  have hz : 0 < z := (nI_ltI (a := 0) (by omega) (by omega)).mp this
  rcases h3.mp hz with q | q
  · exact q
  · omega
def LI (fr : Nat → Int32) : Prop := ∃ nb nh nl ns np nf : Nat, LIq nb nh nl ns np nf 13 fr
section LL
variable {t : Nat → Int32} {n nb nh nl ns np nf x i : Nat} {P : Pk}
theorem li_fr {f g : Nat → Int32} (h : LIq nb nh nl ns np nf x f) (e : g = f) : LIq nb nh nl ns np nf x g := e ▸ h
theorem li_sA (h : LIq nb nh nl ns np nf x P.fr) {lo hi : Int32} (u v : Nat) (hlo : lo = nI u) (hhi : hi = nI v) (hl : u ≤ v) (hh : v < 2 ^ 30) (j : Nat) (h1 : i < 5 ∨ 10 < i) (h2 : ∀ l, l < 5 → i ≠ 35 + 4 * l + 2) (h3 : i < 59) (hv : v ≤ bnd i) : LIq nb nh nl ns np nf x (stA t n j i lo hi P).fr := by
  subst hlo; subst hhi
  exact li_sf (fr := (afP t n j (nI u) (nI v) P).fr) (li_fr h fr_af) h1 h2 h3 (bd_le (nuV_bd hl hh) hv)
theorem li_sS (h : LIq nb nh nl ns np nf x P.fr) (h1 : i < 5 ∨ 10 < i) (h2 : ∀ l, l < 5 → i ≠ 35 + 4 * l + 2) (h3 : i < 59) (hv : 1 ≤ bnd i) : LIq nb nh nl ns np nf x (stS t n i P).fr :=
  li_sf (fr := (siP t n P).fr) (li_fr h fr_si) h1 h2 h3 (bd_le siV_bd hv)
theorem li_sP (h : LIq nb nh nl ns np nf x P.fr) {v : Int32} (h1 : i < 5 ∨ 10 < i) (h2 : ∀ l, l < 5 → i ≠ 35 + 4 * l + 2) (h3 : i < 59) (hv : bd v (bnd i)) : LIq nb nh nl ns np nf x (sfP i v P).fr := li_sf (fr := P.fr) h h1 h2 h3 hv
theorem li_i5 (h : LIq nb nh nl ns np nf (4 + nb) P.fr) (hv : nb < 4) : LIq (nb + 1) nh nl ns np nf 13 (icP 5 P).fr := by
  have a1 := h.1
  have a2 := h.2.1
  refine li_ct (fr := P.fr) h (c := 5) (v := P.fr 5 + 1) (by omega) (by omega) ⟨?_, (if_neg (by omega)).trans a2.2.1, (if_neg (by omega)).trans a2.2.2.1, (if_neg (by omega)).trans a2.2.2.2.1, (if_neg (by omega)).trans a2.2.2.2.2.1, (if_neg (by omega)).trans a2.2.2.2.2.2⟩ (by omega) (by omega) (fun i q1 q2 => by omega) (fun i hi => by unfold told; omega)
  rw [if_pos rfl, a2.1]; exact nI_add nb 1
theorem li_i6 (h : LIq nb nh nl ns np nf nh P.fr) (hv : nh < 4) : LIq nb (nh + 1) nl ns np nf 13 (icP 6 P).fr := by
  have a1 := h.1
  have a2 := h.2.1
  refine li_ct (fr := P.fr) h (c := 6) (v := P.fr 6 + 1) (by omega) (by omega) ⟨(if_neg (by omega)).trans a2.1, ?_, (if_neg (by omega)).trans a2.2.2.1, (if_neg (by omega)).trans a2.2.2.2.1, (if_neg (by omega)).trans a2.2.2.2.2.1, (if_neg (by omega)).trans a2.2.2.2.2.2⟩ (by omega) (by omega) (fun i q1 q2 => by omega) (fun i hi => by unfold told; omega)
  rw [if_pos rfl, a2.2.1]; exact nI_add nh 1
theorem li_i7 (h : LIq nb nh nl ns np nf (8 + nl) P.fr) (hv : nl < 5) : LIq nb nh (nl + 1) ns np nf 13 (icP 7 P).fr := by
  have a1 := h.1
  have a2 := h.2.1
  refine li_ct (fr := P.fr) h (c := 7) (v := P.fr 7 + 1) (by omega) (by omega) ⟨(if_neg (by omega)).trans a2.1, (if_neg (by omega)).trans a2.2.1, ?_, (if_neg (by omega)).trans a2.2.2.2.1, (if_neg (by omega)).trans a2.2.2.2.2.1, (if_neg (by omega)).trans a2.2.2.2.2.2⟩ (by omega) (by omega) (fun i q1 q2 => by omega) (fun i hi => by unfold told; omega)
  rw [if_pos rfl, a2.2.2.1]; exact nI_add nl 1
theorem li_i8 (h : LIq nb nh nl ns np nf 13 P.fr) (hv : nf < 6) : LIq nb nh nl ns np (nf + 1) 13 (icP 8 P).fr := by
  have a1 := h.1
  have a2 := h.2.1
  refine li_ct (fr := P.fr) h (c := 8) (v := P.fr 8 + 1) (by omega) (by omega) ⟨(if_neg (by omega)).trans a2.1, (if_neg (by omega)).trans a2.2.1, (if_neg (by omega)).trans a2.2.2.1, (if_neg (by omega)).trans a2.2.2.2.1, (if_neg (by omega)).trans a2.2.2.2.2.1, ?_⟩ (by omega) (by omega) (fun i q1 q2 => by omega) (fun i hi => Iff.rfl)
  rw [if_pos rfl, a2.2.2.2.2.2]; exact nI_add nf 1
theorem li_i9 (h : LIq nb nh nl ns np nf 13 P.fr) (hv : np < 4) : LIq nb nh nl ns (np + 1) nf 13 (icP 9 P).fr := by
  have a1 := h.1
  have a2 := h.2.1
  refine li_ct (fr := P.fr) h (c := 9) (v := P.fr 9 + 1) (by omega) (by omega) ⟨(if_neg (by omega)).trans a2.1, (if_neg (by omega)).trans a2.2.1, (if_neg (by omega)).trans a2.2.2.1, (if_neg (by omega)).trans a2.2.2.2.1, ?_, (if_neg (by omega)).trans a2.2.2.2.2.2⟩ (by omega) (by omega) (fun i q1 q2 => by omega) (fun i hi => Iff.rfl)
  rw [if_pos rfl, a2.2.2.2.2.1]; exact nI_add np 1
theorem li_iX (h : LIq nb nh nl ns np nf 13 P.fr) (hv : ns < 5) (hr : ∃ a b k : Nat, a < nh ∧ b < nh ∧ k < nb ∧ P.fr (59 + 3 * ns) = nI a ∧ P.fr (59 + 3 * ns + 1) = nI b ∧ P.fr (59 + 3 * ns + 2) = nI k) : LIq nb nh nl (ns + 1) np nf 13 (icP 10 P).fr := by
  have a1 := h.1
  have a2 := h.2.1
  refine li_ct (fr := P.fr) h (c := 10) (v := P.fr 10 + 1) (by omega) (by omega) ⟨(if_neg (by omega)).trans a2.1, (if_neg (by omega)).trans a2.2.1, (if_neg (by omega)).trans a2.2.2.1, ?_, (if_neg (by omega)).trans a2.2.2.2.2.1, (if_neg (by omega)).trans a2.2.2.2.2.2⟩ (by omega) (by omega) (fun q q1 q2 => by rw [show q = ns by omega]; exact hr) (fun i hi => Iff.rfl)
  rw [if_pos rfl, a2.2.2.2.1]; exact nI_add ns 1
theorem bnd_b : ∀ v : Fin 4, bnd (11 + 2 * v.val) = 30 ∧ bnd (11 + 2 * v.val + 1) = 1 ∧ bnd (19 + 4 * v.val) = 3 ∧ bnd (19 + 4 * v.val + 1) = 1 ∧ bnd (19 + 4 * v.val + 2) = 50 ∧ bnd (19 + 4 * v.val + 3) = 6 ∧ bnd (55 + v.val) = 99 := by decide
theorem bnd_l : ∀ v : Fin 5, bnd (35 + 4 * v.val) = 30 ∧ bnd (35 + 4 * v.val + 1) = 9 ∧ bnd (35 + 4 * v.val + 2) = 4 ∧ bnd (35 + 4 * v.val + 3) = 31 := by decide
end LL
