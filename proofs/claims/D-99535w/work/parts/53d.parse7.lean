section LL
variable {t : Nat → Int32} {n nb nh nl ns np nf x i : Nat} {P : Pk}
theorem f_aa {l : Nat} (h : (aaW l P).f = 0) : P.f = 0 ∧ aaW l P = P ∧ P.fr (35 + 4 * l + 2) ≤ 0 := by
  unfold aaW at h ⊢
  by_cases c : P.f = 0
  · rw [if_pos c] at h ⊢
    by_cases c2 : P.fr (35 + 4 * l + 2) ≤ 0
    · exact ⟨c, if_pos c2, c2⟩
    · rw [if_neg c2] at h; exact absurd h f_wgN
  · rw [if_neg c] at h; exact absurd h c
theorem f_aw {l : Nat} {x : Int32} (h : (abW x l P).f = 0) : P.f = 0 ∧ abW x l P = P ∧ x < P.fr (19 + 4 * l + 3) := by
  unfold abW at h ⊢
  by_cases c : P.f = 0
  · rw [if_pos c] at h ⊢
    by_cases c2 : x < P.fr (19 + 4 * l + 3)
    · exact ⟨c, if_pos c2, c2⟩
    · rw [if_neg c2] at h; exact absurd h f_wgN
  · rw [if_neg c] at h; exact absurd h c
theorem f_fw {l m : Nat} (h : (frW l m P).f = 0) : P.f = 0 ∧ frW l m P = P ∧ ¬ l = m ∧ ¬ hbS (P.fr (35 + 4 * l + 3)) (nI m) = true := by
  unfold frW at h ⊢
  by_cases c : P.f = 0
  · rw [if_pos c] at h ⊢
    by_cases c2 : l = m ∨ hbS (P.fr (35 + 4 * l + 3)) (nI m) = true
    · rw [if_pos c2] at h; exact absurd h f_wgN
    · exact ⟨c, if_neg c2, fun q => c2 (Or.inl q), fun q => c2 (Or.inr q)⟩
  · rw [if_neg c] at h; exact absurd h c
theorem f_sw {l m : Nat} (h : (saW l m P).f = 0) : P.f = 0 ∧ saW l m P = P ∧ ¬ l = m := by
  unfold saW at h ⊢
  by_cases c : P.f = 0
  · rw [if_pos c] at h ⊢
    by_cases c2 : l = m
    · rw [if_pos c2] at h; exact absurd h f_wgN
    · exact ⟨c, if_neg c2, c2⟩
  · rw [if_neg c] at h; exact absurd h c
theorem li_abL (h : LIq nb nh nl ns np nf 13 P.fr) (hf : (abL t n P).f = 0) : LIq nb nh nl ns np nf 13 (abL t n P).fr := by
  unfold abL abE at hf ⊢
  by_cases c : (paP t n (abW (cnH P.fr (nI (ix (ndV 0 3 (abQ t n P))) + 1) (ix (P.fr 7))) (ix (ndV 0 3 (abQ t n P))) (ndP 0 3 (abQ t n P)))).f = 0
  · rw [if_pos c] at hf ⊢
    rw [f_pa] at c
    obtain ⟨c1, -, -⟩ := f_aw c
    have frq : (abQ t n P).fr = P.fr := (fr_pa.trans fr_aa).trans fr_nd
    have frz : (paP t n (abW (cnH P.fr (nI (ix (ndV 0 3 (abQ t n P))) + 1) (ix (P.fr 7))) (ix (ndV 0 3 (abQ t n P))) (ndP 0 3 (abQ t n P)))).fr = P.fr := by
      have e1 : ∀ (x : Int32) (l : Nat) (Q : Pk), (abW x l Q).fr = Q.fr := by
        intro x l Q
        unfold abW; split
        · split
          · rfl
          · exact fr_wg
        · rfl
      exact fr_pa.trans ((e1 _ _ _).trans (fr_nd.trans frq))
    obtain ⟨c2, -, -, -, i, i1, i2, i3, i4, i5⟩ := nd_okI 0 3 rfl rfl (by omega) (by omega) c1
    have c2 : (aaW (ix (ndV 8 12 P)) (ndP 8 12 P)).f = 0 := f_pa.symm.trans c2
    obtain ⟨c3, -, -⟩ := f_aa c2
    obtain ⟨-, -, -, -, j, j1, j2, j3, j4, j5⟩ := nd_okI 8 12 rfl rfl (by omega) (by omega) c3
    have e1 : ix (ndV 8 12 P) = j - 8 := (congrArg ix j5).trans (ix_nI (by omega))
    have e2 : ix (ndV 0 3 (abQ t n P)) = i := (congrArg ix i5).trans (ix_nI (by omega))
    have ti := nm_told (li_fr h frq) (by omega) i3
    unfold told at ti
    have := h.1
    refine li_fr (li_ab (l := ix (ndV 8 12 P)) (g := ix (ndV 0 3 (abQ t n P))) (li_fr h frz) (by omega) (by omega)) rfl
  · rw [if_neg c] at hf
    exact absurd hf c
end LL
