/-! the parser goes on: where it has come to -/
def eG (n k : Nat) (P : Pk) : Prop := ∃ e : Nat, k ≤ e ∧ e ≤ n ∧ P.e = nI e
theorem eG_wg {n q : Nat} {P : Pk} {k p : Int32} (h : eG n q P) : eG n q (wgP k p P) := by
  unfold wgP
  split
  · exact h
  · exact h
theorem eG_nx {t : Nat → Int32} {n k : Nat} (hn : n ≤ 900) {P : Pk} (h : eG n k P) : eG n k (nxP t n P) := by
  obtain ⟨e, h0, h1, h2⟩ := h
  have hix : ix P.e = e := by rw [h2, ix_nI (by omega)]
  unfold nxP
  rw [hix]
  have hk := ruT_le spB (by decide) t n (n - e) e h1
  have hk1 : run spB t n e ≤ n := hk.1
  have hk2 : e ≤ run spB t n e := hk.2
  generalize run spB t n e = j at hk1 hk2
  unfold nxQ
  split
  · exact ⟨_, by omega, hk1, rfl⟩
  · next hc =>
    have hkn : j < n := by
      apply Nat.not_le.mp
      intro q
      apply hc
      unfold seT
      rw [if_neg (by omega)]
    split
    · have h3 := ruT_le smB (by decide) t n (n - j) j hk1
      exact ⟨run smB t n j, by have : j ≤ run smB t n j := h3.2; omega, h3.1, rfl⟩
    · split
      · have h3 := ruT_le dgB (by decide) t n (n - j) j hk1
        exact ⟨run dgB t n j, by have : j ≤ run dgB t n j := h3.2; omega, h3.1, rfl⟩
      · exact ⟨j + 1, by omega, hkn, rfl⟩
/-- behind the next token there is less left, if it isn't the end -/
theorem eG_ns {t : Nat → Int32} {n k : Nat} (hn : n ≤ 900) {P : Pk} (h : eG n k P) (hk : ¬ (nxP t n P).k = 0) : eG n (k + 1) (nxP t n P) := by
  obtain ⟨e, h0, h1, h2⟩ := h
  have hix : ix P.e = e := by rw [h2, ix_nI (by omega)]
  have e0 : nxP t n P = nxQ t n P (run spB t n e) := by unfold nxP; rw [hix]
  rw [e0] at hk ⊢
  clear e0
  have hkk := ruT_le spB (by decide) t n (n - e) e h1
  have hk1 : run spB t n e ≤ n := hkk.1
  have hk2 : e ≤ run spB t n e := hkk.2
  generalize run spB t n e = j at hk1 hk2 hk
  unfold nxQ at hk ⊢
  by_cases hc : seT t n j = -1
  · rw [if_pos hc] at hk
    exact absurd rfl hk
  · rw [if_neg hc] at hk ⊢
    have hkn : j < n := by
      apply Nat.not_le.mp
      intro q
      apply hc
      unfold seT
      rw [if_neg (by omega)]
    split
    · next hs =>
      have h4 : run smB t n j = run smB t n (j + 1) := run_t hkn hs
      have h5 := ruT_le smB (by decide) t n (n - (j + 1)) (j + 1) hkn
      have h6 : j + 1 ≤ run smB t n (j + 1) := h5.2
      have h7 : run smB t n (j + 1) ≤ n := h5.1
      exact ⟨run smB t n j, by omega, by omega, rfl⟩
    · split
      · next hs =>
        have h4 : run dgB t n j = run dgB t n (j + 1) := run_t hkn hs
        have h5 := ruT_le dgB (by decide) t n (n - (j + 1)) (j + 1) hkn
        have h6 : j + 1 ≤ run dgB t n (j + 1) := h5.2
        have h7 : run dgB t n (j + 1) ≤ n := h5.1
        exact ⟨run dgB t n j, by omega, by omega, rfl⟩
      · exact ⟨j + 1, by omega, hkn, rfl⟩
section EG
variable {t : Nat → Int32} {n q : Nat} {P : Pk}
theorem eG_pa (hn : n ≤ 900) (h : eG n q P) : eG n q (paP t n P) := by
  unfold paP; split
  · exact eG_nx hn h
  · exact h
theorem eG_mu (hn : n ≤ 900) {i : Nat} (h : eG n q P) : eG n q (muP t n i P) := by
  unfold muP; repeat' split
  all_goals first | exact h | exact eG_nx hn h | exact eG_wg h
theorem eG_nw {lo hi : Int32} (h : eG n q P) : eG n q (nuW lo hi P) := by
  unfold nuW; repeat' split
  all_goals first | exact h | exact eG_wg h
theorem eG_nu (hn : n ≤ 900) {lo hi : Int32} (h : eG n q P) : eG n q (nuP t n lo hi P) := by
  unfold nuP; repeat' split
  all_goals first | exact h | exact eG_nx hn (eG_nw h) | exact eG_nw h
theorem eG_af (hn : n ≤ 900) {i : Nat} {lo hi : Int32} (h : eG n q P) : eG n q (afP t n i lo hi P) := eG_nu hn (eG_mu hn h)
theorem eG_si (hn : n ≤ 900) (h : eG n q P) : eG n q (siP t n P) := by
  unfold siP; split
  · exact eG_nx hn h
  · exact eG_mu hn h
theorem eG_mn (h : eG n q P) : eG n q (mnP P) := by
  unfold mnP; split
  · exact h
  · exact eG_wg h
theorem eG_na {i : Nat} (h : eG n q P) : eG n q (naP i P) := h
theorem eG_sf {i : Nat} {x : Int32} (h : eG n q P) : eG n q (sfP i x P) := h
theorem eG_nn (hn : n ≤ 900) {i : Nat} (h : eG n q P) : eG n q (nnP t n i P) := by
  unfold nnP nnC nnW; repeat' split
  all_goals first | exact h | exact eG_nx hn (eG_na h) | exact eG_wg h | exact eG_mn h
theorem eG_nd {lo hi : Int32} (h : eG n q P) : eG n q (ndP lo hi P) := by
  unfold ndP ndW; repeat' split
  all_goals first | exact h | exact eG_wg h | exact eG_mn h
theorem eG_bc {c : Bool} (h : eG n q P) : eG n q (beC c P) := by
  have h1 : eG n q (beW c P) := by unfold beW; split; exact h; exact eG_wg h
  unfold beC; split
  · exact eG_wg h1
  · exact h1
theorem eG_be (hn : n ≤ 900) {i : Nat} {c : Bool} (h : eG n q P) : eG n q (beP t n i c P) := by
  unfold beP; split
  · exact eG_pa hn (eG_bc h)
  · exact h
theorem eG_sA (hn : n ≤ 900) {i x : Nat} {lo hi : Int32} (h : eG n q P) : eG n q (stA t n i x lo hi P) := eG_sf (eG_af hn h)
theorem eG_sS (hn : n ≤ 900) {x : Nat} (h : eG n q P) : eG n q (stS t n x P) := eG_sf (eG_si hn h)
theorem eG_in {k : Nat} (h : eG n q P) : eG n q (inP k P) := by unfold inP; split <;> exact h
end EG
section EL
variable {t : Nat → Int32} {n q : Nat} {P : Pk}
theorem eG_beL (hn : n ≤ 900) (h : eG n q P) : eG n q (beL t n P) := by
  unfold beL; split
  · exact eG_in (eG_sS hn (eG_sA hn (eG_nn hn h)))
  · exact h
theorem eG_loL (hn : n ≤ 900) (h : eG n q P) : eG n q (loL t n P) := by
  unfold loL; split
  · exact eG_in (eG_sA hn (eG_sA hn (eG_nn hn h)))
  · exact h
theorem eG_hk (h : eG n q P) : eG n q (hkW P) := by
  unfold hkW; split
  · exact h
  · exact eG_wg h
theorem eG_hoL (hn : n ≤ 900) (h : eG n q P) : eG n q (hoL t n P) := by
  unfold hoL; split
  · have h1 := eG_nn (t := t) hn (i := ix (P.fr 6)) h
    unfold hoM; split
    · exact eG_in (eG_sA hn (eG_sA hn (eG_sS hn (eG_sf (eG_nx hn (eG_hk h1))))))
    · exact eG_hk h1
  · exact h
theorem eG_reL (hn : n ≤ 900) (h : eG n q P) : eG n q (reL t n P) := by
  have h1 : eG n q (reW P) := by unfold reW; split; exact h; exact eG_wg h
  have h2 : eG n q (reM t n (reW P)) := by
    unfold reM
    exact eG_sA hn (eG_sA hn (eG_sA hn (eG_sA hn (eG_af hn (eG_nx hn h1)))))
  unfold reL; split
  · split
    · exact eG_sf h2
    · exact h2
  · exact h1
theorem eG_prL (hn : n ≤ 900) (h : eG n q P) : eG n q (prL t n P) := by
  unfold prL; split
  · exact eG_sf (eG_sf (eG_nu hn h))
  · exact eG_nu hn h
theorem eG_aa {l : Nat} (h : eG n q P) : eG n q (aaW l P) := by
  unfold aaW; repeat' split
  all_goals first | exact h | exact eG_wg h
theorem eG_aw {l : Nat} {c : Int32} (h : eG n q P) : eG n q (abW c l P) := by
  unfold abW; repeat' split
  all_goals first | exact h | exact eG_wg h
theorem eG_fw {l m : Nat} (h : eG n q P) : eG n q (frW l m P) := by
  unfold frW; repeat' split
  all_goals first | exact h | exact eG_wg h
theorem eG_sw {l m : Nat} (h : eG n q P) : eG n q (saW l m P) := by
  unfold saW; repeat' split
  all_goals first | exact h | exact eG_wg h
theorem eG_abL (hn : n ≤ 900) (h : eG n q P) : eG n q (abL t n P) := by
  have h1 : eG n q (abQ t n P) := eG_pa hn (eG_aa (eG_nd h))
  unfold abL abE; split
  · exact eG_sf (eG_pa hn (eG_aw (eG_nd h1)))
  · exact eG_pa hn (eG_aw (eG_nd h1))
theorem eG_frL (hn : n ≤ 900) (h : eG n q P) : eG n q (frL t n P) := by
  have h1 : eG n q (frQ t n P) := eG_pa hn (eG_nd h)
  unfold frL frE; split
  · exact eG_sf (eG_sf (eG_sf (eG_pa hn (eG_fw (eG_nd h1)))))
  · exact eG_pa hn (eG_fw (eG_nd h1))
theorem eG_saL (hn : n ≤ 900) (h : eG n q P) : eG n q (saL t n P) := by
  have h1 : eG n q (saQ t n P) := eG_pa hn (eG_nd h)
  have h2 : eG n q (saR t n P) := eG_pa hn (eG_sw (eG_nd h1))
  unfold saL saE; split
  · exact eG_sf (eG_sf (eG_sf (eG_sf (eG_pa hn (eG_nd h2)))))
  · exact eG_pa hn (eG_nd h2)
theorem eG_rl (hn : n ≤ 900) (h : eG n q P) : eG n q (rlL t n P) := by
  unfold rlL
  repeat' split
  · exact eG_reL hn h
  · exact eG_beL hn (eG_be hn h)
  · exact eG_hoL hn (eG_be hn h)
  · exact eG_loL hn (eG_be hn h)
  · exact eG_abL hn (eG_be hn h)
  · exact eG_frL hn (eG_be hn h)
  · exact eG_prL hn (eG_be hn h)
  · exact eG_saL hn (eG_be hn h)
  · exact eG_wg h
end EL
theorem isT_k {i : Nat} {P : Pk} (h : ¬ P.k = 2) : isT i P = false := isW_2 h
theorem rl_wg {t : Nat → Int32} {n : Nat} {P : Pk} (h : ¬ P.k = 2) : rlL t n P = wgP 1 P.a P := by
  unfold rlL
  rw [if_neg (bf (isT_k h)), if_neg (bf (isT_k h)), if_neg (bf (isT_k h)), if_neg (bf (isT_k h)), if_neg (bf (isT_k h)), if_neg (bf (isT_k h)), if_neg (bf (isT_k h)), if_neg (bf (isT_k h))]
theorem rl_end {t : Nat → Int32} {n : Nat} {P : Pk} (h : P.k = 0) : ¬ (rlL t n P).f = 0 := by
  rw [rl_wg (by rw [h]; decide)]
  unfold wgP
  split
  · exact (by decide : ¬ (1 : Int32) = 0)
  · assumption
