section LL
variable {t : Nat → Int32} {n nb nh nl ns np nf x i : Nat} {P : Pk}
theorem be_ok {c : Bool} (hi : isT i P = true) (h : (beP t n i c P).f = 0) : c = true ∧ ¬ P.fr 0 = 0 ∧ beP t n i c P = nxP t n P := by
  have hf := isT_f hi
  have hc := be_f hi h
  subst hc
  unfold beP paP at h ⊢
  rw [if_pos hi] at h ⊢
  have e1 : beW true P = P := if_pos rfl
  unfold beC at h ⊢
  rw [e1] at h ⊢
  by_cases z : P.fr 0 = 0
  · rw [if_pos z] at h
    rw [if_neg f_wgN] at h
    exact absurd h f_wgN
  · rw [if_neg z] at h ⊢
    rw [if_pos hf] at h ⊢
    exact ⟨rfl, z, rfl⟩
theorem cB_ltI {k v : Nat} {c : Int32} (m : Nat) (hc : c = nI m) (h : cB P k c = true) (hv : P.fr k = nI v) (h1 : v < 2 ^ 31) (h2 : m < 2 ^ 31) : v < m := by
  subst hc
  have := of_decide_eq_true h
  rw [hv] at this
  exact (nI_ltI h1 h2).mp this
theorem li_ko (h : LIq nb nh nl ns np nf x P.fr) : kOkP P.fr := by
  obtain ⟨a1, a2, -⟩ := h
  exact ⟨⟨nb, by omega, a2.1⟩, ⟨nh, by omega, a2.2.1⟩, ⟨nl, by omega, a2.2.2.1⟩, ⟨nf, by omega, a2.2.2.2.2.2⟩, ⟨np, by omega, a2.2.2.2.2.1⟩, ⟨ns, by omega, a2.2.2.2.1⟩⟩
theorem li_so (h : LIq nb nh nl ns np nf x P.fr) : sOk P.fr := fun i hi => by
  obtain ⟨z, h1, h2, -⟩ := h.2.2.2.2.2.1 i hi
  exact ⟨z, h1, h2⟩
theorem cB_lt {k m v : Nat} (h : cB P k (nI m) = true) (hv : P.fr k = nI v) (h1 : v < 2 ^ 31) (h2 : m < 2 ^ 31) : v < m := by
  have := of_decide_eq_true h
  rw [hv] at this
  exact (nI_ltI h1 h2).mp this
end LL
theorem f_beL {t : Nat → Int32} {n : Nat} {P : Pk} (h : (beL t n P).f = 0) : P.f = 0 := by
  unfold beL at h
  apply Classical.byContradiction
  intro c
  rw [if_neg c] at h; exact c h
theorem f_hoL {t : Nat → Int32} {n : Nat} {P : Pk} (h : (hoL t n P).f = 0) : P.f = 0 := by
  unfold hoL at h
  apply Classical.byContradiction
  intro c
  rw [if_neg c] at h; exact c h
theorem f_loL {t : Nat → Int32} {n : Nat} {P : Pk} (h : (loL t n P).f = 0) : P.f = 0 := by
  unfold loL at h
  apply Classical.byContradiction
  intro c
  rw [if_neg c] at h; exact c h
theorem f_prL {t : Nat → Int32} {n : Nat} {P : Pk} (h : (prL t n P).f = 0) : P.f = 0 := by
  unfold prL at h
  by_cases c : (nuP t n 0 99 P).f = 0
  · exact nu_f c
  · rw [if_neg c] at h; exact absurd h c
theorem f_nd {lo hi : Int32} {P : Pk} (h : (ndP lo hi P).f = 0) : P.f = 0 := by
  unfold ndP at h
  apply Classical.byContradiction
  intro c
  rw [if_neg c] at h; exact c h
theorem f_frL {t : Nat → Int32} {n : Nat} {P : Pk} (h : (frL t n P).f = 0) : P.f = 0 := by
  have key : (paP t n (frW (ix (ndV 8 12 P)) (ix (ndV 8 12 (frQ t n P))) (ndP 8 12 (frQ t n P)))).f = 0 := by
    unfold frL frE at h
    apply Classical.byContradiction
    intro c
    rw [if_neg c] at h; exact c h
  rw [f_pa] at key
  have h2 := f_nd (f_fw key).1
  unfold frQ at h2
  rw [f_pa] at h2
  exact f_nd h2
theorem f_saL {t : Nat → Int32} {n : Nat} {P : Pk} (h : (saL t n P).f = 0) : P.f = 0 := by
  have key : (paP t n (ndP 4 7 (saR t n P))).f = 0 := by
    unfold saL saE at h
    apply Classical.byContradiction
    intro c
    rw [if_neg c] at h; exact c h
  rw [f_pa] at key
  have h2 := f_nd key
  unfold saR at h2
  rw [f_pa] at h2
  have h3 := f_nd (f_sw h2).1
  unfold saQ at h3
  rw [f_pa] at h3
  exact f_nd h3
theorem f_abL {t : Nat → Int32} {n : Nat} {P : Pk} (h : (abL t n P).f = 0) : P.f = 0 := by
  have key : (paP t n (abW (cnH P.fr (nI (ix (ndV 0 3 (abQ t n P))) + 1) (ix (P.fr 7))) (ix (ndV 0 3 (abQ t n P))) (ndP 0 3 (abQ t n P)))).f = 0 := by
    unfold abL abE at h
    apply Classical.byContradiction
    intro c
    rw [if_neg c] at h; exact c h
  rw [f_pa] at key
  have h2 := f_nd (f_aw key).1
  unfold abQ at h2
  rw [f_pa] at h2
  exact f_nd (f_aa h2).1
theorem li_rl {t : Nat → Int32} {n : Nat} (hn : n ≤ 900) {P : Pk} (h : LI P.fr) (E : eOk n P) (hf : (rlL t n P).f = 0) : LI (rlL t n P).fr := by
  obtain ⟨nb, nh, nl, ns, np, nf, h⟩ := h
  have hb : ∀ {i : Nat} {c : Bool}, LIq nb nh nl ns np nf 13 (beP t n i c P).fr := li_fr h fr_be
  have he : ∀ {i : Nat} {c : Bool}, eOk n (beP t n i c P) := eOk_be hn E
  have h1 := h.1
  have h2 := h.2.1
  unfold rlL at hf ⊢
  by_cases b14 : isT 14 P = true
  · rw [if_pos b14] at hf ⊢; exact ⟨_, _, _, _, _, _, li_reL h hf⟩
  rw [if_neg b14] at hf ⊢
  by_cases b2 : isT 2 P = true
  · rw [if_pos b2] at hf ⊢
    have hq := be_f b2 (f_beL hf)
    have hv := cB_ltI (P := P) (k := 5) (c := 4) 4 rfl hq h2.1 (by omega) (by omega)
    exact ⟨_, _, _, _, _, _, li_beL hb hv he hf⟩
  rw [if_neg b2] at hf ⊢
  by_cases b7 : isT 7 P = true
  · rw [if_pos b7] at hf ⊢
    have hq := be_f b7 (f_hoL hf)
    have hv := cB_ltI (P := P) (k := 6) (c := 4) 4 rfl hq h2.2.1 (by omega) (by omega)
    exact ⟨_, _, _, _, _, _, li_hoL hb hv he hf⟩
  rw [if_neg b7] at hf ⊢
  by_cases b9 : isT 9 P = true
  · rw [if_pos b9] at hf ⊢
    have hq := be_f b9 (f_loL hf)
    have hv := cB_ltI (P := P) (k := 7) (c := 5) 5 rfl hq h2.2.2.1 (by omega) (by omega)
    exact ⟨_, _, _, _, _, _, li_loL hb hv he hf⟩
  rw [if_neg b9] at hf ⊢
  by_cases b1 : isT 1 P = true
  · rw [if_pos b1] at hf ⊢
    exact ⟨_, _, _, _, _, _, li_abL hb hf⟩
  rw [if_neg b1] at hf ⊢
  by_cases b6 : isT 6 P = true
  · rw [if_pos b6] at hf ⊢
    have hq := be_f b6 (f_frL hf)
    have hv := cB_ltI (P := P) (k := 8) (c := 6) 6 rfl hq h2.2.2.2.2.2 (by omega) (by omega)
    exact ⟨_, _, _, _, _, _, li_frL hb hv hf⟩
  rw [if_neg b6] at hf ⊢
  by_cases b11 : isT 11 P = true
  · rw [if_pos b11] at hf ⊢
    have hq := be_f b11 (f_prL hf)
    have hv := cB_ltI (P := P) (k := 9) (c := 4) 4 rfl hq h2.2.2.2.2.1 (by omega) (by omega)
    exact ⟨_, _, _, _, _, _, li_prL hb hv hf⟩
  rw [if_neg b11] at hf ⊢
  by_cases b17 : isT 17 P = true
  · rw [if_pos b17] at hf ⊢
    have hq := be_f b17 (f_saL hf)
    have hv := cB_ltI (P := P) (k := 10) (c := 5) 5 rfl hq h2.2.2.2.1 (by omega) (by omega)
    exact ⟨_, _, _, _, _, _, li_saL hb hv hf⟩
  rw [if_neg b17] at hf
  exact absurd hf f_wgN
