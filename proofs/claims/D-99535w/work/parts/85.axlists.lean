/-! ArrayLists of rivers: add, remove, clear -/
theorem mt_mono {Δ : Cx} {d : Nat} {μ : Mi} {av : List Value} {h : Hp} {Q Q' : Option Value → Hp → Prop} (k : mt Δ d μ av h Q') (f : ∀ v h', Q' v h' → Q v h') : mt Δ d μ av h Q := by
  intro hn
  obtain ⟨v, h', a, b, c, g⟩ := k hn
  exact ⟨v, h', a, b, f v h' c, g⟩
theorem ax_el {c : Nat → Option Cel} {n : Nat} {f : Nat → Nat} {g : Nat → Value} (h5 : ∀ i, i < n → g i = .ref (f i) ∧ ∃ (n' : Nat) (f' : Nat → Value), c (f i) = some (13, n', f')) : ∀ i, i < n → ∃ (b n1 : Nat) (f1 : Nat → Value), g i = .ref b ∧ c b = some (13, n1, f1) := by
  intro i hi
  obtain ⟨e1, n', f', e2⟩ := h5 i hi
  exact ⟨_, _, _, e1, e2⟩
theorem ax_add {Δ : Cx} {h : Hp} (d : Nat) {L E cap n a na : Nat} {f : Nat → Nat} {fa : Nat → Value} (A : AX Δ (ce Δ h) 13 L E cap n f) (h15 : n ≤ 15) (ha : ce Δ h a = some (13, na, fa)) : mt Δ (d + 6) muJ2_add [.ref L, .ref a] h (fun v h' => v = some (.int 1) ∧ ∃ E' cap', AX Δ (ce Δ h') 13 L E' cap' (n + 1) (fun i => if i = n then a else f i) ∧ ((E' = E ∧ cap' = cap ∧ n < cap) ∨ (E' = h.1 ∧ n = cap)) ∧ Fr Δ (fun b => b = L ∨ (b = E ∧ n < cap)) 1 24 h h') := by
  obtain ⟨mc, g, h1, h2, h3, h4, h5, h6, h7⟩ := A
  refine mt_mono (t_J2_add d h1 h2 h3 (fun e => by omega) (by omega) h6 h7 (fun _ => ax_el h5) (C := RX14) (TT := TX14) (nF := 5) rfl q2376 ha (Ca := RX14) (Ta := TX14) (Na := 5) rfl q2376 ⟨by omega, by omega⟩ ⟨by omega, by omega⟩) fun v h' q => ?_
  obtain ⟨rfl, E', cap', g', F, r1, r2, r3, r4, r5, r6, r7, r8⟩ := q
  have hk : ∀ i, i < n → ∃ (n' : Nat) (f' : Nat → Value), ce Δ h' (f i) = some (13, n', f') := fun i hi => by
    obtain ⟨e1, n', f', e2⟩ := h5 i hi
    refine ⟨n', f', F.2 _ _ e2 (fun q => ?_)⟩
    rcases q with q | ⟨q, -⟩
    · exact ce_ne e2 h1 (Or.inl (by show 13 ≠ 14; omega)) q
    · exact ce_ne e2 h2 (Or.inl (by show 13 ≠ 103; omega)) q
  have hb := cap2_b (c := cap)
  refine ⟨rfl, E', cap', ⟨mc + 1, g', r1, r2, by omega, ?_, fun i hi => ?_, h6, Or.inl ⟨by omega, r7⟩⟩, ?_, F⟩
  · rcases r8 with ⟨_, e, _⟩ | ⟨_, e, e2⟩
    · omega
    · rw [e]; unfold cap2; split <;> omega
  · by_cases e : i = n
    · subst e
      show g' i = .ref (if i = i then a else f i) ∧ ∃ (n' : Nat) (f' : Nat → Value), ce Δ h' (if i = i then a else f i) = some (13, n', f')
      rw [if_pos rfl]
      refine ⟨r4, na, fa, F.2 _ _ ha (fun q => ?_)⟩
      rcases q with q | ⟨q, -⟩
      · exact ce_ne ha h1 (Or.inl (by show 13 ≠ 14; omega)) q
      · exact ce_ne ha h2 (Or.inl (by show 13 ≠ 103; omega)) q
    · show g' i = .ref (if i = n then a else f i) ∧ ∃ (n' : Nat) (f' : Nat → Value), ce Δ h' (if i = n then a else f i) = some (13, n', f')
      rw [if_neg e]
      exact ⟨(r3 i (by omega)).trans (h5 i (by omega)).1, hk i (by omega)⟩
  · rcases r8 with ⟨e1, e2, e3⟩ | ⟨e1, _, e2⟩
    · exact Or.inl ⟨e1, e2, e3⟩
    · exact Or.inr ⟨e1, e2⟩
theorem ax_rm {Δ : Cx} {h : Hp} (d : Nat) {L E cap n : Nat} {f : Nat → Nat} (A : AX Δ (ce Δ h) 13 L E cap n f) (i : Nat) (hi : i < n) : mt Δ (d + 4) muJ2_remove [.ref L, .int (nI i)] h (fun v h' => v = some (.ref (f i)) ∧ AX Δ (ce Δ h') 13 L E cap (n - 1) (fun j => if j < i then f j else f (j + 1)) ∧ Fr Δ (fun b => b = L ∨ b = E) 0 0 h h') := by
  obtain ⟨mc, g, h1, h2, h3, h4, h5, h6, h7⟩ := A
  have hE : 0 < cap ∧ n0 Δ ≤ E := h7.resolve_right (fun z => by omega)
  refine mt_mono (t_J2_remove d h1 h2 h3 (by omega) h6 hE.2 i hi (ax_el h5) (C := RX14) (TT := TX14) (nF := 5) rfl q2376 ⟨by omega, by omega⟩ (h5 i hi).1) fun v h' q => ?_
  obtain ⟨rfl, F, r1, g', r2, r3⟩ := q
  have hk : ∀ i, i < n → ∃ (n' : Nat) (f' : Nat → Value), ce Δ h' (f i) = some (13, n', f') := fun i hi => by
    obtain ⟨e1, n', f', e2⟩ := h5 i hi
    refine ⟨n', f', F.2 _ _ e2 (fun q => ?_)⟩
    rcases q with q | q
    · exact ce_ne e2 h1 (Or.inl (by show 13 ≠ 14; omega)) q
    · exact ce_ne e2 h2 (Or.inl (by show 13 ≠ 103; omega)) q
  refine ⟨rfl, ⟨mc + 1, g', r1, r2, by omega, h4, fun j hj => ?_, h6, h7⟩, F⟩
  show g' j = .ref (if j < i then f j else f (j + 1)) ∧ ∃ (n' : Nat) (f' : Nat → Value), ce Δ h' (if j < i then f j else f (j + 1)) = some (13, n', f')
  by_cases e : j < i
  · rw [if_pos e]
    exact ⟨(r3 j hj).trans ((if_pos e).trans (h5 j (by omega)).1), hk j (by omega)⟩
  · rw [if_neg e]
    exact ⟨(r3 j hj).trans ((if_neg e).trans (h5 (j + 1) (by omega)).1), hk (j + 1) (by omega)⟩
theorem ax_clear {Δ : Cx} {h : Hp} (d : Nat) {L E cap n : Nat} {f : Nat → Nat} (A : AX Δ (ce Δ h) 13 L E cap n f) : mt Δ d muJ2_clear [.ref L] h (fun v h' => v = none ∧ AX Δ (ce Δ h') 13 L E cap 0 f ∧ Fr Δ (fun b => b = L ∨ (b = E ∧ 0 < n)) 0 0 h h') := by
  obtain ⟨mc, g, h1, h2, h3, h4, h5, h6, h7⟩ := A
  refine mt_mono (t_J2_clear d h1 h2 h3 (by omega) h6 (fun hn => (h7.resolve_right (fun z => by omega)).2)) fun v h' q => ?_
  obtain ⟨rfl, F, r1, g', r2⟩ := q
  exact ⟨rfl, ⟨mc + 1, g', r1, r2, by omega, h4, fun i hi => absurd hi (by omega), h6, h7⟩, F⟩
theorem ax_keep {Δ : Cx} {c c' : Nat → Option Cel} {L E cap n : Nat} {f : Nat → Nat} (A : AX Δ c 13 L E cap n f) (k : ∀ b x, c b = some x → x.1 = 13 ∨ b = L ∨ b = E → c' b = some x) : AX Δ c' 13 L E cap n f := by
  obtain ⟨mc, g, h1, h2, h3, h4, h5, h6, h7⟩ := A
  refine ⟨mc, g, k _ _ h1 (Or.inr (Or.inl rfl)), k _ _ h2 (Or.inr (Or.inr rfl)), h3, h4, fun i hi => ?_, h6, h7⟩
  obtain ⟨e1, n', f', e2⟩ := h5 i hi
  exact ⟨e1, n', f', k _ _ e2 (Or.inl rfl)⟩
