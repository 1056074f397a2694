/-! what the parser keeps true of what was told -/
def bnd (q : Nat) : Nat := if q = 0 then 20 else if q = 1 then 6 else if q = 2 then 30 else if q = 3 then 100 else if q = 4 then 9 else if q < 11 then 6 else if q < 19 then (if q % 2 = 1 then 30 else 1) else if q < 35 then (if (q - 19) % 4 = 0 then 3 else if (q - 19) % 4 = 1 then 1 else if (q - 19) % 4 = 2 then 50 else 6) else if q < 55 then (if (q - 35) % 4 = 0 then 30 else if (q - 35) % 4 = 1 then 9 else if (q - 35) % 4 = 2 then 4 else 31) else if q < 59 then 99 else 4
def told (nb nh nl i : Nat) : Prop := i < nh ∨ (4 ≤ i ∧ i < 4 + nb) ∨ (8 ≤ i ∧ i < 8 + nl)
def LIq (nb nh nl ns np nf x : Nat) (fr : Nat → Int32) : Prop :=
  (nb ≤ 4 ∧ nh ≤ 4 ∧ nl ≤ 5 ∧ ns ≤ 5 ∧ np ≤ 4 ∧ nf ≤ 6) ∧
  (fr 5 = nI nb ∧ fr 6 = nI nh ∧ fr 7 = nI nl ∧ fr 10 = nI ns ∧ fr 9 = nI np ∧ fr 8 = nI nf) ∧
  (∀ q, q < 74 → (q < 5 ∨ 10 < q) → bd (fr q) (bnd q)) ∧
  (∀ l, l < 5 → bd (fr (35 + 4 * l + 2)) nh) ∧
  (∀ i, i < ns → ∃ a b k : Nat, a < nh ∧ b < nh ∧ k < nb ∧ fr (59 + 3 * i) = nI a ∧ fr (59 + 3 * i + 1) = nI b ∧ fr (59 + 3 * i + 2) = nI k) ∧
  (∀ i, i < 13 → ∃ z : Nat, z ≤ 8 ∧ fr (74 + i) = nI z ∧ (0 < z ↔ told nb nh nl i ∨ i = x)) ∧
  (∀ i j, i < 13 → j < 13 → i ≠ j → 0 < fr (74 + i) → fr (74 + i) = fr (74 + j) → ∃ q : Nat, q < ix (fr (74 + i)) ∧ ¬ fr (87 + 8 * i + q) = fr (87 + 8 * j + q))
theorem bd_le {x : Int32} {a b : Nat} (h : bd x a) (hab : a ≤ b) : bd x b := by
  obtain ⟨k, h1, h2⟩ := h
  exact ⟨k, by omega, h2⟩
section LIS
variable {nb nh nl ns np nf x : Nat} {fr : Nat → Int32}
theorem li_sf (h : LIq nb nh nl ns np nf x fr) {i : Nat} {v : Int32} (h1 : i < 5 ∨ 10 < i) (h2 : ∀ l, l < 5 → i ≠ 35 + 4 * l + 2) (h3 : i < 59) (hv : bd v (bnd i)) : LIq nb nh nl ns np nf x (fun q => if q = i then v else fr q) := by
  obtain ⟨a1, ⟨b1, b2, b3, b4, b5, b6⟩, a3, a4, a5, a6, a7⟩ := h
  refine ⟨a1, ⟨?_, ?_, ?_, ?_, ?_, ?_⟩, fun q hq hq2 => ?_, fun l hl => ?_, fun j hj => ?_, fun j hj => ?_, fun j k hj hk hne => ?_⟩
  · exact (if_neg (by omega)).trans b1
  · exact (if_neg (by omega)).trans b2
  · exact (if_neg (by omega)).trans b3
  · exact (if_neg (by omega)).trans b4
  · exact (if_neg (by omega)).trans b5
  · exact (if_neg (by omega)).trans b6
  · show bd (if q = i then v else fr q) (bnd q)
    by_cases e : q = i
    · rw [if_pos e, e]; exact hv
    · rw [if_neg e]; exact a3 q hq hq2
  · show bd (if 35 + 4 * l + 2 = i then v else fr (35 + 4 * l + 2)) nh
    rw [if_neg (fun q => h2 l hl q.symm)]; exact a4 l hl
  · obtain ⟨a, b, k, c1, c2, c3, c4, c5, c6⟩ := a5 j hj
    exact ⟨a, b, k, c1, c2, c3, (if_neg (by omega)).trans c4, (if_neg (by omega)).trans c5, (if_neg (by omega)).trans c6⟩
  · obtain ⟨z, c1, c2, c3⟩ := a6 j hj
    exact ⟨z, c1, (if_neg (by omega)).trans c2, c3⟩
  · show 0 < (if 74 + j = i then v else fr (74 + j)) → (if 74 + j = i then v else fr (74 + j)) = (if 74 + k = i then v else fr (74 + k)) → ∃ q : Nat, q < ix (if 74 + j = i then v else fr (74 + j)) ∧ ¬ (if 87 + 8 * j + q = i then v else fr (87 + 8 * j + q)) = (if 87 + 8 * k + q = i then v else fr (87 + 8 * k + q))
    rw [if_neg (show ¬ 74 + j = i by omega), if_neg (show ¬ 74 + k = i by omega)]
    intro c1 c2
    obtain ⟨q, d1, d2⟩ := a7 j k hj hk hne c1 c2
    refine ⟨q, d1, ?_⟩
    rw [if_neg (show ¬ 87 + 8 * j + q = i by omega), if_neg (show ¬ 87 + 8 * k + q = i by omega)]
    exact d2
theorem li_ab (h : LIq nb nh nl ns np nf x fr) {l g : Nat} (hl : l < 5) (hg : g < nh) : LIq nb nh nl ns np nf x (fun q => if q = 35 + 4 * l + 2 then nI g + 1 else fr q) := by
  obtain ⟨a1, ⟨b1, b2, b3, b4, b5, b6⟩, a3, a4, a5, a6, a7⟩ := h
  have hb : bnd (35 + 4 * l + 2) = 4 := by
    have : ∀ l : Fin 5, bnd (35 + 4 * l.val + 2) = 4 := by decide
    exact this ⟨l, hl⟩
  have e1 : nI g + 1 = nI (g + 1) := nI_add g 1
  refine ⟨a1, ⟨?_, ?_, ?_, ?_, ?_, ?_⟩, fun q hq hq2 => ?_, fun j hj => ?_, fun j hj => ?_, fun j hj => ?_, fun j k hj hk hne => ?_⟩
  · exact (if_neg (by omega)).trans b1
  · exact (if_neg (by omega)).trans b2
  · exact (if_neg (by omega)).trans b3
  · exact (if_neg (by omega)).trans b4
  · exact (if_neg (by omega)).trans b5
  · exact (if_neg (by omega)).trans b6
  · show bd (if q = 35 + 4 * l + 2 then nI g + 1 else fr q) (bnd q)
    by_cases e : q = 35 + 4 * l + 2
    · rw [if_pos e, e, hb, e1]; exact ⟨g + 1, by omega, rfl⟩
    · rw [if_neg e]; exact a3 q hq hq2
  · show bd (if 35 + 4 * j + 2 = 35 + 4 * l + 2 then nI g + 1 else fr (35 + 4 * j + 2)) nh
    by_cases e : 35 + 4 * j + 2 = 35 + 4 * l + 2
    · rw [if_pos e, e1]; exact ⟨g + 1, by omega, rfl⟩
    · rw [if_neg e]; exact a4 j hj
  · obtain ⟨a, b, k, c1, c2, c3, c4, c5, c6⟩ := a5 j hj
    exact ⟨a, b, k, c1, c2, c3, (if_neg (by omega)).trans c4, (if_neg (by omega)).trans c5, (if_neg (by omega)).trans c6⟩
  · obtain ⟨z, c1, c2, c3⟩ := a6 j hj
    exact ⟨z, c1, (if_neg (by omega)).trans c2, c3⟩
  · show 0 < (if 74 + j = 35 + 4 * l + 2 then nI g + 1 else fr (74 + j)) → (if 74 + j = 35 + 4 * l + 2 then nI g + 1 else fr (74 + j)) = (if 74 + k = 35 + 4 * l + 2 then nI g + 1 else fr (74 + k)) → ∃ q : Nat, q < ix (if 74 + j = 35 + 4 * l + 2 then nI g + 1 else fr (74 + j)) ∧ ¬ (if 87 + 8 * j + q = 35 + 4 * l + 2 then nI g + 1 else fr (87 + 8 * j + q)) = (if 87 + 8 * k + q = 35 + 4 * l + 2 then nI g + 1 else fr (87 + 8 * k + q))
    rw [if_neg (show ¬ 74 + j = 35 + 4 * l + 2 by omega), if_neg (show ¬ 74 + k = 35 + 4 * l + 2 by omega)]
    intro c1 c2
    obtain ⟨q, d1, d2⟩ := a7 j k hj hk hne c1 c2
    refine ⟨q, d1, ?_⟩
    rw [if_neg (show ¬ 87 + 8 * j + q = 35 + 4 * l + 2 by omega), if_neg (show ¬ 87 + 8 * k + q = 35 + 4 * l + 2 by omega)]
    exact d2
/-- another number of what was told, in place c -/
theorem li_ct (h : LIq nb nh nl ns np nf x fr) {c y nb' nh' nl' ns' np' nf' : Nat} {v : Int32} (hc : 4 < c ∧ c < 11)
    (a1 : nb' ≤ 4 ∧ nh' ≤ 4 ∧ nl' ≤ 5 ∧ ns' ≤ 5 ∧ np' ≤ 4 ∧ nf' ≤ 6) (a2 : (if 5 = c then v else fr 5) = nI nb' ∧ (if 6 = c then v else fr 6) = nI nh' ∧ (if 7 = c then v else fr 7) = nI nl' ∧ (if 10 = c then v else fr 10) = nI ns' ∧ (if 9 = c then v else fr 9) = nI np' ∧ (if 8 = c then v else fr 8) = nI nf')
    (h1 : nb ≤ nb') (h2 : nh ≤ nh') (h3 : ∀ i, ns ≤ i → i < ns' → ∃ a b k : Nat, a < nh' ∧ b < nh' ∧ k < nb' ∧ fr (59 + 3 * i) = nI a ∧ fr (59 + 3 * i + 1) = nI b ∧ fr (59 + 3 * i + 2) = nI k)
    (h4 : ∀ i, i < 13 → ((told nb nh nl i ∨ i = x) ↔ (told nb' nh' nl' i ∨ i = y))) : LIq nb' nh' nl' ns' np' nf' y (fun q => if q = c then v else fr q) := by
  obtain ⟨-, -, a3, a4, a5, a6, a7⟩ := h
  refine ⟨a1, a2, fun q hq hq2 => ?_, fun j hj => ?_, fun j hj => ?_, fun j hj => ?_, fun j k hj hk hne => ?_⟩
  · show bd (if q = c then v else fr q) (bnd q)
    rw [if_neg (by omega)]; exact a3 q hq hq2
  · show bd (if 35 + 4 * j + 2 = c then v else fr (35 + 4 * j + 2)) nh'
    rw [if_neg (by omega)]; exact bd_le (a4 j hj) h2
  · show ∃ a b k : Nat, a < nh' ∧ b < nh' ∧ k < nb' ∧ (if 59 + 3 * j = c then v else fr (59 + 3 * j)) = nI a ∧ (if 59 + 3 * j + 1 = c then v else fr (59 + 3 * j + 1)) = nI b ∧ (if 59 + 3 * j + 2 = c then v else fr (59 + 3 * j + 2)) = nI k
    rw [if_neg (by omega), if_neg (by omega), if_neg (by omega)]
    by_cases e : j < ns
    · obtain ⟨a, b, k, c1, c2, c3, c4, c5, c6⟩ := a5 j e
      exact ⟨a, b, k, by omega, by omega, by omega, c4, c5, c6⟩
    · exact h3 j (by omega) hj
  · obtain ⟨z, c1, c2, c3⟩ := a6 j hj
    exact ⟨z, c1, (if_neg (by omega)).trans c2, c3.trans (h4 j hj)⟩
  · show 0 < (if 74 + j = c then v else fr (74 + j)) → (if 74 + j = c then v else fr (74 + j)) = (if 74 + k = c then v else fr (74 + k)) → ∃ q : Nat, q < ix (if 74 + j = c then v else fr (74 + j)) ∧ ¬ (if 87 + 8 * j + q = c then v else fr (87 + 8 * j + q)) = (if 87 + 8 * k + q = c then v else fr (87 + 8 * k + q))
    rw [if_neg (show ¬ 74 + j = c by omega), if_neg (show ¬ 74 + k = c by omega)]
    intro c1 c2
    obtain ⟨q, d1, d2⟩ := a7 j k hj hk hne c1 c2
    refine ⟨q, d1, ?_⟩
    rw [if_neg (show ¬ 87 + 8 * j + q = c by omega), if_neg (show ¬ 87 + 8 * k + q = c by omega)]
    exact d2
/-- a row of what was seen, one behind the last -/
theorem li_sn (h : LIq nb nh nl ns np nf x fr) {i : Nat} {v : Int32} (h1 : 59 + 3 * ns ≤ i) (h2 : i < 74) (hv : bd v 4) : LIq nb nh nl ns np nf x (fun q => if q = i then v else fr q) := by
  obtain ⟨a1, ⟨b1, b2, b3, b4, b5, b6⟩, a3, a4, a5, a6, a7⟩ := h
  have hb : bnd i = 4 := by
    have : ∀ i : Fin 74, 59 ≤ i.val → bnd i.val = 4 := by decide
    exact this ⟨i, h2⟩ (by show 59 ≤ i; omega)
  refine ⟨a1, ⟨?_, ?_, ?_, ?_, ?_, ?_⟩, fun q hq hq2 => ?_, fun l hl => ?_, fun j hj => ?_, fun j hj => ?_, fun j k hj hk hne => ?_⟩
  · exact (if_neg (by omega)).trans b1
  · exact (if_neg (by omega)).trans b2
  · exact (if_neg (by omega)).trans b3
  · exact (if_neg (by omega)).trans b4
  · exact (if_neg (by omega)).trans b5
  · exact (if_neg (by omega)).trans b6
  · show bd (if q = i then v else fr q) (bnd q)
    by_cases e : q = i
    · rw [if_pos e, e, hb]; exact hv
    · rw [if_neg e]; exact a3 q hq hq2
  · show bd (if 35 + 4 * l + 2 = i then v else fr (35 + 4 * l + 2)) nh
    rw [if_neg (by omega)]; exact a4 l hl
  · obtain ⟨a, b, k, c1, c2, c3, c4, c5, c6⟩ := a5 j hj
    exact ⟨a, b, k, c1, c2, c3, (if_neg (by omega)).trans c4, (if_neg (by omega)).trans c5, (if_neg (by omega)).trans c6⟩
  · obtain ⟨z, c1, c2, c3⟩ := a6 j hj
    exact ⟨z, c1, (if_neg (by omega)).trans c2, c3⟩
  · show 0 < (if 74 + j = i then v else fr (74 + j)) → (if 74 + j = i then v else fr (74 + j)) = (if 74 + k = i then v else fr (74 + k)) → ∃ q : Nat, q < ix (if 74 + j = i then v else fr (74 + j)) ∧ ¬ (if 87 + 8 * j + q = i then v else fr (87 + 8 * j + q)) = (if 87 + 8 * k + q = i then v else fr (87 + 8 * k + q))
    rw [if_neg (show ¬ 74 + j = i by omega), if_neg (show ¬ 74 + k = i by omega)]
    intro c1 c2
    obtain ⟨q, d1, d2⟩ := a7 j k hj hk hne c1 c2
    refine ⟨q, d1, ?_⟩
    rw [if_neg (show ¬ 87 + 8 * j + q = i by omega), if_neg (show ¬ 87 + 8 * k + q = i by omega)]
    exact d2
end LIS
theorem wq_not {le f : Nat → Int32} : ∀ {n : Nat}, wqS le f n = false → ∃ q, q < n ∧ ¬ le q = f q
  | 0, h => by cases h
  | n + 1, h => by
    by_cases e : le n = f n
    · have h : (wqS le f n && decide (le n = f n)) = false := h
      rw [decide_eq_true e, Bool.and_true] at h
      obtain ⟨q, h1, h2⟩ := wq_not h
      exact ⟨q, by omega, h2⟩
    · exact ⟨n, by omega, e⟩
theorem wq_all {le f : Nat → Int32} : ∀ {n : Nat}, wqS le f n = true → ∀ q, q < n → le q = f q
  | 0, _, q, hq => absurd hq (by omega)
  | n + 1, h, q, hq => by
    have h : (wqS le f n && decide (le n = f n)) = true := h
    rw [Bool.and_eq_true] at h
    rcases Nat.lt_succ_iff_lt_or_eq.mp hq with z | z
    · exact wq_all h.1 q z
    · subst z; exact of_decide_eq_true h.2
theorem fn_none {P : Pk} : ∀ {m k : Nat}, k + m < 2 ^ 31 → ¬ 0 ≤ fnS P m k → ∀ i, k ≤ i → i < k + m → nmB P i = false
  | 0, k, _, _, i, h1, h2 => absurd h2 (by omega)
  | m + 1, k, hb, h, i, h1, h2 => by
    unfold fnS at h
    by_cases c : nmB P k = true
    · rw [if_pos c] at h
      exact absurd (nI_pos' (by omega)) h
    · rw [if_neg c] at h
      by_cases e : i = k
      · subst e; exact Bool.not_eq_true _ ▸ c
      · exact fn_none (by omega) h i (by omega) (by omega)
theorem fn_some {P : Pk} : ∀ {m k : Nat}, 0 ≤ fnS P m k → ∃ i, k ≤ i ∧ i < k + m ∧ nmB P i = true ∧ fnS P m k = nI i ∧ ∀ j, k ≤ j → j < i → nmB P j = false
  | 0, k, h => absurd h (by show ¬ (0 : Int32) ≤ -1; decide)
  | m + 1, k, h => by
    unfold fnS at h ⊢
    by_cases c : nmB P k = true
    · rw [if_pos c] at h ⊢
      exact ⟨k, Nat.le_refl _, by omega, c, rfl, fun j h1 h2 => absurd h2 (by omega)⟩
    · rw [if_neg c] at h ⊢
      obtain ⟨i, h1, h2, h3, h4, h5⟩ := fn_some h
      refine ⟨i, by omega, by omega, h3, h4, fun j q1 q2 => ?_⟩
      by_cases e : j = k
      · subst e; exact Bool.not_eq_true _ ▸ c
      · exact h5 j (by omega) q2
/-- a new name -/
theorem li_na {nb nh nl ns np nf n i : Nat} {P : Pk} (h : LIq nb nh nl ns np nf 13 P.fr) (hi : i < 13) (ht : ¬ told nb nh nl i) (E : eOk n P) (hk : P.k = 2) (hf : ¬ 0 ≤ fnS P 13 0) : LIq nb nh nl ns np nf i (naP i P).fr := by
  obtain ⟨z0, z1, z8, hz⟩ := E.2 hk
  have hix : ix P.z = z0 := by rw [hz, ix_nI (by omega)]
  have hno := fn_none (P := P) (m := 13) (k := 0) (by decide) hf
  have rd : ∀ q, q < 74 → (naP i P).fr q = P.fr q := by
    intro q hq
    show (if q = 74 + i then P.z else (if 87 + 8 * i ≤ q ∧ q < 87 + 8 * i + ix P.z then P.le (q - (87 + 8 * i)) else P.fr q)) = _
    rw [if_neg (by omega), if_neg (by omega)]
  have rs : ∀ j, j < 13 → j ≠ i → (naP i P).fr (74 + j) = P.fr (74 + j) := by
    intro j hj hne
    show (if 74 + j = 74 + i then P.z else (if 87 + 8 * i ≤ 74 + j ∧ 74 + j < 87 + 8 * i + ix P.z then P.le (74 + j - (87 + 8 * i)) else P.fr (74 + j))) = _
    rw [if_neg (by omega), if_neg (by omega)]
  have rsi : (naP i P).fr (74 + i) = P.z := if_pos rfl
  have rl : ∀ j q, j < 13 → j ≠ i → q < 8 → (naP i P).fr (87 + 8 * j + q) = P.fr (87 + 8 * j + q) := by
    intro j q hj hne hq
    show (if 87 + 8 * j + q = 74 + i then P.z else (if 87 + 8 * i ≤ 87 + 8 * j + q ∧ 87 + 8 * j + q < 87 + 8 * i + ix P.z then P.le (87 + 8 * j + q - (87 + 8 * i)) else P.fr (87 + 8 * j + q))) = _
    rw [if_neg (by omega), if_neg (by omega)]
  have rli : ∀ q, q < z0 → (naP i P).fr (87 + 8 * i + q) = P.le q := by
    intro q hq
    show (if 87 + 8 * i + q = 74 + i then P.z else (if 87 + 8 * i ≤ 87 + 8 * i + q ∧ 87 + 8 * i + q < 87 + 8 * i + ix P.z then P.le (87 + 8 * i + q - (87 + 8 * i)) else P.fr (87 + 8 * i + q))) = _
    rw [if_neg (by omega), if_pos ⟨by omega, by omega⟩, Nat.add_sub_cancel_left]
  obtain ⟨a1, ⟨b1, b2, b3, b4, b5, b6⟩, a3, a4, a5, a6, a7⟩ := h
  /- of a told name of the word's size: some letter differs -/
  have key : ∀ j, j < 13 → j ≠ i → P.fr (74 + j) = P.z → ∃ q, q < z0 ∧ ¬ P.fr (87 + 8 * j + q) = P.le q := by
    intro j hj hne e
    have h1 := hno j (by omega) (by omega)
    have hs : szB P j = true := by
      unfold szB
      rw [decide_eq_true e, e, hz, decide_eq_true (show (0 : Int32) < nI z0 from (nI_ltI (a := 0) (b := z0) (by omega) (by omega)).mpr (by omega))]; rfl
    unfold nmB at h1
    rw [hs, Bool.true_and, hix] at h1
    exact wq_not h1
  refine ⟨a1, ⟨?_, ?_, ?_, ?_, ?_, ?_⟩, fun q hq hq2 => ?_, fun l hl => ?_, fun j hj => ?_, fun j hj => ?_, fun j k hj hk hne c1 c2 => ?_⟩
  · rw [rd _ (by omega)]; exact b1
  · rw [rd _ (by omega)]; exact b2
  · rw [rd _ (by omega)]; exact b3
  · rw [rd _ (by omega)]; exact b4
  · rw [rd _ (by omega)]; exact b5
  · rw [rd _ (by omega)]; exact b6
  · rw [rd _ hq]; exact a3 q hq hq2
  · rw [rd _ (by omega)]; exact a4 l hl
  · have hns := a1.2.2.2.1
    rw [rd _ (by omega), rd _ (by omega), rd _ (by omega)]
    exact a5 j hj
  · by_cases e : j = i
    · subst e
      exact ⟨z0, z8, rsi.trans hz, ⟨fun _ => Or.inr rfl, fun _ => by omega⟩⟩
    · obtain ⟨z, c1, c2, c3⟩ := a6 j hj
      refine ⟨z, c1, (rs j hj e).trans c2, c3.trans ⟨fun q => ?_, fun q => ?_⟩⟩
      · rcases q with q | q
        · exact Or.inl q
        · omega
      · rcases q with q | q
        · exact Or.inl q
        · exact absurd q e
  · by_cases e : j = i
    · subst e
      rw [rsi] at c1 c2
      rw [rs k hk (Ne.symm hne)] at c2
      obtain ⟨q, d1, d2⟩ := key k hk (Ne.symm hne) c2.symm
      refine ⟨q, by rw [rsi, hix]; exact d1, ?_⟩
      rw [rli q d1, rl k q hk (Ne.symm hne) (by omega)]
      exact fun w => d2 w.symm
    · rw [rs j hj e] at c1 c2 ⊢
      by_cases e2 : k = i
      · subst e2
        rw [rsi] at c2
        obtain ⟨q, d1, d2⟩ := key j hj e c2
        refine ⟨q, by rw [c2, hix]; exact d1, ?_⟩
        rw [rli q d1, rl j q hj e (by omega)]
        exact d2
      · rw [rs k hk e2] at c2
        obtain ⟨q, d1, d2⟩ := a7 j k hj hk hne c1 c2
        obtain ⟨z, f1, f2, -⟩ := a6 j hj
        have : ix (P.fr (74 + j)) = z := by rw [f2, ix_nI (by omega)]
        refine ⟨q, d1, ?_⟩
        rw [rl j q hj e (by omega), rl k q hk e2 (by omega)]
        exact d2
