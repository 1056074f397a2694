/-! WHAT HOLDS OF A REGATTA (r), of a row, of the model's state -/
def bd (x : Int32) (n : Nat) : Prop := ∃ k : Nat, k ≤ n ∧ x = nI k
def ROk (r : Nat → Int32) (nl nh nb np ns : Nat) : Prop :=
  (r 7 = nI nl ∧ nl ≤ 5 ∧ r 6 = nI nh ∧ nh ≤ 4 ∧ r 5 = nI nb ∧ nb ≤ 4 ∧ r 9 = nI np ∧ np ≤ 4 ∧ r 10 = nI ns ∧ ns ≤ 5) ∧
  (bd (r 8) 6 ∧ bd (r 0) 20 ∧ bd (r 1) 6 ∧ bd (r 2) 30 ∧ bd (r 3) 100 ∧ bd (r 4) 9) ∧
  (∀ k, k < 4 → bd (r (11 + 2 * k)) 30 ∧ bd (r (11 + 2 * k + 1)) 1) ∧
  (∀ h, h < 4 → bd (r (19 + 4 * h)) 3 ∧ bd (r (19 + 4 * h + 1)) 1 ∧ bd (r (19 + 4 * h + 2)) 50 ∧ bd (r (19 + 4 * h + 3)) 6) ∧
  (∀ l, l < 5 → bd (r (35 + 4 * l)) 30 ∧ bd (r (35 + 4 * l + 1)) 9 ∧ bd (r (35 + 4 * l + 2)) 4 ∧ bd (r (35 + 4 * l + 3)) 31) ∧
  (∀ k, k < 4 → bd (r (55 + k)) 99) ∧
  (∀ i, i < ns → ∃ a b k : Nat, a < nh ∧ b < nh ∧ k < nb ∧ r (59 + 3 * i) = nI a ∧ r (59 + 3 * i + 1) = nI b ∧ r (59 + 3 * i + 2) = nI k)
def WOk (row : Nat → Int32) (nh : Nat) : Prop := (∃ w : Nat, 1 ≤ w ∧ w ≤ 20 ∧ row 7 = nI w) ∧ (∀ l, l < 5 → bd (row l) nh) ∧ bd (row 5) 15 ∧ bd (row 6) 15
/-- taped, undos, images; the regatta; the rows -/
def MOk (ms : Mst) (nl nh nb np ns : Nat) : Prop :=
  ROk (ms.2.2 2) nl nh nb np ns ∧ (¬ ms.1 14 = 0 → 0 < nh ∧ WOk (ms.2.2 4) nh) ∧ bd (ms.1 2) 900 ∧ (∃ u : Nat, u ≤ 16 ∧ ms.1 20 = nI u ∧ ∀ i, i < u → ¬ ms.1 14 = 0 ∧ WOk (fun q => ms.2.2 5 (8 * i + q)) nh) ∧ (∃ u : Nat, u ≤ 3 ∧ ms.1 21 = nI u ∧ ∀ i, i < u → ¬ ms.1 14 = 0 ∧ WOk (fun q => ms.2.2 6 (8 * i + q)) nh) ∧ (ms.1 14 = 0 ∨ ms.1 14 = 1)
/-- all but the scratch is as it was; the trouble is t -/
def cEq (ms ms' : Mst) (t : Int32) : Prop := ms'.1 2 = ms.1 2 ∧ ms'.1 9 = ms.1 9 ∧ ms'.1 10 = ms.1 10 ∧ ms'.1 14 = ms.1 14 ∧ ms'.1 20 = ms.1 20 ∧ ms'.1 21 = ms.1 21 ∧ ms'.1 11 = t ∧ ms'.2.2 0 = ms.2.2 0 ∧ ms'.2.2 2 = ms.2.2 2 ∧ ms'.2.2 4 = ms.2.2 4 ∧ ms'.2.2 5 = ms.2.2 5 ∧ ms'.2.2 6 = ms.2.2 6
def ix (x : Int32) : Nat := x.toNatClampNeg
theorem ix_nI {n : Nat} (h : n < 2 ^ 31) : ix (nI n) = n := nI_clamp h
theorem bf {b : Bool} (h : b = false) : ¬ b = true := by rw [h]; exact Bool.false_ne_true
theorem MOk.dm {ms : Mst} {nl nh nb np ns : Nat} (K : MOk ms nl nh nb np ns) : DM ms nl nh nb := ⟨K.1.1.1, K.1.1.2.1, K.1.1.2.2.1, K.1.1.2.2.2.1, K.1.1.2.2.2.2.1, K.1.1.2.2.2.2.2.1⟩
theorem rw_bd {r : Nat → Int32} {nl nh nb np ns : Nat} (R : ROk r nl nh nb np ns) (row : Nat → Int32) (h : Nat) : ∀ l, l ≤ 5 → ∃ m : Nat, m ≤ 9 * l ∧ rwS r row h l = nI m
  | 0, _ => ⟨0, by omega, rfl⟩
  | l + 1, hl => by
    obtain ⟨m, h1, h2⟩ := rw_bd R row h l (by omega)
    obtain ⟨x, h3, h4⟩ := (R.2.2.2.2.1 l (by omega)).2.1
    unfold rwS
    by_cases c : row l = nI h + 1
    · refine ⟨m + x, by omega, ?_⟩
      rw [if_pos c, h2, h4, nI_add]
    · refine ⟨m, by omega, ?_⟩
      rw [if_neg c, h2]
      exact nI_add m 0
theorem pw_bd {r : Nat → Int32} {nl nh nb np ns : Nat} (R : ROk r nl nh nb np ns) {row : Nat → Int32} (hw : ∃ w : Nat, 1 ≤ w ∧ w ≤ 20 ∧ row 7 = nI w) (h : Nat) : ∃ m : Nat, 1 ≤ m ∧ m ≤ 110 ∧ pwS r row nl h = nI m := by
  obtain ⟨w, w1, w2, w3⟩ := hw
  obtain ⟨m, h1, h2⟩ := rw_bd R row h nl R.1.2.1
  have hl := R.1.2.1
  unfold pwS
  rw [h2, w3]
  have e2 : nI m * 2 = nI (m * 2) := pk_mul m 2
  split
  · split
    · exact ⟨w + m, by omega, by omega, nI_add _ _⟩
    · exact ⟨w + m * 2, by omega, by omega, by rw [e2, nI_add]⟩
  · exact ⟨w + m, by omega, by omega, nI_add _ _⟩
theorem tp_bd {r : Nat → Int32} {nl nh nb np ns : Nat} (R : ROk r nl nh nb np ns) {row : Nat → Int32} (hw : ∃ w : Nat, 1 ≤ w ∧ w ≤ 20 ∧ row 7 = nI w) (h k : Nat) (rain : Int32) : ∃ m : Nat, 1 ≤ m ∧ m ≤ 119 ∧ tpS r row nl h k rain = nI m := by
  obtain ⟨m, h1, h2, h3⟩ := pw_bd R hw h
  obtain ⟨b, b1, b2⟩ := R.2.1.2.2.2.2.2
  unfold tpS
  rw [h3, b2]
  split
  · exact ⟨m + b, by omega, by omega, nI_add _ _⟩
  · exact ⟨m, by omega, by omega, nI_add m 0⟩
theorem tp_ne {r : Nat → Int32} {nl nh nb np ns : Nat} (R : ROk r nl nh nb np ns) {row : Nat → Int32} (hw : ∃ w : Nat, 1 ≤ w ∧ w ≤ 20 ∧ row 7 = nI w) (rain : Int32) : ∀ h k, h < 4 → k < nb → ¬ tpS r row nl h k rain = 0 := by
  intro h k _ _ e
  obtain ⟨m, h1, h2, h3⟩ := tp_bd R hw h k rain
  rw [h3] at e
  exact nI_ne0 (by omega) (by omega) e
/-- an index that is one of n -/
theorem in_nat {x : Int32} {n : Nat} (hn : n < 2 ^ 30) (h : inS x 0 (nI n - 1) = true) : ∃ k : Nat, k < n ∧ x = nI k := by
  have h := of_decide_eq_true h
  rcases Nat.eq_zero_or_pos n with rfl | hp
  · have h1 : (0 : Int32) ≤ nI 0 - 1 := Int32.le_trans h.1 h.2
    exact absurd h1 (by decide)
  · have e : nI n - 1 = nI (n - 1) := pk_sub (b := 1) hp
    rw [e] at h
    obtain ⟨j, hj, rfl⟩ := nI_of (Int32.not_lt.mpr h.1)
    have := (nI_leI hj (by omega)).mp h.2
    exact ⟨j, by omega, rfl⟩
theorem in_nat2 {x : Int32} {n : Nat} (hn : n < 2 ^ 30) (h : inS x 0 (nI n) = true) : ∃ k : Nat, k ≤ n ∧ x = nI k := by
  have h := of_decide_eq_true h
  obtain ⟨j, hj, rfl⟩ := nI_of (Int32.not_lt.mpr h.1)
  have := (nI_leI hj (by omega)).mp h.2
  exact ⟨j, by omega, rfl⟩
theorem ig_nat {g x c : Int32} {n : Nat} (hn : n < 2 ^ 30) (hc : c = nI n) (h : (decide (¬ g = 0) && inS x 0 (c - 1)) = true) : ¬ g = 0 ∧ ∃ k : Nat, k < n ∧ x = nI k := by
  rw [Bool.and_eq_true] at h
  subst hc
  exact ⟨of_decide_eq_true h.1, in_nat hn h.2⟩
