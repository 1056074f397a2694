/-! a line -/
section PR
variable (t : Nat → Int32) (n : Nat)
def cB (P : Pk) (k : Nat) (c : Int32) : Bool := decide (P.fr k < c)
def rlL (P : Pk) : Pk :=
  if isT 14 P = true then reL t n P
  else if isT 2 P = true then beL t n (beP t n 2 (cB P 5 4) P)
  else if isT 7 P = true then hoL t n (beP t n 7 (cB P 6 4) P)
  else if isT 9 P = true then loL t n (beP t n 9 (cB P 7 5) P)
  else if isT 1 P = true then abL t n (beP t n 1 true P)
  else if isT 6 P = true then frL t n (beP t n 6 (cB P 8 6) P)
  else if isT 11 P = true then prL t n (beP t n 11 (cB P 9 4) P)
  else if isT 17 P = true then saL t n (beP t n 17 (cB P 10 5) P)
  else wgP 1 P.a P
end PR
theorem isT_f {i : Nat} {P : Pk} (h : isT i P = true) : P.f = 0 := by
  unfold isT isW at h
  rw [Bool.and_eq_true] at h
  exact of_decide_eq_true h.1
theorem be_f {t : Nat → Int32} {n i : Nat} {c : Bool} {P : Pk} (hi : isT i P = true) (h : (beP t n i c P).f = 0) : c = true := by
  have hf := isT_f hi
  cases c
  · exfalso
    have h1 : (beW false P).f = 1 := by
      unfold beW wgP
      rw [if_neg Bool.false_ne_true, if_pos hf]
    have h2 : (beC false P).f = 1 := by
      unfold beC
      split
      · unfold wgP
        rw [if_neg (by rw [h1]; decide)]
        exact h1
      · exact h1
    unfold beP paP at h
    rw [if_pos hi, if_neg (by rw [h2]; decide), h2] at h
    exact absurd h (by decide)
  · rfl
theorem be_n {t : Nat → Int32} {n i : Nat} {c : Bool} {P : Pk} (hi : isT i P = false) : beP t n i c P = P := by
  unfold beP
  rw [if_neg (bf hi)]
/-- counters of what was told -/
def kOkP (fr : Nat → Int32) : Prop := (∃ v : Nat, v ≤ 4 ∧ fr 5 = nI v) ∧ (∃ v : Nat, v ≤ 4 ∧ fr 6 = nI v) ∧ (∃ v : Nat, v ≤ 5 ∧ fr 7 = nI v) ∧ (∃ v : Nat, v ≤ 6 ∧ fr 8 = nI v) ∧ (∃ v : Nat, v ≤ 4 ∧ fr 9 = nI v) ∧ (∃ v : Nat, v ≤ 5 ∧ fr 10 = nI v)
theorem hv_of {t : Nat → Int32} {n i k m v : Nat} {P : Pk} (hi : isT i P = true) (hv : P.fr k = nI v) (hv2 : v < 2 ^ 31) (hm : m < 2 ^ 31) : (beP t n i (cB P k (nI m)) P).f = 0 → ∃ v : Nat, v < m ∧ (beP t n i (cB P k (nI m)) P).fr k = nI v := by
  intro h
  have hc := of_decide_eq_true (be_f hi h)
  rw [hv] at hc
  exact ⟨v, (nI_ltI hv2 hm).mp hc, (congrFun fr_be k).trans hv⟩
