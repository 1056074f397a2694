/-! THE PARSER of the model: its state, and what its steps make of it -/
abbrev Pk : Type := Int32 × Int32 × Int32 × Int32 × Int32 × Int32 × Int32 × Int32 × (Nat → Int32) × (Nat → Int32)
abbrev Pk.a (P : Pk) : Int32 := P.1
abbrev Pk.e (P : Pk) : Int32 := P.2.1
abbrev Pk.k (P : Pk) : Int32 := P.2.2.1
abbrev Pk.w (P : Pk) : Int32 := P.2.2.2.1
abbrev Pk.z (P : Pk) : Int32 := P.2.2.2.2.1
abbrev Pk.f (P : Pk) : Int32 := P.2.2.2.2.2.1
abbrev Pk.u (P : Pk) : Int32 := P.2.2.2.2.2.2.1
abbrev Pk.p (P : Pk) : Int32 := P.2.2.2.2.2.2.2.1
abbrev Pk.le (P : Pk) : Nat → Int32 := P.2.2.2.2.2.2.2.2.1
abbrev Pk.fr (P : Pk) : Nat → Int32 := P.2.2.2.2.2.2.2.2.2
def pkS (ms : Mst) (P : Pk) : Mst := (fun j => if j = 4 then P.a else if j = 5 then P.e else if j = 6 then P.k else if j = 7 then P.w else if j = 8 then P.z else if j = 13 then P.f else if j = 9 then P.u else if j = 10 then P.p else ms.1 j, ms.2.1, fun j => if j = 1 then P.le else if j = 3 then P.fr else ms.2.2 j)
theorem pk_ext {ms : Mst} {w : Mst} {P : Pk} (h4 : w.1 4 = P.a) (h5 : w.1 5 = P.e) (h6 : w.1 6 = P.k) (h7 : w.1 7 = P.w) (h8 : w.1 8 = P.z) (h13 : w.1 13 = P.f) (h9 : w.1 9 = P.u) (h10 : w.1 10 = P.p) (hl : w.2.2 1 = P.le) (hf : w.2.2 3 = P.fr) (hi : ∀ j, j ≠ 4 → j ≠ 5 → j ≠ 6 → j ≠ 7 → j ≠ 8 → j ≠ 13 → j ≠ 9 → j ≠ 10 → w.1 j = ms.1 j) (hL : w.2.1 = ms.2.1) (ha : ∀ j, j ≠ 1 → j ≠ 3 → w.2.2 j = ms.2.2 j) : w = pkS ms P := by
  refine Prod.ext (funext fun j => ?_) (Prod.ext hL (funext fun j => ?_))
  · show w.1 j = if j = 4 then P.a else if j = 5 then P.e else if j = 6 then P.k else if j = 7 then P.w else if j = 8 then P.z else if j = 13 then P.f else if j = 9 then P.u else if j = 10 then P.p else ms.1 j
    by_cases c4 : j = 4
    · rw [if_pos c4, c4, h4]
    rw [if_neg c4]
    by_cases c5 : j = 5
    · rw [if_pos c5, c5, h5]
    rw [if_neg c5]
    by_cases c6 : j = 6
    · rw [if_pos c6, c6, h6]
    rw [if_neg c6]
    by_cases c7 : j = 7
    · rw [if_pos c7, c7, h7]
    rw [if_neg c7]
    by_cases c8 : j = 8
    · rw [if_pos c8, c8, h8]
    rw [if_neg c8]
    by_cases c13 : j = 13
    · rw [if_pos c13, c13, h13]
    rw [if_neg c13]
    by_cases c9 : j = 9
    · rw [if_pos c9, c9, h9]
    rw [if_neg c9]
    by_cases c10 : j = 10
    · rw [if_pos c10, c10, h10]
    rw [if_neg c10]
    exact hi j c4 c5 c6 c7 c8 c13 c9 c10
  · show w.2.2 j = if j = 1 then P.le else if j = 3 then P.fr else ms.2.2 j
    by_cases c1 : j = 1
    · rw [if_pos c1, c1, hl]
    rw [if_neg c1]
    by_cases c3 : j = 3
    · rw [if_pos c3, c3, hf]
    rw [if_neg c3]
    exact ha j c1 c3
theorem pk_self (ms : Mst) : ms = pkS ms ⟨ms.1 4, ms.1 5, ms.1 6, ms.1 7, ms.1 8, ms.1 13, ms.1 9, ms.1 10, ms.2.2 1, ms.2.2 3⟩ := pk_ext rfl rfl rfl rfl rfl rfl rfl rfl rfl rfl (fun _ _ _ _ _ _ _ _ _ => rfl) rfl (fun _ _ _ => rfl)
theorem pk_o {ms : Mst} {P : Pk} {j : Nat} (h4 : j ≠ 4) (h5 : j ≠ 5) (h6 : j ≠ 6) (h7 : j ≠ 7) (h8 : j ≠ 8) (h13 : j ≠ 13) (h9 : j ≠ 9) (h10 : j ≠ 10) : (pkS ms P).1 j = ms.1 j := by
  show (if j = 4 then P.a else if j = 5 then P.e else if j = 6 then P.k else if j = 7 then P.w else if j = 8 then P.z else if j = 13 then P.f else if j = 9 then P.u else if j = 10 then P.p else ms.1 j) = _
  rw [if_neg h4, if_neg h5, if_neg h6, if_neg h7, if_neg h8, if_neg h13, if_neg h9, if_neg h10]
theorem pk_oA {ms : Mst} {P : Pk} {j : Nat} (h1 : j ≠ 1) (h3 : j ≠ 3) : (pkS ms P).2.2 j = ms.2.2 j := by
  show (if j = 1 then P.le else if j = 3 then P.fr else ms.2.2 j) = _
  rw [if_neg h1, if_neg h3]
theorem pk_I {ms : Mst} {P Q : Pk} {k : Nat} {x : Int32} (hk : k = 4 ∨ k = 5 ∨ k = 6 ∨ k = 7 ∨ k = 8 ∨ k = 13 ∨ k = 9 ∨ k = 10)
    (h4 : (if 4 = k then x else P.a) = Q.a) (h5 : (if 5 = k then x else P.e) = Q.e) (h6 : (if 6 = k then x else P.k) = Q.k) (h7 : (if 7 = k then x else P.w) = Q.w) (h8 : (if 8 = k then x else P.z) = Q.z) (h13 : (if 13 = k then x else P.f) = Q.f) (h9 : (if 9 = k then x else P.u) = Q.u) (h10 : (if 10 = k then x else P.p) = Q.p) (hl : P.le = Q.le) (hf : P.fr = Q.fr) : sI (pkS ms P) k x = pkS ms Q := by
  refine pk_ext h4 h5 h6 h7 h8 h13 h9 h10 hl hf (fun j c4 c5 c6 c7 c8 c13 c9 c10 => ?_) rfl (fun j c1 c3 => pk_oA c1 c3)
  show (if j = k then x else (pkS ms P).1 j) = _
  rw [if_neg (fun q => by rcases hk with h | h | h | h | h | h | h | h <;> omega)]
  exact pk_o c4 c5 c6 c7 c8 c13 c9 c10
theorem pk_L {ms : Mst} {P Q : Pk} {n : Nat} {x : Int32} (h4 : P.a = Q.a) (h5 : P.e = Q.e) (h6 : P.k = Q.k) (h7 : P.w = Q.w) (h8 : P.z = Q.z) (h13 : P.f = Q.f) (h9 : P.u = Q.u) (h10 : P.p = Q.p) (hl : (fun i => if i = n then x else P.le i) = Q.le) (hf : P.fr = Q.fr) : sA (pkS ms P) 1 n x = pkS ms Q := by
  refine pk_ext h4 h5 h6 h7 h8 h13 h9 h10 hl hf (fun j c4 c5 c6 c7 c8 c13 c9 c10 => pk_o c4 c5 c6 c7 c8 c13 c9 c10) rfl (fun j c1 c3 => ?_)
  show (if j = 1 then _ else (pkS ms P).2.2 j) = _
  rw [if_neg c1]
  exact pk_oA c1 c3
theorem pk_F {ms : Mst} {P Q : Pk} {n : Nat} {x : Int32} (h4 : P.a = Q.a) (h5 : P.e = Q.e) (h6 : P.k = Q.k) (h7 : P.w = Q.w) (h8 : P.z = Q.z) (h13 : P.f = Q.f) (h9 : P.u = Q.u) (h10 : P.p = Q.p) (hl : P.le = Q.le) (hf : (fun i => if i = n then x else P.fr i) = Q.fr) : sA (pkS ms P) 3 n x = pkS ms Q := by
  refine pk_ext h4 h5 h6 h7 h8 h13 h9 h10 hl hf (fun j c4 c5 c6 c7 c8 c13 c9 c10 => pk_o c4 c5 c6 c7 c8 c13 c9 c10) rfl (fun j c1 c3 => ?_)
  show (if j = 3 then _ else (pkS ms P).2.2 j) = _
  rw [if_neg c3]
  exact pk_oA c1 c3
/-! tokens of a text t of n -/
def seT (t : Nat → Int32) (n k : Nat) : Int32 := if k < n then t k else -1
def smB (c : Int32) : Bool := decide (97 ≤ c) && decide (c ≤ 122)
def dgB (c : Int32) : Bool := decide (48 ≤ c) && decide (c ≤ 57)
def ruT (P : Int32 → Bool) (t : Nat → Int32) (n : Nat) : Nat → Nat → Nat
  | 0, k => k
  | f + 1, k => if P (seT t n k) = true then ruT P t n f (k + 1) else k
def spB (c : Int32) : Bool := decide (c = 32)
theorem ruT_le (P : Int32 → Bool) (hP : P (-1) = false) (t : Nat → Int32) (n : Nat) : ∀ f k, k ≤ n → ruT P t n f k ≤ n ∧ k ≤ ruT P t n f k
  | 0, k, h => ⟨h, Nat.le_refl _⟩
  | f + 1, k, h => by
    unfold ruT
    split
    next c =>
      have hk : k < n := Nat.not_le.mp fun q => by unfold seT at c; rw [if_neg (by omega), hP] at c; cases c
      have := ruT_le P hP t n f (k + 1) hk
      omega
    next => exact ⟨h, Nat.le_refl _⟩
/-- run from k on -/
def run (P : Int32 → Bool) (t : Nat → Int32) (n k : Nat) : Nat := ruT P t n (n - k) k
theorem run_t {P : Int32 → Bool} {t : Nat → Int32} {n k : Nat} (hk : k < n) (h : P (seT t n k) = true) : run P t n k = run P t n (k + 1) := by
  unfold run
  rw [show n - k = (n - (k + 1)) + 1 by omega, ruT, if_pos h]
theorem run_f {P : Int32 → Bool} {t : Nat → Int32} {n k : Nat} (h : P (seT t n k) = false) : run P t n k = k := by
  unfold run
  cases n - k with
  | zero => rfl
  | succ f => rw [ruT, if_neg (bf h)]
theorem se_lt {P : Int32 → Bool} (hP : P (-1) = false) {t : Nat → Int32} {n k : Nat} (h : P (seT t n k) = true) : k < n := Nat.not_le.mp fun q => by
  unfold seT at h
  rw [if_neg (by omega), hP] at h
  cases h
def digV (t : Nat → Int32) (k : Nat) : Nat → Int32
  | 0 => 0
  | i + 1 => if i < 3 then 10 * digV t k i + t (k + i) - 48 else digV t k i
def letV (le t : Nat → Int32) (k i : Nat) : Nat → Int32 := fun q => if q < 8 ∧ q < i then t (k + q) else le q
/-- the next token -/
def nxW (t : Nat → Int32) (P : Pk) (k q : Nat) : Pk := (nI k, nI q, if 8 < q - k then 1 else 2, 0, nI (q - k), P.f, P.u, P.p, letV P.le t k (q - k), P.fr)
def nxD (t : Nat → Int32) (P : Pk) (k q : Nat) : Pk := (nI k, nI q, if 3 < q - k then 1 else 3, digV t k (q - k), 0, P.f, P.u, P.p, P.le, P.fr)
def nxQ (t : Nat → Int32) (n : Nat) (P : Pk) (k : Nat) : Pk :=
  if seT t n k = -1 then (nI k, nI k, 0, 0, 0, P.f, P.u, P.p, P.le, P.fr)
  else if smB (seT t n k) = true then nxW t P k (run smB t n k)
  else if dgB (seT t n k) = true then nxD t P k (run dgB t n k)
  else (nI k, nI (k + 1), if seT t n k = 59 then seT t n k else 1, 0, 0, P.f, P.u, P.p, P.le, P.fr)
def nxP (t : Nat → Int32) (n : Nat) (P : Pk) : Pk := nxQ t n P (run spB t n (ix P.e))
theorem nx_0 {t : Nat → Int32} {n : Nat} {P : Pk} {k : Nat} (hk : run spB t n (ix P.e) = k) (hc : seT t n k = -1) : nxP t n P = (nI k, nI k, 0, 0, 0, P.f, P.u, P.p, P.le, P.fr) := by
  unfold nxP nxQ; rw [hk, if_pos hc]
theorem nx_w {t : Nat → Int32} {n : Nat} {P : Pk} {k i : Nat} {x : Int32} (hk : run spB t n (ix P.e) = k) (hc : ¬ seT t n k = -1) (hs : smB (seT t n k) = true) (hq : run smB t n k = k + i) (hx : x = if 8 < i then 1 else 2) : nxP t n P = (nI k, nI (k + i), x, 0, nI i, P.f, P.u, P.p, letV P.le t k i, P.fr) := by
  unfold nxP nxQ; rw [hk, if_neg hc, if_pos hs, hq]; unfold nxW; rw [Nat.add_sub_cancel_left, hx]
theorem nx_d {t : Nat → Int32} {n : Nat} {P : Pk} {k i : Nat} {x : Int32} (hk : run spB t n (ix P.e) = k) (hc : ¬ seT t n k = -1) (hs : smB (seT t n k) = false) (hd : dgB (seT t n k) = true) (hq : run dgB t n k = k + i) (hx : x = if 3 < i then 1 else 3) : nxP t n P = (nI k, nI (k + i), x, digV t k i, 0, P.f, P.u, P.p, P.le, P.fr) := by
  unfold nxP nxQ; rw [hk, if_neg hc, if_neg (bf hs), if_pos hd, hq]; unfold nxD; rw [Nat.add_sub_cancel_left, hx]
theorem nx_s {t : Nat → Int32} {n : Nat} {P : Pk} {k : Nat} {x : Int32} (hk : run spB t n (ix P.e) = k) (hc : ¬ seT t n k = -1) (hs : smB (seT t n k) = false) (hd : dgB (seT t n k) = false) (hx : x = if seT t n k = 59 then seT t n k else 1) : nxP t n P = (nI k, nI (k + 1), x, 0, 0, P.f, P.u, P.p, P.le, P.fr) := by
  unfold nxP nxQ; rw [hk, if_neg hc, if_neg (bf hs), if_neg (bf hd), hx]
theorem letV_0 (le t : Nat → Int32) (k : Nat) : letV le t k 0 = le := by funext q; show (if q < 8 ∧ q < 0 then _ else _) = _; rw [if_neg (by omega)]
theorem letV_s {le t : Nat → Int32} {k i : Nat} {x : Int32} (hx : x = t (k + i)) (hi : i < 8) : (fun q => if q = i then x else letV le t k i q) = letV le t k (i + 1) := by
  funext q
  unfold letV
  by_cases h : q = i
  · subst h
    rw [if_pos rfl, if_pos ⟨hi, by omega⟩, hx]
  · rw [if_neg h]
    by_cases h2 : q < 8 ∧ q < i
    · rw [if_pos h2, if_pos ⟨h2.1, by omega⟩]
    · rw [if_neg h2, if_neg (by omega)]
theorem letV_n {le t : Nat → Int32} {k i : Nat} (hi : ¬ i < 8) : letV le t k i = letV le t k (i + 1) := by
  funext q
  unfold letV
  by_cases h2 : q < 8 ∧ q < i
  · rw [if_pos h2, if_pos ⟨h2.1, by omega⟩]
  · rw [if_neg h2, if_neg (by omega)]
/-- a fault -/
def wgP (k p : Int32) (P : Pk) : Pk := if P.f = 0 then (P.a, P.e, P.k, P.w, P.z, 1, k, p, P.le, P.fr) else P
theorem dig_s {t : Nat → Int32} {k i : Nat} (hi : i < 3) : 10 * digV t k i + t (k + i) - 48 = digV t k (i + 1) := (if_pos hi).symm
theorem dig_n {t : Nat → Int32} {k i : Nat} (hi : ¬ i < 3) : digV t k i = digV t k (i + 1) := (if_neg hi).symm
theorem sp_t {c : Int32} (h : c = 32) : spB c = true := decide_eq_true h
theorem sp_f {c : Int32} (h : ¬ c = 32) : spB c = false := decide_eq_false h
theorem pk_g4 {hm : Nat} {ms : Mst} {P : Pk} : mF hm (pkS ms P) 4 = .int P.a := rfl
theorem pk_g5 {hm : Nat} {ms : Mst} {P : Pk} : mF hm (pkS ms P) 5 = .int P.e := rfl
theorem pk_g6 {hm : Nat} {ms : Mst} {P : Pk} : mF hm (pkS ms P) 6 = .int P.k := rfl
theorem pk_g7 {hm : Nat} {ms : Mst} {P : Pk} : mF hm (pkS ms P) 7 = .int P.w := rfl
theorem pk_g8 {hm : Nat} {ms : Mst} {P : Pk} : mF hm (pkS ms P) 8 = .int P.z := rfl
theorem pk_g13 {hm : Nat} {ms : Mst} {P : Pk} : mF hm (pkS ms P) 13 = .int P.f := rfl
theorem pk_g9 {hm : Nat} {ms : Mst} {P : Pk} : mF hm (pkS ms P) 9 = .int P.u := rfl
theorem pk_g10 {hm : Nat} {ms : Mst} {P : Pk} : mF hm (pkS ms P) 10 = .int P.p := rfl
theorem pk_gA1 {ms : Mst} {P : Pk} {i : Nat} : (pkS ms P).2.2 1 i = P.le i := rfl
theorem pk_gA3 {ms : Mst} {P : Pk} {i : Nat} : (pkS ms P).2.2 3 i = P.fr i := rfl
