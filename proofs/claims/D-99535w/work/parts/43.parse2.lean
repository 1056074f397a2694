/-! the parser's steps -/
def TK (Δ : Cx) (a n : Nat) (f : Nat → Int32) : Prop := ∃ (b : Nat) (hs z : Int32), a < n0 Δ ∧ b < n0 Δ ∧ cK Δ a = some (16, 0, ob [.ref b, .int 0, .int hs, .int z]) ∧ cK Δ b = some (102, n, fun j => .int (f j)) ∧ n ≤ 8 ∧ ∀ j, j < n → ∃ c : Nat, c < 128 ∧ f j = nI c
theorem ce_c {Δ : Cx} {h : Hp} {a : Nat} (hn : n0 Δ ≤ h.1) (ha : a < n0 Δ) : ce Δ h a = cK Δ a := by
  unfold ce
  rw [if_neg (by omega), if_pos ha]
theorem TK.tx {Δ : Cx} {h : Hp} {a n : Nat} {f : Nat → Int32} (hn : n0 Δ ≤ h.1) (T : TK Δ a n f) : ∃ (b : Nat) (hs z : Int32), ce Δ h a = some (16, 0, ob [.ref b, .int 0, .int hs, .int z]) ∧ ce Δ h b = some (102, n, fun j => .int (f j)) ∧ n < 2 ^ 31 ∧ ∀ j, j < n → ∃ c : Nat, c < 128 ∧ f j = nI c := by
  obtain ⟨b, hs, z, h1, h2, h3, h4, h5, h6⟩ := T
  exact ⟨b, hs, z, (ce_c hn h1).trans h3, (ce_c hn h2).trans h4, by omega, h6⟩
/-- the letters of text i, how many -/
def txL (i : Nat) : List Nat := txb.getD i []
def txN (i : Nat) : Nat := (txL i).length
def txF (i : Nat) : Nat → Int32 := fun j => nI ((txL i).getD j 0)
def TKs (Δ : Cx) : Prop := ∀ i, i < 25 → TK Δ (cT Δ i) (txN i) (txF i)
def wqS (le f : Nat → Int32) : Nat → Bool
  | 0 => true
  | k + 1 => wqS le f k && decide (le k = f k)
def isW (P : Pk) (n : Nat) (f : Nat → Int32) : Bool := decide (P.f = 0) && (decide (P.k = 2) && (decide (P.z = nI n) && wqS P.le f n))
/-- whether the word is text i -/
def isT (i : Nat) (P : Pk) : Bool := isW P (txN i) (txF i)
theorem isW_1 {P : Pk} {n : Nat} {f : Nat → Int32} (h : ¬ P.f = 0) : isW P n f = false := by unfold isW; rw [decide_eq_false h]; rfl
theorem isW_2 {P : Pk} {n : Nat} {f : Nat → Int32} (h : ¬ P.k = 2) : isW P n f = false := by unfold isW; rw [decide_eq_false h]; exact Bool.and_false _
theorem isW_3 {P : Pk} {n : Nat} {f : Nat → Int32} (h : ¬ P.z = nI n) : isW P n f = false := by unfold isW; rw [decide_eq_false h]; rw [Bool.false_and, Bool.and_false, Bool.and_false]
theorem isW_4 {P : Pk} {n : Nat} {f : Nat → Int32} (h : P.f = 0) (h2 : P.k = 2) (h3 : P.z = nI n) : isW P n f = wqS P.le f n := by unfold isW; rw [decide_eq_true h, decide_eq_true h2, decide_eq_true h3]; rfl
def eOk (n : Nat) (P : Pk) : Prop := (∃ e : Nat, e ≤ n ∧ P.e = nI e) ∧ (P.k = 2 → ∃ z : Nat, 1 ≤ z ∧ z ≤ 8 ∧ P.z = nI z)
theorem eOk_wg {n : Nat} {P : Pk} {k p : Int32} (h : eOk n P) : eOk n (wgP k p P) := by
  unfold wgP
  split
  · exact h
  · exact h
theorem eOk_nx {t : Nat → Int32} {n : Nat} (hn : n ≤ 900) {P : Pk} (h : eOk n P) : eOk n (nxP t n P) := by
  obtain ⟨⟨e, h1, h2⟩, -⟩ := h
  have hix : ix P.e = e := by rw [h2, ix_nI (by omega)]
  unfold nxP
  rw [hix]
  have hk := (ruT_le spB (by decide) t n (n - e) e h1).1
  have hk2 : run spB t n e ≤ n := hk
  generalize run spB t n e = k at hk2
  unfold nxQ
  split
  · exact ⟨⟨_, hk2, rfl⟩, fun q => absurd q (show ¬ (0 : Int32) = 2 by decide)⟩
  · next hc =>
    have hkn : k < n := by
      apply Nat.not_le.mp
      intro q
      apply hc
      unfold seT
      rw [if_neg (by omega)]
    split
    · next hs =>
      have h3 := ruT_le smB (by decide) t n (n - k) k hk2
      have h4 : run smB t n k = run smB t n (k + 1) := run_t hkn hs
      have h5 := ruT_le smB (by decide) t n (n - (k + 1)) (k + 1) hkn
      refine ⟨⟨_, h3.1, rfl⟩, fun q => ⟨run smB t n k - k, ?_, ?_, rfl⟩⟩
      · rw [h4]; have : k + 1 ≤ run smB t n (k + 1) := h5.2; omega
      · have q : (if 8 < run smB t n k - k then (1 : Int32) else 2) = 2 := q
        apply Nat.not_lt.mp
        intro z
        rw [if_pos z] at q
        exact absurd q (by decide)
    · split
      · refine ⟨⟨_, (ruT_le dgB (by decide) t n _ _ hk2).1, rfl⟩, fun q => ?_⟩
        have q : (if 3 < run dgB t n k - k then (1 : Int32) else 3) = 2 := q
        exfalso
        split at q
        · exact absurd q (by decide)
        · exact absurd q (by decide)
      · refine ⟨⟨k + 1, hkn, rfl⟩, fun q => ?_⟩
        have q : (if seT t n k = 59 then seT t n k else (1 : Int32)) = 2 := q
        exfalso
        split at q
        · next z => rw [z] at q; exact absurd q (by decide)
        · exact absurd q (by decide)
section PP
variable (t : Nat → Int32) (n : Nat)
/-- gone over if no fault was found -/
def paP (P : Pk) : Pk := if P.f = 0 then nxP t n P else P
def muP (i : Nat) (P : Pk) : Pk := if P.f = 0 then (if isT i P = true then nxP t n P else wgP 1 P.a P) else P
def tkP (i : Nat) (P : Pk) : Pk := if isT i P = true then nxP t n P else P
/-- a number: what is wrong with it; what it is; what is behind it -/
def nuW (lo hi : Int32) (P : Pk) : Pk := if P.k = 3 then (if inS P.w lo hi = true then P else wgP 4 P.a P) else wgP 1 P.a P
def nuP (lo hi : Int32) (P : Pk) : Pk := if P.f = 0 then (if (nuW lo hi P).f = 0 then nxP t n (nuW lo hi P) else nuW lo hi P) else P
def nuV (lo hi : Int32) (P : Pk) : Int32 := if P.f = 0 then (if (nuW lo hi P).f = 0 then P.w else lo) else lo
def afP (i : Nat) (lo hi : Int32) (P : Pk) : Pk := nuP t n lo hi (muP t n i P)
def afV (i : Nat) (lo hi : Int32) (P : Pk) : Int32 := nuV lo hi (muP t n i P)
/-- a side: left, right -/
def siP (P : Pk) : Pk := if isT 8 P = true then nxP t n P else muP t n 15 P
def siV (P : Pk) : Int32 := if isT 8 P = true then 0 else 1
end PP
/-- whether a word is one of the eight that are no names -/
def kwB (P : Pk) : Bool := isT 14 P || (isT 2 P || (isT 7 P || (isT 9 P || (isT 1 P || (isT 6 P || (isT 11 P || isT 17 P))))))
def mnP (P : Pk) : Pk := if (decide (P.k = 2) && !kwB P) = true then P else wgP 1 P.a P
theorem eOk_pa {t : Nat → Int32} {n : Nat} (hn : n ≤ 900) {P : Pk} (h : eOk n P) : eOk n (paP t n P) := by
  unfold paP; split
  · exact eOk_nx hn h
  · exact h
theorem eOk_mu {t : Nat → Int32} {n : Nat} (hn : n ≤ 900) {i : Nat} {P : Pk} (h : eOk n P) : eOk n (muP t n i P) := by
  unfold muP; split
  · split
    · exact eOk_nx hn h
    · exact eOk_wg h
  · exact h
theorem eOk_tk {t : Nat → Int32} {n : Nat} (hn : n ≤ 900) {i : Nat} {P : Pk} (h : eOk n P) : eOk n (tkP t n i P) := by
  unfold tkP; split
  · exact eOk_nx hn h
  · exact h
theorem eOk_nw {n : Nat} {lo hi : Int32} {P : Pk} (h : eOk n P) : eOk n (nuW lo hi P) := by
  unfold nuW; split
  · split
    · exact h
    · exact eOk_wg h
  · exact eOk_wg h
theorem eOk_nu {t : Nat → Int32} {n : Nat} (hn : n ≤ 900) {lo hi : Int32} {P : Pk} (h : eOk n P) : eOk n (nuP t n lo hi P) := by
  unfold nuP; split
  · split
    · exact eOk_nx hn (eOk_nw h)
    · exact eOk_nw h
  · exact h
theorem eOk_af {t : Nat → Int32} {n : Nat} (hn : n ≤ 900) {i : Nat} {lo hi : Int32} {P : Pk} (h : eOk n P) : eOk n (afP t n i lo hi P) := eOk_nu hn (eOk_mu hn h)
theorem eOk_si {t : Nat → Int32} {n : Nat} (hn : n ≤ 900) {P : Pk} (h : eOk n P) : eOk n (siP t n P) := by
  unfold siP; split
  · exact eOk_nx hn h
  · exact eOk_mu hn h
theorem eOk_mn {n : Nat} {P : Pk} (h : eOk n P) : eOk n (mnP P) := by
  unfold mnP; split
  · exact h
  · exact eOk_wg h
/-! names -/
def szB (P : Pk) (i : Nat) : Bool := decide (0 < P.fr (74 + i)) && decide (P.fr (74 + i) = P.z)
def nmB (P : Pk) (i : Nat) : Bool := szB P i && wqS (fun k => P.fr (87 + 8 * i + k)) P.le (ix P.z)
def fnS (P : Pk) : Nat → Nat → Int32
  | 0, _ => -1
  | m + 1, k => if nmB P k = true then nI k else fnS P m (k + 1)
theorem wqS_f {le f : Nat → Int32} {k : Nat} (h : wqS le f k = false) : ∀ j, wqS le f (k + j) = false
  | 0 => h
  | j + 1 => by
    show (wqS le f (k + j) && _) = false
    rw [wqS_f h j]; rfl
/-- a name's letters and its size put by as number i -/
def naF (i : Nat) (P : Pk) (m : Nat) : Nat → Int32 := fun q => if 87 + 8 * i ≤ q ∧ q < 87 + 8 * i + m then P.le (q - (87 + 8 * i)) else P.fr q
def naP (i : Nat) (P : Pk) : Pk := (P.a, P.e, P.k, P.w, P.z, P.f, P.u, P.p, P.le, fun q => if q = 74 + i then P.z else naF i P (ix P.z) q)
theorem eOk_na {n i : Nat} {P : Pk} (h : eOk n P) : eOk n (naP i P) := h
theorem naF_0 (i : Nat) (P : Pk) : naF i P 0 = P.fr := by funext q; unfold naF; rw [if_neg (by omega)]
theorem naF_s {i m : Nat} {P : Pk} {x : Int32} (hx : x = P.le m) : (fun q => if q = 87 + 8 * i + m then x else naF i P m q) = naF i P (m + 1) := by
  funext q
  unfold naF
  by_cases h : q = 87 + 8 * i + m
  · subst h
    rw [if_pos rfl, if_pos ⟨by omega, by omega⟩, Nat.add_sub_cancel_left, hx]
  · rw [if_neg h]
    by_cases h2 : 87 + 8 * i ≤ q ∧ q < 87 + 8 * i + m
    · rw [if_pos h2, if_pos ⟨h2.1, by omega⟩]
    · rw [if_neg h2, if_neg (by omega)]
def nnW (P : Pk) : Pk := if 0 ≤ fnS P 13 0 then wgP 3 P.a P else P
def nnC (P : Pk) : Pk := if (mnP P).f = 0 then nnW P else mnP P
def nnP (t : Nat → Int32) (n i : Nat) (P : Pk) : Pk := if P.f = 0 then (if (nnC P).f = 0 then nxP t n (naP i P) else nnC P) else P
theorem mnP_ok {P : Pk} (hf : P.f = 0) (h : (mnP P).f = 0) : mnP P = P ∧ P.k = 2 := by
  unfold mnP at *
  by_cases c : (decide (P.k = 2) && !kwB P) = true
  · rw [if_pos c]
    rw [Bool.and_eq_true] at c
    exact ⟨rfl, of_decide_eq_true c.1⟩
  · rw [if_neg c] at h
    unfold wgP at h
    rw [if_pos hf] at h
    exact absurd h (show ¬ (1 : Int32) = 0 by decide)
theorem eOk_nn {t : Nat → Int32} {n : Nat} (hn : n ≤ 900) {i : Nat} {P : Pk} (h : eOk n P) : eOk n (nnP t n i P) := by
  unfold nnP nnC nnW
  repeat' split
  all_goals first | exact h | exact eOk_nx hn (eOk_na h) | exact eOk_wg h | exact eOk_mn h
/-- a name told ahead: what is wrong with it; its number -/
def ndW (lo hi : Int32) (P : Pk) : Pk := if inS (fnS P 13 0) lo hi = true then P else wgP 2 P.a P
def ndP (lo hi : Int32) (P : Pk) : Pk := if P.f = 0 then (if (mnP P).f = 0 then ndW lo hi P else mnP P) else P
def ndV (lo hi : Int32) (P : Pk) : Int32 := if P.f = 0 then (if (mnP P).f = 0 then (if (ndW lo hi P).f = 0 then fnS P 13 0 - lo else 0) else 0) else 0
theorem eOk_nd {n : Nat} {lo hi : Int32} {P : Pk} (h : eOk n P) : eOk n (ndP lo hi P) := by
  unfold ndP ndW
  repeat' split
  all_goals first | exact h | exact eOk_wg h | exact eOk_mn h
/-- the beginning of a line -/
def beW (can : Bool) (P : Pk) : Pk := if can = true then P else wgP 5 P.a P
def beC (can : Bool) (P : Pk) : Pk := if P.fr 0 = 0 then wgP 6 (beW can P).a (beW can P) else beW can P
def beP (t : Nat → Int32) (n i : Nat) (can : Bool) (P : Pk) : Pk := if isT i P = true then paP t n (beC can P) else P
theorem eOk_be {t : Nat → Int32} {n : Nat} (hn : n ≤ 900) {i : Nat} {can : Bool} {P : Pk} (h : eOk n P) : eOk n (beP t n i can P) := by
  have h1 : eOk n (beW can P) := by unfold beW; split; exact h; exact eOk_wg h
  have h2 : eOk n (beC can P) := by unfold beC; split; exact eOk_wg h1; exact h1
  unfold beP
  split
  · exact eOk_pa hn h2
  · exact h
def sOk (fr : Nat → Int32) : Prop := ∀ i, i < 13 → ∃ z : Nat, z ≤ 8 ∧ fr (74 + i) = nI z
abbrev fdH (P : Pk) (i k : Nat) (B : Bool) : Prop := (szB P i = false ∧ B = false) ∨ (szB P i = true ∧ k ≤ ix P.z ∧ B = wqS (fun k => P.fr (87 + 8 * i + k)) P.le k)
theorem sz_e {P : Pk} {i : Nat} (h : szB P i = true) : P.fr (74 + i) = P.z := by
  unfold szB at h
  rw [Bool.and_eq_true] at h
  exact of_decide_eq_true h.2
theorem fd_1 {P : Pk} {i k : Nat} {B : Bool} (N : sOk P.fr) (hi : i < 13) (h : fdH P i k B) (hge : P.z ≤ nI k) : B = nmB P i := by
  rcases h with ⟨h1, h2⟩ | ⟨h1, h2, h3⟩
  · unfold nmB; rw [h1, h2]; rfl
  · obtain ⟨z, hz, e⟩ := N i hi
    have e2 : P.z = nI z := (sz_e h1).symm.trans e
    have e3 : ix P.z = z := by rw [e2, ix_nI (by omega)]
    rw [e2] at hge
    have := (nI_leI (by omega) (by omega)).mp hge
    unfold nmB
    rw [h1, h3, show k = ix P.z by omega]
    rfl
theorem fd_2 {P : Pk} {i k : Nat} {B : Bool} (h : fdH P i k B) (hB : B = false) : B = nmB P i := by
  rcases h with ⟨h1, h2⟩ | ⟨h1, h2, h3⟩
  · unfold nmB; rw [h1, h2]; rfl
  · unfold nmB
    obtain ⟨j, hj⟩ : ∃ j, ix P.z = k + j := ⟨ix P.z - k, by omega⟩
    rw [h1, hB, hj, wqS_f (h3.symm.trans hB) j]
    rfl
theorem fn_t {P : Pk} {i : Nat} (hi : i < 13) (h : nmB P i = true) : fnS P (13 - i) i = nI i := by
  rw [show 13 - i = (13 - (i + 1)) + 1 by omega, fnS, if_pos h]
theorem fn_f {P : Pk} {i : Nat} (hi : i < 13) (h : nmB P i = false) : fnS P (13 - i) i = fnS P (13 - (i + 1)) (i + 1) := by
  rw [show 13 - i = (13 - (i + 1)) + 1 by omega, fnS, if_neg (bf h)]
theorem nnC_ok {P : Pk} (hf : P.f = 0) (h : (nnC P).f = 0) : nnC P = P ∧ P.k = 2 := by
  unfold nnC at *
  by_cases c : (mnP P).f = 0
  · obtain ⟨e1, e2⟩ := mnP_ok hf c
    rw [if_pos c] at h ⊢
    unfold nnW at *
    by_cases c2 : 0 ≤ fnS P 13 0
    · rw [if_pos c2] at h
      unfold wgP at h
      rw [if_pos hf] at h
      exact absurd h (show ¬ (1 : Int32) = 0 by decide)
    · rw [if_neg c2]
      exact ⟨rfl, e2⟩
  · rw [if_neg c] at h
    exact absurd h c
theorem ndW_ok {lo hi : Int32} {P : Pk} (hf : P.f = 0) (h : (ndW lo hi P).f = 0) : ndW lo hi P = P := by
  unfold ndW at *
  by_cases c : inS (fnS P 13 0) lo hi = true
  · rw [if_pos c]
  · rw [if_neg c] at h
    unfold wgP at h
    rw [if_pos hf] at h
    exact absurd h (show ¬ (1 : Int32) = 0 by decide)
