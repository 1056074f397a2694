/-! what was told, as cells; names that are found -/
def fdB (g : Nat → Bool) : Nat → Nat → Int32
  | 0, _ => -1
  | m + 1, k => if g k = true then nI k else fdB g m (k + 1)
section FD
variable {g : Nat → Bool} {n i : Nat}
theorem fd_0 (h : n ≤ i) : fdB g (n - i) i = -1 := by rw [show n - i = 0 by omega]; rfl
theorem fd_t (hi : i < n) (h : g i = true) : fdB g (n - i) i = nI i := by rw [show n - i = (n - (i + 1)) + 1 by omega]; exact if_pos h
theorem fd_f (hi : i < n) (h : g i = false) : fdB g (n - i) i = fdB g (n - (i + 1)) (i + 1) := by rw [show n - i = (n - (i + 1)) + 1 by omega]; exact if_neg (bf h)
end FD
theorem fdB_none {g : Nat → Bool} : ∀ {m k : Nat}, (∀ i, k ≤ i → i < k + m → g i = false) → fdB g m k = -1
  | 0, _, _ => rfl
  | m + 1, k, h => by
    unfold fdB
    rw [if_neg (bf (h k (Nat.le_refl _) (by omega)))]
    exact fdB_none (fun i h1 h2 => h i (by omega) (by omega))
theorem fdB_some {g : Nat → Bool} : ∀ {m k i : Nat}, k ≤ i → i < k + m → g i = true → (∀ j, k ≤ j → j < i → g j = false) → fdB g m k = nI i
  | 0, k, i, h1, h2, _, _ => absurd h2 (by omega)
  | m + 1, k, i, h1, h2, h3, h4 => by
    unfold fdB
    by_cases e : k = i
    · subst e; rw [if_pos h3]
    · rw [if_neg (bf (h4 k (Nat.le_refl _) (by omega)))]
      exact fdB_some (by omega) (by omega) h3 (fun j q1 q2 => h4 j (by omega) q2)
theorem fdB_cong {g g2 : Nat → Bool} : ∀ {m k : Nat}, (∀ i, k ≤ i → i < k + m → g i = g2 i) → fdB g m k = fdB g2 m k
  | 0, _, _ => rfl
  | m + 1, k, h => by
    unfold fdB
    rw [h k (Nat.le_refl _) (by omega), fdB_cong (fun i h1 h2 => h i (by omega) (by omega))]
/-- name k is the word -/
def nmE (fr : Nat → Int32) (k : Nat) (le : Nat → Int32) (z : Nat) : Bool := decide (fr (74 + k) = nI z) && wqS (fun q => fr (87 + 8 * k + q)) le z
def NMc (Δ : Cx) (c : Nat → Option Cel) (fr : Nat → Int32) (t k : Nat) : Prop := ∃ (z : Nat) (f : Nat → Int32), ST Δ c t z f ∧ fr (74 + k) = nI z ∧ ∀ q, q < z → fr (87 + 8 * k + q) = f q
theorem ST.z8 {Δ : Cx} {c : Nat → Option Cel} {s z : Nat} {f : Nat → Int32} (S : ST Δ c s z f) : z ≤ 8 := by
  obtain ⟨b, sh, sz, h1, h2, h3, -⟩ := S
  exact h3
theorem nm_eq {fr f le : Nat → Int32} {k z z2 : Nat} (hz : z ≤ 8) (hz2 : z2 ≤ 8) (e : fr (74 + k) = nI z2) (e2 : ∀ q, q < z2 → fr (87 + 8 * k + q) = f q) : eqW f z2 le z = nmE fr k le z := by
  unfold eqW nmE
  by_cases c : z2 = z
  · subst c
    rw [decide_eq_true rfl, decide_eq_true e, Bool.true_and, Bool.true_and]
    exact wq_cong (fun i hi => (e2 i hi).symm) (fun _ _ => rfl)
  · rw [decide_eq_false c, decide_eq_false (fun q => c ((nI_eq (by omega) (by omega)).mp (e.symm.trans q)))]
    rfl
theorem nm_B {P : Pk} {le : Nat → Int32} {k z : Nat} (h1 : 1 ≤ z) (h8 : z ≤ 8) (hz : P.z = nI z) (hl : ∀ j, j < z → le j = P.le j) : nmE P.fr k le z = nmB P k := by
  unfold nmE nmB szB
  rw [hz, ix_nI (by omega)]
  by_cases c : P.fr (74 + k) = nI z
  · rw [decide_eq_true c, decide_eq_true (show 0 < P.fr (74 + k) by rw [c]; exact (nI_ltI (a := 0) (by omega) (by omega)).mpr (by omega)), Bool.true_and, Bool.true_and, Bool.true_and]
    exact wq_cong (fun _ _ => rfl) hl
  · rw [decide_eq_false c, Bool.and_false, Bool.false_and, Bool.false_and]
theorem nmB_all {P : Pk} {i : Nat} (h : nmB P i = true) : 0 < P.fr (74 + i) ∧ P.fr (74 + i) = P.z ∧ ∀ q, q < ix P.z → P.fr (87 + 8 * i + q) = P.le q := by
  unfold nmB szB at h
  rw [Bool.and_eq_true, Bool.and_eq_true] at h
  exact ⟨of_decide_eq_true h.1.1, of_decide_eq_true h.1.2, wq_all h.2⟩
section FNR
variable {nb nh nl ns np nf n : Nat} {P : Pk}
theorem nm_uq (h : LIq nb nh nl ns np nf 13 P.fr) {i j : Nat} (hi : i < 13) (hj : j < 13) (h1 : nmB P i = true) (h2 : nmB P j = true) : i = j := by
  obtain ⟨a1, a2, a3⟩ := nmB_all h1
  obtain ⟨b1, b2, b3⟩ := nmB_all h2
  obtain ⟨-, -, -, -, -, -, h7⟩ := h
  apply Classical.byContradiction
  intro ne
  obtain ⟨q, q1, q2⟩ := h7 i j hi hj ne a1 (a2.trans b2.symm)
  rw [a2] at q1
  exact q2 ((a3 q q1).trans (b3 q q1).symm)
theorem nm_tol2 (h : LIq nb nh nl ns np nf 13 P.fr) {i : Nat} (hi : i < 13) (h1 : nmB P i = true) : told nb nh nl i := by
  obtain ⟨a1, -, -⟩ := nmB_all h1
  obtain ⟨-, -, -, -, -, h6, -⟩ := h
  obtain ⟨z, z1, z2, z3⟩ := h6 i hi
  rw [z2] at a1
  have : 0 < z := (nI_ltI (a := 0) (by omega) (by omega)).mp a1
  rcases z3.mp this with q | q
  · exact q
  · omega
theorem fn_rng (h : LIq nb nh nl ns np nf 13 P.fr) {lo w cnt : Nat} (hlo : lo + w ≤ 13) (hw : 0 < w) (hc : cnt ≤ w) (ht : ∀ i, lo ≤ i → i < lo + w → told nb nh nl i → i < lo + cnt) : fdB (fun i => nmB P (lo + i)) cnt 0 = if inS (fnS P 13 0) (nI lo) (nI (lo + w - 1)) = true then fnS P 13 0 - nI lo else -1 := by
  by_cases c : 0 ≤ fnS P 13 0
  · obtain ⟨i, h0, h1, h2, h3, h4⟩ := fn_some c
    rw [h3]
    by_cases hr : lo ≤ i ∧ i < lo + w
    · have hin : inS (nI i) (nI lo) (nI (lo + w - 1)) = true := decide_eq_true ⟨(nI_leI (by omega) (by omega)).mpr hr.1, (nI_leI (by omega) (by omega)).mpr (by omega)⟩
      have hi := ht i hr.1 hr.2 (nm_tol2 h (by omega) h2)
      rw [if_pos hin, pk_sub hr.1]
      exact fdB_some (Nat.zero_le _) (by omega) (by show nmB P (lo + (i - lo)) = true; rw [show lo + (i - lo) = i by omega]; exact h2) (fun j _ q => h4 (lo + j) (Nat.zero_le _) (by omega))
    · have hin : inS (nI i) (nI lo) (nI (lo + w - 1)) = false := decide_eq_false (fun q => hr ⟨(nI_leI (by omega) (by omega)).mp q.1, by have := (nI_leI (by omega) (by omega)).mp q.2; omega⟩)
      rw [if_neg (bf hin)]
      refine fdB_none (fun j _ q => ?_)
      show nmB P (lo + j) = false
      cases e : nmB P (lo + j) with
      | false => rfl
      | true => have := nm_uq h (i := lo + j) (j := i) (by omega) (by omega) e h2; omega
  · have hn := fn_none (P := P) (m := 13) (k := 0) (by decide) c
    have hin : inS (fnS P 13 0) (nI lo) (nI (lo + w - 1)) = false := decide_eq_false (fun q => c (Int32.le_trans (nI_pos' (by omega)) q.1))
    rw [if_neg (bf hin)]
    exact fdB_none (fun j _ q => hn (lo + j) (Nat.zero_le _) (by omega))
theorem fn_any : 0 ≤ fnS P 13 0 → inS (fnS P 13 0) (nI 4) (nI 7) = true ∨ inS (fnS P 13 0) (nI 0) (nI 3) = true ∨ inS (fnS P 13 0) (nI 8) (nI 12) = true := by
  intro c
  obtain ⟨i, h0, h1, h2, h3, h4⟩ := fn_some c
  rw [h3]
  rcases (by omega : (4 ≤ i ∧ i ≤ 7) ∨ i ≤ 3 ∨ (8 ≤ i ∧ i ≤ 12)) with q | q | q
  · exact Or.inl (decide_eq_true ⟨(nI_leI (by omega) (by omega)).mpr q.1, (nI_leI (by omega) (by omega)).mpr q.2⟩)
  · exact Or.inr (Or.inl (decide_eq_true ⟨(nI_leI (by omega) (by omega)).mpr (by omega), (nI_leI (by omega) (by omega)).mpr q⟩))
  · exact Or.inr (Or.inr (decide_eq_true ⟨(nI_leI (by omega) (by omega)).mpr q.1, (nI_leI (by omega) (by omega)).mpr q.2⟩))
theorem fn_pos {lo hi : Nat} (hl : lo < 100) (h : inS (fnS P 13 0) (nI lo) (nI hi) = true) : 0 ≤ fnS P 13 0 ∧ ¬ fnS P 13 0 - nI lo = -1 := by
  have q := of_decide_eq_true h
  have h0 : 0 ≤ fnS P 13 0 := Int32.le_trans (nI_pos' (by omega)) q.1
  refine ⟨h0, ?_⟩
  obtain ⟨i, -, h1, -, h3, -⟩ := fn_some h0
  rw [h3] at q ⊢
  have := (nI_leI (by omega) (by omega)).mp q.1
  rw [pk_sub this]
  intro e
  have h2 : (0 : Int32) ≤ nI (i - lo) := nI_pos' (by omega)
  rw [e] at h2
  exact absurd h2 (by decide)
end FNR
/-! lists of the parse: an ArrayList at L over an array of cap at E (none yet: the empty one) -/
def LX (Δ : Cx) (c : Nat → Option Cel) (L E cap n : Nat) (f : Nat → Nat) : Prop := ∃ (mc : Int32) (g : Nat → Value), c L = some (14, 0, ob [.int mc, .ref E, .int (nI n)]) ∧ c E = some (103, cap, g) ∧ ((n = 0 ∧ cap = 0 ∧ E = cT Δ 99) ∨ (cap = 10 ∧ n0 Δ ≤ E)) ∧ n ≤ 8 ∧ (∀ i, i < n → g i = .ref (f i)) ∧ n0 Δ ≤ L
section LXS
variable {Δ : Cx} {c c' : Nat → Option Cel} {L E cap n : Nat} {f : Nat → Nat}
theorem LX.al (X : LX Δ c L E cap n f) : AL c L n f := by
  obtain ⟨mc, g, h1, h2, h3, h4, h5, h6⟩ := X
  exact ⟨E, cap, mc, g, h1, h2, by omega, by omega, h5⟩
theorem LX.kp (X : LX Δ c L E cap n f) (k : ∀ b x, c b = some x → b = L ∨ b = E → c' b = some x) : LX Δ c' L E cap n f := by
  obtain ⟨mc, g, h1, h2, h3⟩ := X
  exact ⟨mc, g, k _ _ h1 (Or.inl rfl), k _ _ h2 (Or.inr rfl), h3⟩
end LXS
theorem lx_add {Δ : Cx} {h : Hp} (d : Nat) {L E cap n a ta na Na : Nat} {f : Nat → Nat} {fa : Nat → Value} {Ca : String} {Ta : u_T} (X : LX Δ (ce Δ h) L E cap n f) (hn : n ≤ 7) (ha : ce Δ h a = some (ta, na, fa)) (hca : clz[ta]? = some (Ca, Ta, Na)) (hwa : Cond.castable Ca "java/lang/Object" ∈ lw_tbl) (hta : ta ≠ 14 ∧ ta ≠ 103) : mt Δ (d + 6) muJ2_add [.ref L, .ref a] h (fun v h' => v = some (.int 1) ∧ ∃ E', LX Δ (ce Δ h') L E' 10 (n + 1) (fun i => if i = n then a else f i) ∧ ((E' = E ∧ cap = 10) ∨ (h.1 ≤ E' ∧ n = 0 ∧ cap = 0)) ∧ Fr Δ (fun b => b = L ∨ (b = E ∧ cap = 10)) 1 24 h h') := by
  obtain ⟨mc, g, h1, h2, h3, h4, h5, h6⟩ := X
  rcases h3 with ⟨z1, z2, z3⟩ | ⟨z1, z2⟩
  · refine mt_mono (t_J2_add d h1 h2 (by omega) (fun _ => by omega) (by omega) h6 (Or.inr ⟨z2, z3⟩) (fun _ i hi => absurd hi (by omega)) (tg := 13) (C := RX14) (TT := TX14) (nF := 5) rfl q2376 ha hca hwa ⟨by omega, by omega⟩ hta) fun v h' q => ?_
    obtain ⟨rfl, E', cap', g', F, r1, r2, r3, r4, r5, r6, r7, r8⟩ := q
    have hc : cap' = 10 ∧ E' = h.1 := by
      rcases r8 with ⟨_, e, e2⟩ | ⟨e0, e, e2⟩
      · omega
      · exact ⟨by rw [e, z2]; rfl, e0⟩
    rw [hc.1] at r2
    refine ⟨rfl, E', ⟨mc + 1, g', r1, r2, Or.inr ⟨rfl, r7⟩, by omega, fun i hi => ?_, h6⟩, Or.inr ⟨by omega, z1, z2⟩, F.le (Nat.le_refl _) (Nat.le_refl _) (fun b _ q => ?_)⟩
    · show g' i = .ref (if i = n then a else f i)
      rw [if_pos (by omega), show i = n by omega]; exact r4
    · rcases q with q | ⟨-, q⟩
      · exact Or.inl q
      · omega
  · refine mt_mono (t_J2_add d h1 h2 (by omega) (fun _ => by omega) (by omega) h6 (Or.inl ⟨by omega, z2⟩) (fun q => by omega) (tg := 13) (C := RX14) (TT := TX14) (nF := 5) rfl q2376 ha hca hwa ⟨by omega, by omega⟩ hta) fun v h' q => ?_
    obtain ⟨rfl, E', cap', g', F, r1, r2, r3, r4, r5, r6, r7, r8⟩ := q
    have hc : cap' = 10 ∧ E' = E := by
      rcases r8 with ⟨e0, e, e2⟩ | ⟨_, e, e2⟩
      · exact ⟨by omega, e0⟩
      · omega
    rw [hc.1] at r2
    refine ⟨rfl, E', ⟨mc + 1, g', r1, r2, Or.inr ⟨rfl, r7⟩, by omega, fun i hi => ?_, h6⟩, Or.inl ⟨hc.2, z1⟩, F.le (Nat.le_refl _) (Nat.le_refl _) (fun b _ q => ?_)⟩
    · show g' i = .ref (if i = n then a else f i)
      by_cases e : i = n
      · rw [if_pos e, e]; exact r4
      · rw [if_neg e]; exact (r3 i (by omega)).trans (h5 i (by omega))
    · rcases q with q | ⟨q, -⟩
      · exact Or.inl q
      · exact Or.inr ⟨q, z1⟩
/-! one that was told, as a cell -/
def bdC (Δ : Cx) (c : Nat → Option Cel) (fr : Nat → Int32) (a i : Nat) : Prop := ∃ t, c a = some (6, 0, ob [.ref t, .int (fr (11 + 2 * i)), .int (fr (11 + 2 * i + 1))]) ∧ NMc Δ c fr t (4 + i)
def hoC (Δ : Cx) (c : Nat → Option Cel) (fr : Nat → Int32) (a i : Nat) : Prop := ∃ kd t, kd ≤ 3 ∧ fr (19 + 4 * i) = nI kd ∧ c a = some (7 + kd, 0, ob [.ref t, .int (fr (19 + 4 * i + 1)), .int (fr (19 + 4 * i + 2)), .int (fr (19 + 4 * i + 3))]) ∧ NMc Δ c fr t i
def loC (Δ : Cx) (c : Nat → Option Cel) (fr : Nat → Int32) (a i : Nat) : Prop := ∃ t, c a = some (11, 0, ob [.ref t, .int (fr (35 + 4 * i)), .int (fr (35 + 4 * i + 1)), .int (lpS (fr (35 + 4 * i + 2))), .int (fr (35 + 4 * i + 3))]) ∧ NMc Δ c fr t (8 + i)
def seC (c : Nat → Option Cel) (fr : Nat → Int32) (a i : Nat) : Prop := c a = some (12, 0, ob [.int (fr (59 + 3 * i)), .int (fr (59 + 3 * i + 1)), .int (fr (59 + 3 * i + 2))])
def elC (Δ : Cx) (c : Nat → Option Cel) (fr : Nat → Int32) (j a i : Nat) : Prop := match j with
  | 0 => bdC Δ c fr a i
  | 1 => hoC Δ c fr a i
  | 2 => loC Δ c fr a i
  | _ => seC c fr a i
def rgO (E : Ev) (fr : Nat → Int32) : Nat → Value := ob [.int (fr 0), .int (fr 1), .int (fr 2), .int (fr 3), .int (fr 4), .int (fr 8), .int (fr 9), .ref (E.rg + 1), .ref (E.rg + 2), .ref (E.rg + 3), .ref (E.rg + 4), .ref (E.rg + 5)]
/-- the regatta as it was told so far -/
def GP (Δ : Cx) (E : Ev) (c : Nat → Option Cel) (fr : Nat → Int32) (EL cp cnt : Nat → Nat) (el : Nat → Nat → Nat) : Prop :=
  c E.rg = some (4, 0, ob [.int (fr 0), .int (fr 1), .int (fr 2), .int (fr 3), .int (fr 4), .int (fr 8), .int (fr 9), .ref (E.rg + 1), .ref (E.rg + 2), .ref (E.rg + 3), .ref (E.rg + 4), .ref (E.rg + 5)]) ∧
  (∃ (pf : Nat → Int32) (np : Nat), c (E.rg + 1) = some (100, 4, fun i => .int (pf i)) ∧ fr 9 = nI np ∧ np ≤ 4 ∧ ∀ i, i < np → pf i = fr (55 + i)) ∧
  (fr 5 = nI (cnt 0) ∧ fr 6 = nI (cnt 1) ∧ fr 7 = nI (cnt 2) ∧ fr 10 = nI (cnt 3)) ∧
  (∀ j, j < 4 → LX Δ c (E.rg + 2 + j) (EL j) (cp j) (cnt j) (el j)) ∧
  (∀ i j, i < 4 → j < 4 → i ≠ j → EL i = EL j → cp i = 0) ∧
  (∀ j, j < 4 → ∀ i, i < cnt j → elC Δ c fr j (el j i) i) ∧
  (∀ j, j < 4 → (cp j = 10 → E.rg ≤ EL j) ∧ (∀ i, i < cnt j → E.rg ≤ el j i) ∧ ∀ i i2, i < cnt j → i2 < cnt j → el j i = el j i2 → i = i2) ∧
  ∀ l, cnt 2 ≤ l → l < 5 → fr (35 + 4 * l + 2) = 0 ∧ fr (35 + 4 * l + 3) = 0
section GPA
variable {Δ : Cx} {E : Ev} {c : Nat → Option Cel} {fr : Nat → Int32} {EL cp cnt : Nat → Nat} {el : Nat → Nat → Nat}
theorem gp_b (G : GP Δ E c fr EL cp cnt el) : ∀ i, i < cnt 0 → bdC Δ c fr (el 0 i) i := G.2.2.2.2.2.1 0 (by omega)
theorem gp_h (G : GP Δ E c fr EL cp cnt el) : ∀ i, i < cnt 1 → hoC Δ c fr (el 1 i) i := G.2.2.2.2.2.1 1 (by omega)
theorem gp_l (G : GP Δ E c fr EL cp cnt el) : ∀ i, i < cnt 2 → loC Δ c fr (el 2 i) i := G.2.2.2.2.2.1 2 (by omega)
theorem gp_s (G : GP Δ E c fr EL cp cnt el) : ∀ i, i < cnt 3 → seC c fr (el 3 i) i := G.2.2.2.2.2.1 3 (by omega)
end GPA
