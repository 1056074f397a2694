/-! THE PARSER of RoofRegatta: its world (reader, tokens, the token as it is) and the state P that it stands for -/
/-- reader, tokens, tape, regatta, length of the text, cells and slots at its begin; the bytes, the text -/
abbrev Ev : Type := Nat × Nat × Nat × Nat × Nat × Nat × Nat × (Nat → Int32) × (Nat → Int32)
abbrev Ev.rd (E : Ev) : Nat := E.1
abbrev Ev.tk (E : Ev) : Nat := E.2.1
abbrev Ev.tp (E : Ev) : Nat := E.2.2.1
abbrev Ev.rg (E : Ev) : Nat := E.2.2.2.1
abbrev Ev.n (E : Ev) : Nat := E.2.2.2.2.1
abbrev Ev.b (E : Ev) : Nat := E.2.2.2.2.2.1
abbrev Ev.s (E : Ev) : Nat := E.2.2.2.2.2.2.1
abbrev Ev.tt (E : Ev) : Nat → Int32 := E.2.2.2.2.2.2.2.1
abbrev Ev.t (E : Ev) : Nat → Int32 := E.2.2.2.2.2.2.2.2
def EOK (Δ : Cx) (E : Ev) : Prop := E.n ≤ 900 ∧ n0 Δ ≤ E.rd ∧ n0 Δ ≤ E.tk ∧ tOk E.tt E.t ∧ TKs Δ ∧ TK0 Δ ∧ n0 Δ ≤ E.rg
def tkK (k : Int32) : Prop := k = 0 ∨ k = 1 ∨ k = 2 ∨ k = 3 ∨ k = 59
def PXw (Δ : Cx) (E : Ev) (L : Nat) (h : Hp) (c0 : Nat → Option Cel) (w now e : Nat) (ft fp : Int32) (Q P : Pk) : Prop :=
  ce Δ h E.rd = some (2, 0, ob [.ref E.tk, .ref E.rg, .ref now, .int ft, .int fp]) ∧
  ce Δ h E.tk = some (3, 0, ob [.ref E.tp, .int (nI E.n), .int (nI e)]) ∧
  TokR Δ (ce Δ h) now w Q ∧
  (e ≤ E.n ∧ Q.e = nI e ∧ (Q.k = 0 → e = E.n ∧ Q.a = nI E.n) ∧ tkK Q.k) ∧
  ((P.f = 0 ∧ ft = 0 ∧ Q = P) ∨ (¬ P.f = 0 ∧ 0 < ft ∧ ft = P.u ∧ fp = P.p)) ∧
  ((h.1 ≤ E.b + 5 * e + 4 * L + 1 ∧ h.2.1 ≤ E.s + 40 * e + 24 * L + 4) ∧ (¬ Q.k = 0 → h.1 ≤ E.b + 5 * e + 4 * L ∧ h.2.1 ≤ E.s + 40 * e + 24 * L)) ∧
  Sub c0 (ce Δ h) ∧ (c0 E.rd = none ∧ c0 E.tk = none ∧ c0 E.tp = some (102, 900, fun j => .int (E.tt j)) ∧ (w = cT Δ 0 ∨ c0 w = none))
def PX (Δ : Cx) (E : Ev) (L : Nat) (h : Hp) (c0 : Nat → Option Cel) (P : Pk) : Prop := ∃ (w now e : Nat) (ft fp : Int32) (Q : Pk), PXw Δ E L h c0 w now e ft fp Q P
theorem srt_i {k : Int32} (h : tkK k) : (srt k = 1 → k = 0) ∧ (srt k = 2 → k = 2) ∧ (srt k = 3 → k = 3) ∧ (srt k = 4 → k = 59) := by
  rcases h with rfl | rfl | rfl | rfl | rfl <;> decide
theorem tk_nx {t : Nat → Int32} {n : Nat} {P : Pk} : tkK (nxP t n P).k := by
  unfold nxP nxQ
  split
  · exact Or.inl rfl
  · split
    · show tkK (if 8 < _ then (1 : Int32) else 2)
      split
      · exact Or.inr (Or.inl rfl)
      · exact Or.inr (Or.inr (Or.inl rfl))
    · split
      · show tkK (if 3 < _ then (1 : Int32) else 3)
        split
        · exact Or.inr (Or.inl rfl)
        · exact Or.inr (Or.inr (Or.inr (Or.inl rfl)))
      · show tkK (if _ = 59 then _ else (1 : Int32))
        split
        · next e => rw [e]; exact Or.inr (Or.inr (Or.inr (Or.inr rfl)))
        · exact Or.inr (Or.inl rfl)
theorem nx_end {tt t : Nat → Int32} (hT : tOk tt t) {n e : Nat} (hn : n ≤ 900) {P : Pk} (he : e ≤ n) (hP : P.e = nI e) (hk : (nxP t n P).k = 0) : (nxP t n P).e = nI n ∧ (nxP t n P).a = nI n := by
  have hix : ix P.e = e := by rw [hP, ix_nI (by omega)]
  have hj := (ruT_le spB (by decide) t n (n - e) e he).1
  have hj : run spB t n e ≤ n := hj
  have e0 : nxP t n P = nxQ t n P (run spB t n e) := by unfold nxP; rw [hix]
  rw [e0] at hk ⊢
  generalize run spB t n e = j at hk hj
  unfold nxQ at hk ⊢
  by_cases c : seT t n j = -1
  · rw [if_pos c]
    have : j = n := Nat.le_antisymm hj (Nat.not_lt.mp fun q => se_ne hT q c)
    rw [this]
    exact ⟨rfl, rfl⟩
  · rw [if_neg c] at hk
    exfalso
    split at hk
    · have hk : (if 8 < run smB t n j - j then (1 : Int32) else 2) = 0 := hk
      split at hk <;> exact absurd hk (by decide)
    · split at hk
      · have hk : (if 3 < run dgB t n j - j then (1 : Int32) else 3) = 0 := hk
        split at hk <;> exact absurd hk (by decide)
      · have hk : (if seT t n j = 59 then seT t n j else (1 : Int32)) = 0 := hk
        split at hk
        · next q => rw [q] at hk; exact absurd hk (by decide)
        · exact absurd hk (by decide)
theorem TokR.kp {Δ : Cx} {c c' : Nat → Option Cel} {a w : Nat} {P : Pk} (T : TokR Δ c a w P) (k : ∀ b x, c b = some x → x.1 ≠ 2 → x.1 ≠ 3 → c' b = some x) : TokR Δ c' a w P := by
  obtain ⟨num, z, le, h1, ⟨b, sh, sz, s1, s2, s3⟩, h2⟩ := T
  exact ⟨num, z, le, k _ _ h1 (by show 5 ≠ 2; omega) (by show 5 ≠ 3; omega), ⟨b, sh, sz, k _ _ s1 (by show 16 ≠ 2; omega) (by show 16 ≠ 3; omega), k _ _ s2 (by show 102 ≠ 2; omega) (by show 102 ≠ 3; omega), s3⟩, h2⟩
theorem TokR.cg {Δ : Cx} {c : Nat → Option Cel} {a w : Nat} {P Q : Pk} (T : TokR Δ c a w P) (hk : P.k = 0) (hk2 : Q.k = 0) (ha : P.a = Q.a) : TokR Δ c a w Q := by
  obtain ⟨num, z, le, h1, S, h2, h3⟩ := T
  rw [hk, ← hk2, ha] at h1
  exact ⟨num, z, le, h1, S, fun q => absurd (hk2.symm.trans q) (by decide), fun q => absurd (hk2.symm.trans q) (by decide)⟩
section PXL
variable {Δ : Cx} {E : Ev} {L : Nat} {h h1 h2 : Hp} {c0 : Nat → Option Cel} {w now e : Nat} {ft fp : Int32} {Q P : Pk}
theorem px_n0 (EK : EOK Δ E) (X : PX Δ E L h c0 P) : n0 Δ ≤ h.1 := by
  obtain ⟨w, now, e, ft, fp, Q, h1, -⟩ := X
  have := ce_lt h1
  have := EK.2.1
  omega
/-- the token is the last: it isn't gone over -/
theorem px_end (EK : EOK Δ E) (X : PXw Δ E L h c0 w now e ft fp Q P) (hf : P.f = 0) (hk : P.k = 0) : PX Δ E L h c0 (nxP E.t E.n P) := by
  obtain ⟨x1, x2, x3, ⟨x4, x5, x6, x7⟩, x8, x9, x10, x11⟩ := X
  rcases x8 with ⟨-, f1, f2⟩ | ⟨z, -⟩
  · subst f2
    obtain ⟨y1, y2⟩ := x6 hk
    have hrun : run spB E.t E.n E.n = E.n := run_f (by unfold seT; rw [if_neg (by omega)]; decide)
    have en : nxP E.t E.n Q = (nI E.n, nI E.n, 0, 0, 0, Q.f, Q.u, Q.p, Q.le, Q.fr) := nx_0 (by rw [x5, y1, ix_nI (by have := EK.1; omega)]; exact hrun) (by unfold seT; rw [if_neg (by omega)])
    refine ⟨w, now, e, ft, fp, nxP E.t E.n Q, x1, x2, x3.cg hk (by rw [en]) (by rw [en]; exact y2), ⟨x4, by rw [en, y1], fun _ => ⟨y1, by rw [en]⟩, tk_nx⟩, Or.inl ⟨by rw [en]; exact hf, f1, rfl⟩, ⟨x9.1, fun q => absurd (by rw [en]) q⟩, x10, x11⟩
  · exact absurd hf z
/-- the next token -/
theorem px_mv (EK : EOK Δ E) (X : PXw Δ E L h c0 w now e ft fp Q P) (hf : P.f = 0) (hk : ¬ P.k = 0) {a w2 : Nat} {W : Nat → Prop} (hW : ∀ b, W b → b = E.rd ∨ b = E.tk) (hw : w2 = cT Δ 0 ∨ h.1 ≤ w2) (F : Fr Δ W (if (nxP E.t E.n P).k = 0 then 1 else 5) (if (nxP E.t E.n P).k = 0 then 4 else 40) h h2)
    (hrd : ce Δ h2 E.rd = some (2, 0, ob [.ref E.tk, .ref E.rg, .ref a, .int ft, .int fp])) (htk : ce Δ h2 E.tk = some (3, 0, ob [.ref E.tp, .int (nI E.n), .int (nxP E.t E.n P).e])) (T : TokR Δ (ce Δ h2) a w2 (nxP E.t E.n P)) : PX Δ E L h2 c0 (nxP E.t E.n P) := by
  obtain ⟨x1, x2, x3, ⟨x4, x5, x6, x7⟩, x8, x9, x10, x11⟩ := X
  rcases x8 with ⟨-, f1, f2⟩ | ⟨z, -⟩
  · subst f2
    obtain ⟨r1, r2⟩ := x9.2 hk
    obtain ⟨⟨g1, g2, g3, g4⟩, g5⟩ := F
    have hsub : Sub c0 (ce Δ h2) := fun b x q => g5 b x (x10 b x q) (fun z => by
      rcases hW b z with z | z
      · rw [z, x11.1] at q; cases q
      · rw [z, x11.2.1] at q; cases q)
    have hw2 : w2 = cT Δ 0 ∨ c0 w2 = none := by
      rcases hw with q | q
      · exact Or.inl q
      · cases c : c0 w2 with
        | none => exact Or.inr rfl
        | some x => have := ce_lt (x10 _ _ c); omega
    have en := EK.1
    have G0 : eG E.n e Q := ⟨e, Nat.le_refl _, x4, x5⟩
    obtain ⟨e', q1, q2, q3⟩ := eG_nx (t := E.t) en G0
    have ee : (nxP E.t E.n Q).k = 0 → e' = E.n ∧ (nxP E.t E.n Q).a = nI E.n := fun z => by
      obtain ⟨z1, z2⟩ := nx_end EK.2.2.2.1 en x4 x5 z
      exact ⟨(nI_eq (by omega) (by omega)).mp (q3.symm.trans z1), z2⟩
    rw [q3] at htk
    refine ⟨w2, a, e', ft, fp, nxP E.t E.n Q, hrd, htk, T, ⟨q2, q3, ee, tk_nx⟩, Or.inl ⟨f_nx.trans hf, f1, rfl⟩, ?_, hsub, x11.1, x11.2.1, x11.2.2.1, hw2⟩
    by_cases c : (nxP E.t E.n Q).k = 0
    · rw [if_pos c] at g2 g4
      exact ⟨⟨by omega, by omega⟩, fun q => absurd c q⟩
    · rw [if_neg c] at g2 g4
      obtain ⟨e2, p1, p2, p3⟩ := eG_ns (t := E.t) en G0 c
      have : e2 = e' := (nI_eq (by omega) (by omega)).mp (p3.symm.trans q3)
      exact ⟨⟨by omega, by omega⟩, fun _ => ⟨by omega, by omega⟩⟩
  · exact absurd hf z
/-- a fault is put down -/
theorem px_wr (X : PXw Δ E L h c0 w now e ft fp Q P) (hf : P.f = 0) {kd : Int32} (hkd : 0 < kd) (F : Fr Δ (fun b => b = E.rd) 0 0 h h2) (hrd : ce Δ h2 E.rd = some (2, 0, ob [.ref E.tk, .ref E.rg, .ref now, .int kd, .int Q.a])) : PX Δ E L h2 c0 (wgP kd P.a P) := by
  obtain ⟨x1, x2, x3, x4, x8, x9, x10, x11⟩ := X
  rcases x8 with ⟨-, f1, f2⟩ | ⟨z, -⟩
  · subst f2
    obtain ⟨⟨g1, g2, g3, g4⟩, g5⟩ := F
    have keep : ∀ b x, ce Δ h b = some x → b ≠ E.rd → ce Δ h2 b = some x := fun b x q n => g5 b x q n
    have hwg : wgP kd Q.a Q = (Q.a, Q.e, Q.k, Q.w, Q.z, 1, kd, Q.a, Q.le, Q.fr) := if_pos hf
    rw [hwg]
    refine ⟨w, now, e, kd, Q.a, Q, hrd, keep _ _ x2 (ce_ne x2 x1 (Or.inl (by show 3 ≠ 2; omega))), x3.kp (fun b x q n2 _ => keep b x q (fun z => n2 (by rw [z, x1] at q; rw [← Option.some.inj q]))), x4, Or.inr ⟨(show ¬ (1 : Int32) = 0 by decide), hkd, rfl, rfl⟩, ⟨⟨by omega, by omega⟩, fun q => ⟨by have := (x9.2 q).1; omega, by have := (x9.2 q).2; omega⟩⟩, fun b x q => keep b x (x10 b x q) (fun z => by rw [z, x11.1] at q; cases q), x11⟩
  · exact absurd hf z
/-- the word's hash is put by -/
theorem px_hash (EK : EOK Δ E) (X : PXw Δ E L h c0 w now e ft fp Q P) (F : Fr Δ (fun b => b = w) 0 0 h h2) (T : TokR Δ (ce Δ h2) now w Q) : PXw Δ E L h2 c0 w now e ft fp Q P := by
  obtain ⟨x1, x2, x3, x4, x8, x9, x10, x11⟩ := X
  obtain ⟨⟨g1, g2, g3, g4⟩, g5⟩ := F
  obtain ⟨num, z, le, t1, ⟨b, sh, sz, s1, s2⟩, t2⟩ := x3
  have hn : n0 Δ ≤ h.1 := by have := ce_lt x1; have := EK.2.1; omega
  have keep : ∀ b x, ce Δ h b = some x → b ≠ w → ce Δ h2 b = some x := fun b x q n => g5 b x q n
  refine ⟨keep _ _ x1 (ce_ne x1 s1 (Or.inl (by show 2 ≠ 16; omega))), keep _ _ x2 (ce_ne x2 s1 (Or.inl (by show 3 ≠ 16; omega))), T, x4, x8, ⟨⟨by omega, by omega⟩, fun q => ⟨by have := (x9.2 q).1; omega, by have := (x9.2 q).2; omega⟩⟩, fun b x q => ?_, x11⟩
  by_cases e : b = w
  · rcases x11.2.2.2 with z | z
    · obtain ⟨b0, f0, k1, k2, k3, k4⟩ := EK.2.2.2.2.2.1
      have q1 := x10 b x q
      rw [e, z] at q1 ⊢
      rw [ce_c hn k1] at q1
      rw [ce_c (Nat.le_trans hn g1) k1]
      exact q1
    · rw [e, z] at q; cases q
  · exact keep b x (x10 b x q) e
/-- what is kept may be less, or more that is there -/
theorem px_c0 (X : PXw Δ E L h c0 w now e ft fp Q P) {c1 : Nat → Option Cel} (hs : Sub c1 (ce Δ h)) (h1 : c1 E.rd = none) (h2 : c1 E.tk = none) (h3 : c1 E.tp = some (102, 900, fun j => .int (E.tt j))) (h4 : w = cT Δ 0 ∨ c1 w = none) : PXw Δ E L h c1 w now e ft fp Q P := by
  obtain ⟨x1, x2, x3, x4, x8, x9, x10, x11⟩ := X
  exact ⟨x1, x2, x3, x4, x8, x9, hs, h1, h2, h3, h4⟩
end PXL
/-! what the words say -/
theorem is_T {Q : Pk} {z i : Nat} {le : Nat → Int32} (hf : Q.f = 0) (hk : tkK Q.k) (hz : z ≤ 8) (hm : txN i ≤ 8) (h2 : Q.k = 2 → Q.z = nI z ∧ ∀ j, j < z → le j = Q.le j) : (decide (srt Q.k = 2) && eqW le z (txF i) (txN i)) = isT i Q := by
  by_cases c : Q.k = 2
  · obtain ⟨e1, e2⟩ := h2 c
    unfold isT isW
    rw [decide_eq_true (show srt Q.k = 2 by rw [c]; decide), decide_eq_true hf, decide_eq_true c, e1, Bool.true_and, Bool.true_and, Bool.true_and]
    unfold eqW
    by_cases q : z = txN i
    · rw [decide_eq_true q, decide_eq_true (show nI z = nI (txN i) by rw [q]), Bool.true_and, Bool.true_and, ← q]
      exact wq_cong e2 (fun _ _ => rfl)
    · rw [decide_eq_false q, decide_eq_false (fun w => q ((nI_eq (by omega) (by omega)).mp w))]
      rfl
  · rw [decide_eq_false (fun q => c ((srt_i hk).2.1 q)), show isT i Q = false from isW_2 c]
    rfl
theorem kw_T {Q : Pk} {z : Nat} {le : Nat → Int32} (hf : Q.f = 0) (hk : tkK Q.k) (hz : z ≤ 8) (h2 : Q.k = 2 → Q.z = nI z ∧ ∀ j, j < z → le j = Q.le j) : (decide (srt Q.k = 2) && !kwE le z) = (decide (Q.k = 2) && !kwB Q) := by
  by_cases c : Q.k = 2
  · have e : ∀ i, txN i ≤ 8 → eqW le z (txF i) (txN i) = isT i Q := fun i hi => by
      have := is_T (i := i) hf hk hz hi h2
      rw [decide_eq_true (show srt Q.k = 2 by rw [c]; decide), Bool.true_and] at this
      exact this
    have e2 : kwE le z = kwB Q := by
      unfold kwE kwB
      rw [e 14 (by decide), e 2 (by decide), e 7 (by decide), e 9 (by decide), e 1 (by decide), e 6 (by decide), e 11 (by decide), e 17 (by decide)]
    rw [decide_eq_true (show srt Q.k = 2 by rw [c]; decide), decide_eq_true c, e2]
  · rw [decide_eq_false (fun q => c ((srt_i hk).2.1 q)), decide_eq_false c]
    rfl
theorem tx8 : ∀ i, i < 25 → txN i ≤ 8 := by decide
section PST
variable {t : Nat → Int32} {n i : Nat} {lo hi : Int32} {P : Pk}
theorem wg_n {k p : Int32} (h : ¬ P.f = 0) : wgP k p P = P := if_neg h
theorem wg_f {k p : Int32} (h : P.f = 0) : (wgP k p P).f = 1 := by unfold wgP; rw [if_pos h]
theorem pa_n (h : ¬ P.f = 0) : paP t n P = P := if_neg h
theorem pa_y (h : P.f = 0) : paP t n P = nxP t n P := if_pos h
theorem pa_wg {k p : Int32} : paP t n (wgP k p P) = wgP k p P := if_neg f_wgN
theorem mu_t (h : P.f = 0 → isT i P = true) : paP t n P = muP t n i P := by
  unfold muP paP
  by_cases c : P.f = 0
  · rw [if_pos c, if_pos c, if_pos (h c)]
  · rw [if_neg c, if_neg c]
theorem mu_f (h : P.f = 0 → isT i P = false) : paP t n (wgP 1 P.a P) = muP t n i P := by
  rw [pa_wg]
  unfold muP
  by_cases c : P.f = 0
  · rw [if_pos c, if_neg (bf (h c))]
  · rw [if_neg c, wg_n c]
theorem nu_t (h : P.f = 0 → P.k = 3 ∧ inS P.w lo hi = true) : paP t n P = nuP t n lo hi P := by
  unfold nuP paP
  by_cases c : P.f = 0
  · have e : nuW lo hi P = P := by unfold nuW; rw [if_pos (h c).1, if_pos (h c).2]
    rw [if_pos c, if_pos c, e, if_pos c]
  · rw [if_neg c, if_neg c]
theorem nu_4 (h : P.f = 0 → P.k = 3 ∧ inS P.w lo hi = false) : paP t n (wgP 4 P.a P) = nuP t n lo hi P := by
  rw [pa_wg]
  unfold nuP
  by_cases c : P.f = 0
  · have e : nuW lo hi P = wgP 4 P.a P := by unfold nuW; rw [if_pos (h c).1, if_neg (bf (h c).2)]
    rw [if_pos c, e, if_neg f_wgN]
  · rw [if_neg c, wg_n c]
theorem nu_1 (h : P.f = 0 → ¬ P.k = 3) : paP t n (wgP 1 P.a P) = nuP t n lo hi P := by
  rw [pa_wg]
  unfold nuP
  by_cases c : P.f = 0
  · have e : nuW lo hi P = wgP 1 P.a P := by unfold nuW; rw [if_neg (h c)]
    rw [if_pos c, e, if_neg f_wgN]
  · rw [if_neg c, wg_n c]
theorem nuV_ok (h : (nuP t n lo hi P).f = 0) : P.f = 0 ∧ P.k = 3 ∧ nuV lo hi P = P.w := by
  have c := f_nu h
  unfold nuP at h
  rw [if_pos c] at h
  unfold nuV
  by_cases c2 : (nuW lo hi P).f = 0
  · refine ⟨c, ?_, by rw [if_pos c, if_pos c2]⟩
    unfold nuW at c2
    by_cases k : P.k = 3
    · exact k
    · rw [if_neg k] at c2
      exact absurd c2 f_wgN
  · rw [if_neg c2] at h
    exact absurd h c2
theorem si_l (h : P.f = 0 → isT 8 P = true) : paP t n P = siP t n P := by
  unfold siP
  by_cases c : P.f = 0
  · rw [if_pos (h c), pa_y c]
  · rw [if_neg (bf (show isT 8 P = false from isW_1 c)), pa_n c]
    unfold muP
    rw [if_neg c]
theorem si_r (h8 : P.f = 0 → isT 8 P = false) (h : P.f = 0 → isT 15 P = true) : paP t n P = siP t n P := by
  unfold siP
  by_cases c : P.f = 0
  · rw [if_neg (bf (h8 c))]; exact mu_t h
  · rw [if_neg (bf (show isT 8 P = false from isW_1 c)), pa_n c]
    unfold muP
    rw [if_neg c]
theorem si_n (h8 : P.f = 0 → isT 8 P = false) (h : P.f = 0 → isT 15 P = false) : paP t n (wgP 1 P.a P) = siP t n P := by
  unfold siP
  by_cases c : P.f = 0
  · rw [if_neg (bf (h8 c))]; exact mu_f h
  · rw [if_neg (bf (show isT 8 P = false from isW_1 c)), pa_wg, wg_n c]
    unfold muP
    rw [if_neg c]
theorem siV_l (h : (siP t n P).f = 0) (h8 : P.f = 0 → isT 8 P = true) : siV P = 0 := if_pos (h8 (f_si h))
theorem siV_r (h : (siP t n P).f = 0) (h8 : P.f = 0 → isT 8 P = false) : siV P = 1 := if_neg (bf (h8 (f_si h)))
end PST
