/-! lines that add nothing to a list: their laws -/
section L4
variable {t : Nat → Int32} {n : Nat} {P Q S0 S1 S2 S3 S4 S5 : Pk} {nb nh nl ns np nf l m g : Nat} {c : Int32}
theorem aa_1 (h : Q.f = 0) (h2 : Q.fr (35 + 4 * l + 2) ≤ 0) : aaW l Q = Q := by unfold aaW; rw [if_pos h, if_pos h2]
theorem aa_2 (h : Q.f = 0) (h2 : ¬ Q.fr (35 + 4 * l + 2) ≤ 0) : aaW l Q = wgP 3 Q.a Q := by unfold aaW; rw [if_pos h, if_neg h2]
theorem aa_n (h : ¬ Q.f = 0) : aaW l Q = Q := if_neg h
theorem ab_1 (h : Q.f = 0) (h2 : c < Q.fr (19 + 4 * l + 3)) : abW c l Q = Q := by unfold abW; rw [if_pos h, if_pos h2]
theorem ab_2 (h : Q.f = 0) (h2 : ¬ c < Q.fr (19 + 4 * l + 3)) : abW c l Q = wgP 7 Q.a Q := by unfold abW; rw [if_pos h, if_neg h2]
theorem ab_n (h : ¬ Q.f = 0) : abW c l Q = Q := if_neg h
theorem fr_abw : (abW c l Q).fr = Q.fr := by
  unfold abW
  split
  · split
    · rfl
    · exact fr_wg
  · rfl
theorem fw_n (h : ¬ Q.f = 0) : frW l m Q = Q := if_neg h
theorem fw_1 (h : Q.f = 0) (h2 : hbS (Q.fr (35 + 4 * l + 3)) (nI m) = true) : frW l m Q = wgP 3 Q.a Q := by unfold frW; rw [if_pos h, if_pos (Or.inr h2)]
theorem fw_2 (h : Q.f = 0) (hl : l < 100) (hm : m < 100) (h2 : hbS (Q.fr (35 + 4 * l + 3)) (nI m) = false) : unP (decide (nI l = nI m)) Q = frW l m Q := by
  unfold frW unP
  rw [if_pos h, if_pos h]
  by_cases e : l = m
  · rw [if_pos (decide_eq_true (by rw [e])), if_pos (Or.inl e)]
  · rw [if_neg (bf (decide_eq_false (fun q => e ((nI_eq (by omega) (by omega)).mp q)))), if_neg (fun z => by
      rcases z with z | z
      · exact e z
      · rw [h2] at z; cases z)]
/-- which one a name told ahead is -/
theorem nd_l (I : LIq nb nh nl ns np nf 13 P.fr) (h : (ndP 8 12 P).f = 0) : ∃ v, v < nl ∧ ndV 8 12 P = nI v := by
  obtain ⟨-, -, -, -, i, h1, h2, h3, h4, h5⟩ := nd_okI 8 12 rfl rfl (by omega) (by omega) h
  have ht := nm_tol2 I (by omega) h3
  have b4 := I.1
  unfold told at ht
  obtain ⟨-, -, -, e⟩ := ndV_1 h
  refine ⟨i - 8, by omega, ?_⟩
  rw [e, h4]
  exact pk_sub (a := i) (b := 8) (by omega)
theorem nd_h (I : LIq nb nh nl ns np nf 13 P.fr) (h : (ndP 0 3 P).f = 0) : ∃ v, v < nh ∧ ndV 0 3 P = nI v := by
  obtain ⟨-, -, -, -, i, h1, h2, h3, h4, h5⟩ := nd_okI 0 3 rfl rfl (by omega) (by omega) h
  have ht := nm_tol2 I (by omega) h3
  have b4 := I.1
  unfold told at ht
  obtain ⟨-, -, -, e⟩ := ndV_1 h
  refine ⟨i, by omega, ?_⟩
  rw [e, h4]
  exact Int32.sub_zero _
theorem cn_eq {fr : Nat → Int32} (hb : ∀ l, l < 5 → bd (fr (35 + 4 * l + 2)) 4) (hg : g < 4) : ∀ k, k ≤ 5 → cnA (fun i => lpS (fr (35 + 4 * i + 2))) (nI g) k = cnH fr (nI g + 1) k
  | 0, _ => rfl
  | k + 1, hk => by
    show cnA (fun i => lpS (fr (35 + 4 * i + 2))) (nI g) k + (if lpS (fr (35 + 4 * k + 2)) = nI g then 1 else 0) = cnH fr (nI g + 1) k + (if fr (35 + 4 * k + 2) = nI g + 1 then 1 else 0)
    rw [cn_eq hb hg k (by omega)]
    have q := lp_h (hb k (by omega)) (by omega) hg
    by_cases e : fr (35 + 4 * k + 2) = nI g + 1
    · rw [if_pos e, if_pos (q.mpr e)]
    · rw [if_neg e, if_neg (fun z => e (q.mp z))]
theorem bd_lod (I : LIq nb nh nl ns np nf 13 P.fr) : ∀ l, l < 5 → bd (P.fr (35 + 4 * l + 2)) 4 := fun l hl => bd_le (I.2.2.2.1 l hl) I.1.2.1
theorem f_abS (h : (paP t n (aaW l (ndP 8 12 P))).f = 0) : (ndP 8 12 P).f = 0 := by rw [f_pa] at h; exact (f_aa h).1
/-! the regatta's own line -/
theorem reL_n (h : ¬ (reW P).f = 0) : reL t n P = reW P := if_neg h
theorem reS (q0 : S0 = paP t n (reW P)) (q1 : S1 = afP t n 23 1 20 S0) (q2 : S2 = stA t n 3 1 1 6 S1) (q3 : S3 = stA t n 18 2 0 30 S2) (q4 : S4 = stA t n 13 3 0 100 S3) (q5 : S5 = stA t n 4 4 0 9 S4) (h : (reW P).f = 0) : reL t n P = if S5.f = 0 then sfP 0 (afV t n 23 1 20 S0) S5 else S5 := by
  rw [pa_y h] at q0
  rw [q5, q4, q3, q2, q1, q0]
  exact if_pos h
theorem re_f (q0 : S0 = paP t n (reW P)) (q1 : S1 = afP t n 23 1 20 S0) (q2 : S2 = stA t n 3 1 1 6 S1) (q3 : S3 = stA t n 18 2 0 30 S2) (q4 : S4 = stA t n 13 3 0 100 S3) (q5 : S5 = stA t n 4 4 0 9 S4) (h : S5.f = 0) : S4.f = 0 ∧ S3.f = 0 ∧ S2.f = 0 ∧ S1.f = 0 ∧ (reW P).f = 0 := by
  have h4 : S4.f = 0 := f_sA (t := t) (n := n) (i := 4) (x := 4) (lo := 0) (hi := 9) (by rw [← q5]; exact h)
  have h3 : S3.f = 0 := f_sA (t := t) (n := n) (i := 13) (x := 3) (lo := 0) (hi := 100) (by rw [← q4]; exact h4)
  have h2 : S2.f = 0 := f_sA (t := t) (n := n) (i := 18) (x := 2) (lo := 0) (hi := 30) (by rw [← q3]; exact h3)
  have h1 : S1.f = 0 := f_sA (t := t) (n := n) (i := 3) (x := 1) (lo := 1) (hi := 6) (by rw [← q2]; exact h2)
  have h0 : S0.f = 0 := f_af (t := t) (n := n) (i := 23) (lo := 1) (hi := 20) (by rw [← q1]; exact h1)
  exact ⟨h4, h3, h2, h1, by rw [q0, f_pa] at h0; exact h0⟩
theorem re_nf (q0 : S0 = paP t n (reW P)) (q1 : S1 = afP t n 23 1 20 S0) (q2 : S2 = stA t n 3 1 1 6 S1) (q3 : S3 = stA t n 18 2 0 30 S2) (q4 : S4 = stA t n 13 3 0 100 S3) (q5 : S5 = stA t n 4 4 0 9 S4) (h : ¬ S5.f = 0) : ¬ (reL t n P).f = 0 := by
  by_cases e : (reW P).f = 0
  · rw [reS q0 q1 q2 q3 q4 q5 e, if_neg h]; exact h
  · rw [reL_n e]; exact e
theorem re_fr (q0 : S0 = paP t n (reW P)) (q1 : S1 = afP t n 23 1 20 S0) (q2 : S2 = stA t n 3 1 1 6 S1) (q3 : S3 = stA t n 18 2 0 30 S2) (q4 : S4 = stA t n 13 3 0 100 S3) (q5 : S5 = stA t n 4 4 0 9 S4) (h : S5.f = 0) : ∀ q, (reL t n P).fr q = if q = 0 then afV t n 23 1 20 S0 else if q = 4 then afV t n 4 0 9 S4 else if q = 3 then afV t n 13 0 100 S3 else if q = 2 then afV t n 18 0 30 S2 else if q = 1 then afV t n 3 1 6 S1 else P.fr q := by
  obtain ⟨h4, h3, h2, h1, h0⟩ := re_f q0 q1 q2 q3 q4 q5 h
  intro q
  rw [reS q0 q1 q2 q3 q4 q5 h0, if_pos h]
  have hw : (reW P).fr = P.fr := by
    unfold reW
    split
    · rfl
    · exact fr_wg
  have a1 : ∀ q, S1.fr q = P.fr q := fun q => by rw [q1, fr_af, q0, fr_pa, hw]
  have a2 : ∀ q, S2.fr q = if q = 1 then afV t n 3 1 6 S1 else S1.fr q := fun q => by rw [q2, sA_fr]
  have a3 : ∀ q, S3.fr q = if q = 2 then afV t n 18 0 30 S2 else S2.fr q := fun q => by rw [q3, sA_fr]
  have a4 : ∀ q, S4.fr q = if q = 3 then afV t n 13 0 100 S3 else S3.fr q := fun q => by rw [q4, sA_fr]
  have a5 : ∀ q, S5.fr q = if q = 4 then afV t n 4 0 9 S4 else S4.fr q := fun q => by rw [q5, sA_fr]
  show (if q = 0 then afV t n 23 1 20 S0 else S5.fr q) = _
  rw [a5, a4, a3, a2, a1]
end L4
section L4X
variable {Δ : Cx} {E : Ev} {L : Nat} {h0 : Hp} {c c2 : Nat → Option Cel} {P Q S0 S1 S2 S3 S4 S5 : Pk}
theorem px_re (q0 : S0 = paP E.t E.n (reW P)) (q1 : S1 = afP E.t E.n 23 1 20 S0) (q2 : S2 = stA E.t E.n 3 1 1 6 S1) (q3 : S3 = stA E.t E.n 18 2 0 30 S2) (q4 : S4 = stA E.t E.n 13 3 0 100 S3) (q5 : S5 = stA E.t E.n 4 4 0 9 S4) (X : PX Δ E L h0 c S5) : PX Δ E L h0 c (reL E.t E.n P) := by
  by_cases e : (reW P).f = 0
  · rw [reS q0 q1 q2 q3 q4 q5 e]
    split
    · exact px_sf X
    · exact X
  · rw [reL_n e]
    rw [pa_n e] at q0
    rw [q0, af_n e] at q1
    have e1 : ¬ S1.f = 0 := by rw [q1]; exact e
    rw [sA_n e1] at q2
    have e2 : ¬ S2.f = 0 := by rw [q2]; exact e1
    rw [sA_n e2] at q3
    have e3 : ¬ S3.f = 0 := by rw [q3]; exact e2
    rw [sA_n e3] at q4
    have e4 : ¬ S4.f = 0 := by rw [q4]; exact e3
    rw [sA_n e4] at q5
    rw [q5] at X
    have X := px_usf X
    rw [q4] at X
    have X := px_usf X
    rw [q3] at X
    have X := px_usf X
    rw [q2] at X
    have X := px_usf X
    rw [q1] at X
    exact X
theorem px_abE {l g : Nat} (X : PX Δ E L h0 c Q) : PX Δ E L h0 c (abE l g Q) := by
  unfold abE
  split
  · exact px_sf X
  · exact X
theorem abE_f {l g : Nat} : (abE l g Q).f = Q.f := by
  unfold abE
  split <;> rfl
theorem px_frE {l g : Nat} (X : PX Δ E L h0 c Q) : PX Δ E L h0 c (frE l g Q) := by
  unfold frE
  split
  · exact px_ic (px_sf (px_sf X))
  · exact X
theorem frE_f {l g : Nat} : (frE l g Q).f = Q.f := by
  unfold frE
  split <;> rfl
theorem AL.put {c c' : Nat → Option Cel} {L n a : Nat} {f : Nat → Nat} {y : Cel} (A : AL c L n f) (ha : c a = some y) (hy : y.1 ≠ 14 ∧ y.1 ≠ 103) (k : ∀ b x, c b = some x → b ≠ a → c' b = some x) : AL c' L n f := by
  obtain ⟨E, cap, mc, g, h1, h2, h3⟩ := A
  exact ⟨E, cap, mc, g, k _ _ h1 (ce_ne h1 ha (Or.inl hy.1.symm)), k _ _ h2 (ce_ne h2 ha (Or.inl hy.2.symm)), h3⟩
end L4X
theorem fr_or {P : Pk} {f : Nat → Int32} {a b : Nat} (h : P.fr = f) (hne : a ≠ b) : ∀ q, (icP 8 (orF b a (orF a b P))).fr q = if q = 8 then f 8 + 1 else if q = 35 + 4 * b + 3 then f (35 + 4 * b + 3) ||| (1 : Int32) <<< (nI a &&& 31) else if q = 35 + 4 * a + 3 then f (35 + 4 * a + 3) ||| (1 : Int32) <<< (nI b &&& 31) else f q := by
  intro q
  have o1 : ∀ q, (orF a b P).fr q = if q = 35 + 4 * a + 3 then f (35 + 4 * a + 3) ||| (1 : Int32) <<< (nI b &&& 31) else f q := fun q => by
    show (if q = 35 + 4 * a + 3 then P.fr (35 + 4 * a + 3) ||| (1 : Int32) <<< (nI b &&& 31) else P.fr q) = _
    rw [h]
  generalize orF a b P = R at o1
  have o2 : ∀ q, (orF b a R).fr q = if q = 35 + 4 * b + 3 then f (35 + 4 * b + 3) ||| (1 : Int32) <<< (nI a &&& 31) else R.fr q := fun q => by
    show (if q = 35 + 4 * b + 3 then R.fr (35 + 4 * b + 3) ||| (1 : Int32) <<< (nI a &&& 31) else R.fr q) = _
    rw [o1 (35 + 4 * b + 3), if_neg (show ¬ 35 + 4 * b + 3 = 35 + 4 * a + 3 by omega)]
  generalize orF b a R = T at o2
  show (if q = 8 then T.fr 8 + 1 else T.fr q) = _
  rw [o2 8, if_neg (show ¬ 8 = 35 + 4 * b + 3 by omega), o1 8, if_neg (show ¬ 8 = 35 + 4 * a + 3 by omega), o2, o1]
