/-! the parser's world: what is kept may grow when a token is gone over; the part of the state that was told doesn't matter to it -/
def KP (Δ : Cx) (h h' : Hp) : Prop := ∀ b x, ce Δ h b = some x → x.1 ≠ 2 → x.1 ≠ 3 → ce Δ h' b = some x
theorem KP.refl {Δ : Cx} (h : Hp) : KP Δ h h := fun _ _ q _ _ => q
theorem KP.tr {Δ : Cx} {h h1 h2 : Hp} (a : KP Δ h h1) (b : KP Δ h1 h2) : KP Δ h h2 := fun c x q n2 n3 => b c x (a c x q n2 n3) n2 n3
def frP (g : Nat → Int32) (P : Pk) : Pk := (P.a, P.e, P.k, P.w, P.z, P.f, P.u, P.p, P.le, g)
theorem nx_fr {t : Nat → Int32} {n : Nat} {g : Nat → Int32} {P : Pk} : nxP t n (frP g P) = frP g (nxP t n P) := by
  unfold nxP
  show nxQ t n (frP g P) (run spB t n (ix P.e)) = _
  unfold nxQ
  split
  · rfl
  · split
    · rfl
    · split <;> rfl
theorem pa_fr {t : Nat → Int32} {n : Nat} {g : Nat → Int32} {P : Pk} : paP t n (frP g P) = frP g (paP t n P) := by
  unfold paP
  show (if P.f = 0 then nxP t n (frP g P) else frP g P) = _
  split
  · exact nx_fr
  · rfl
def oldc (Δ : Cx) (E : Ev) (h : Hp) : Nat → Option Cel := fun b => if b = E.rd ∨ b = E.tk then none else ce Δ h b
section PX2
variable {Δ : Cx} {E : Ev} {L : Nat} {h h1 h2 : Hp} {c0 c1 : Nat → Option Cel} {w now e : Nat} {ft fp : Int32} {Q P : Pk}
theorem px_fr {g : Nat → Int32} (X : PX Δ E L h c0 P) : PX Δ E L h c0 (frP g P) := by
  obtain ⟨w, now, e, ft, fp, Q, x1, x2, x3, x4, x8, x9⟩ := X
  rcases x8 with ⟨f0, f1, f2⟩ | z
  · exact ⟨w, now, e, ft, fp, frP g Q, x1, x2, x3, x4, Or.inl ⟨f0, f1, by rw [f2]⟩, x9⟩
  · exact ⟨w, now, e, ft, fp, Q, x1, x2, x3, x4, Or.inr z, x9⟩
theorem px_mv2 (EK : EOK Δ E) (X : PXw Δ E L h c0 w now e ft fp Q P) (hf : P.f = 0) (hk : ¬ P.k = 0) (hs : Sub c1 (ce Δ h)) (hc1 : c1 E.rd = none) (hc2 : c1 E.tk = none) (hc3 : c1 E.tp = some (102, 900, fun j => .int (E.tt j))) {a w2 : Nat} {W : Nat → Prop} (hW : ∀ b, W b → b = E.rd ∨ b = E.tk) (hw : w2 = cT Δ 0 ∨ h.1 ≤ w2) (F : Fr Δ W (if (nxP E.t E.n P).k = 0 then 1 else 5) (if (nxP E.t E.n P).k = 0 then 4 else 40) h h2)
    (hrd : ce Δ h2 E.rd = some (2, 0, ob [.ref E.tk, .ref E.rg, .ref a, .int ft, .int fp])) (htk : ce Δ h2 E.tk = some (3, 0, ob [.ref E.tp, .int (nI E.n), .int (nxP E.t E.n P).e])) (T : TokR Δ (ce Δ h2) a w2 (nxP E.t E.n P)) : PX Δ E L h2 c1 (nxP E.t E.n P) := by
  obtain ⟨x1, x2, x3, ⟨x4, x5, x6, x7⟩, x8, x9, x10, x11⟩ := X
  rcases x8 with ⟨-, f1, f2⟩ | ⟨z, -⟩
  · subst f2
    obtain ⟨r1, r2⟩ := x9.2 hk
    obtain ⟨⟨g1, g2, g3, g4⟩, g5⟩ := F
    have hsub : Sub c1 (ce Δ h2) := fun b x q => g5 b x (hs b x q) (fun z => by
      rcases hW b z with z | z
      · rw [z, hc1] at q; cases q
      · rw [z, hc2] at q; cases q)
    have hw2 : w2 = cT Δ 0 ∨ c1 w2 = none := by
      rcases hw with q | q
      · exact Or.inl q
      · cases c : c1 w2 with
        | none => exact Or.inr rfl
        | some x => have := ce_lt (hs _ _ c); omega
    have en := EK.1
    have G0 : eG E.n e Q := ⟨e, Nat.le_refl _, x4, x5⟩
    obtain ⟨e', q1, q2, q3⟩ := eG_nx (t := E.t) en G0
    have ee : (nxP E.t E.n Q).k = 0 → e' = E.n ∧ (nxP E.t E.n Q).a = nI E.n := fun z => by
      obtain ⟨z1, z2⟩ := nx_end EK.2.2.2.1 en x4 x5 z
      exact ⟨(nI_eq (by omega) (by omega)).mp (q3.symm.trans z1), z2⟩
    rw [q3] at htk
    refine ⟨w2, a, e', ft, fp, nxP E.t E.n Q, hrd, htk, T, ⟨q2, q3, ee, tk_nx⟩, Or.inl ⟨f_nx.trans hf, f1, rfl⟩, ?_, hsub, hc1, hc2, hc3, hw2⟩
    by_cases c : (nxP E.t E.n Q).k = 0
    · rw [if_pos c] at g2 g4
      exact ⟨⟨by omega, by omega⟩, fun q => absurd c q⟩
    · rw [if_neg c] at g2 g4
      obtain ⟨e2, p1, p2, p3⟩ := eG_ns (t := E.t) en G0 c
      have : e2 = e' := (nI_eq (by omega) (by omega)).mp (p3.symm.trans q3)
      exact ⟨⟨by omega, by omega⟩, fun _ => ⟨by omega, by omega⟩⟩
  · exact absurd hf z
theorem oc_sub : Sub (oldc Δ E h) (ce Δ h) := fun b x q => by
  unfold oldc at q
  split at q
  · cases q
  · exact q
theorem oc_rd : oldc Δ E h E.rd = none := if_pos (Or.inl rfl)
theorem oc_tk : oldc Δ E h E.tk = none := if_pos (Or.inr rfl)
theorem oc_c (X : PXw Δ E L h c0 w now e ft fp Q P) : Sub c0 (oldc Δ E h) := fun b x q => by
  obtain ⟨x1, x2, x3, x4, x8, x9, x10, x11, x12, x13⟩ := X
  unfold oldc
  rw [if_neg (fun z => by
    rcases z with z | z
    · rw [z, x11] at q; cases q
    · rw [z, x12] at q; cases q)]
  exact x10 b x q
theorem oc_at (X : PXw Δ E L h c0 w now e ft fp Q P) {b : Nat} {x : Cel} (q : ce Δ h b = some x) (n2 : x.1 ≠ 2) (n3 : x.1 ≠ 3) : oldc Δ E h b = some x := by
  obtain ⟨x1, x2, -⟩ := X
  unfold oldc
  rw [if_neg (fun z => by
    rcases z with z | z
    · rw [z, x1] at q; exact n2 (by rw [← Option.some.inj q])
    · rw [z, x2] at q; exact n3 (by rw [← Option.some.inj q]))]
  exact q
theorem oc_tp (X : PXw Δ E L h c0 w now e ft fp Q P) : oldc Δ E h E.tp = some (102, 900, fun j => .int (E.tt j)) := oc_c X _ _ X.2.2.2.2.2.2.2.2.2.1
/-- as much as can be kept is kept -/
theorem px_max (X : PX Δ E L h c0 P) : ∃ c2, PX Δ E L h c2 P ∧ Sub c0 c2 ∧ ∀ b x, ce Δ h b = some x → x.1 ≠ 2 → x.1 ≠ 3 → x.1 ≠ 16 → c2 b = some x := by
  obtain ⟨w, now, e, ft, fp, Q, X⟩ := X
  have X0 := X
  obtain ⟨x1, x2, x3, x4, x8, x9, x10, x11, x12, x13, x14⟩ := X
  obtain ⟨num, z, le, t1, ⟨b, sh, sz, s1, -⟩, -⟩ := x3
  refine ⟨fun b => if b = w ∧ ¬ w = cT Δ 0 then none else oldc Δ E h b, ⟨w, now, e, ft, fp, Q, px_c0 X0 (fun b x q => ?_) ?_ ?_ ?_ ?_⟩, fun b x q => ?_, fun b x q n2 n3 n16 => ?_⟩
  · have q : (if b = w ∧ ¬ w = cT Δ 0 then none else oldc Δ E h b) = some x := q
    split at q
    · cases q
    · exact oc_sub b x q
  · show (if E.rd = w ∧ ¬ w = cT Δ 0 then none else oldc Δ E h E.rd) = none
    split
    · rfl
    · exact oc_rd
  · show (if E.tk = w ∧ ¬ w = cT Δ 0 then none else oldc Δ E h E.tk) = none
    split
    · rfl
    · exact oc_tk
  · show (if E.tp = w ∧ ¬ w = cT Δ 0 then none else oldc Δ E h E.tp) = _
    have : E.tp ≠ w := ce_ne (x10 _ _ x13) s1 (Or.inl (by show 102 ≠ 16; omega))
    rw [if_neg (fun z => this z.1)]
    exact oc_tp X0
  · by_cases c : w = cT Δ 0
    · exact Or.inl c
    · exact Or.inr (if_pos ⟨rfl, c⟩)
  · show (if b = w ∧ ¬ w = cT Δ 0 then none else oldc Δ E h b) = some x
    rw [if_neg (fun z => by
      rcases x14 with y | y
      · exact z.2 y
      · rw [z.1, y] at q; cases q)]
    exact oc_c X0 b x q
  · show (if b = w ∧ ¬ w = cT Δ 0 then none else oldc Δ E h b) = some x
    rw [if_neg (fun z => by rw [z.1, s1] at q; exact n16 (by rw [← Option.some.inj q]))]
    exact oc_at X0 q n2 n3
/-- a cell is written that the parser's own world doesn't hold -/
theorem px_put (X : PX Δ E L h c0 P) {a : Nat} {x y : Cel} (ha : c0 a = some x) (hx : x.1 ≠ 2 ∧ x.1 ≠ 3 ∧ x.1 ≠ 5 ∧ x.1 ≠ 16 ∧ x.1 ≠ 102) (e1 : h2.1 = h.1) (e2 : h2.2.1 ≤ h.2.1) (hy : ce Δ h2 a = some y) (k : ∀ b z, ce Δ h b = some z → b ≠ a → ce Δ h2 b = some z) : PX Δ E L h2 (fun b => if b = a then some y else c0 b) P := by
  obtain ⟨w, now, e, ft, fp, Q, x1, x2, x3, x4, x8, x9, x10, x11, x12, x13, x14⟩ := X
  have hxa := x10 _ _ ha
  obtain ⟨num, z, le, t1, ⟨b, sh, sz, s1, s2, s3⟩, t2⟩ := x3
  have n1 : E.rd ≠ a := ce_ne x1 hxa (Or.inl (fun q => hx.1 q.symm))
  have n2 : E.tk ≠ a := ce_ne x2 hxa (Or.inl (fun q => hx.2.1 q.symm))
  have n3 : E.tp ≠ a := ce_ne (x10 _ _ x13) hxa (Or.inl (fun q => hx.2.2.2.2 q.symm))
  have n4 : w ≠ a := ce_ne s1 hxa (Or.inl (fun q => hx.2.2.2.1 q.symm))
  refine ⟨w, now, e, ft, fp, Q, k _ _ x1 n1, k _ _ x2 n2, ⟨num, z, le, k _ _ t1 (ce_ne t1 hxa (Or.inl (fun q => hx.2.2.1 q.symm))), ⟨b, sh, sz, k _ _ s1 n4, k _ _ s2 (ce_ne s2 hxa (Or.inl (fun q => hx.2.2.2.2 q.symm))), s3⟩, t2⟩, x4, x8, ⟨⟨by omega, by omega⟩, fun q => ⟨by have := (x9.2 q).1; omega, by have := (x9.2 q).2; omega⟩⟩, fun b z q => ?_, (if_neg n1).trans x11, (if_neg n2).trans x12, (if_neg n3).trans x13, ?_⟩
  · have q : (if b = a then some y else c0 b) = some z := q
    by_cases e : b = a
    · rw [if_pos e] at q
      rw [e, hy]; exact q
    · rw [if_neg e] at q
      exact k b z (x10 b z q) e
  · rcases x14 with q | q
    · exact Or.inl q
    · exact Or.inr ((if_neg n4).trans q)
/-- cells are made (few of them): another turn's room -/
theorem px_more (X : PX Δ E L h c0 P) {m : Nat} (e1 : h2.1 ≤ h.1 + 4 * m) (e2 : h2.2.1 ≤ h.2.1 + 24 * m) (k : ∀ b z, ce Δ h b = some z → ce Δ h2 b = some z) : PX Δ E (L + m) h2 c0 P := by
  obtain ⟨w, now, e, ft, fp, Q, x1, x2, x3, x4, x8, x9, x10, x11⟩ := X
  refine ⟨w, now, e, ft, fp, Q, k _ _ x1, k _ _ x2, x3.kp (fun b x q _ _ => k b x q), x4, x8, ⟨⟨by omega, by omega⟩, fun q => ⟨by have := (x9.2 q).1; omega, by have := (x9.2 q).2; omega⟩⟩, fun b z q => k b z (x10 b z q), x11⟩
end PX2
