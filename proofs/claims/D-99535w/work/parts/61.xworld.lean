/-! X's WORLD as questions see it: the object at hx (tape, past, images, bestLoad, litIn behind it), the river that is tried at t; all else is left as it is -/
abbrev Xst : Type := (Nat → Int32) × (Nat → Int32) × (Nat → Int32) × (Nat → Int32) × (Nat → Int32) × Int32 × Int32
abbrev Xa : Type := Nat × Nat × Value × Value × Value
abbrev xP (hx t rg rv : Nat) : Xa := (hx, t, .ref rg, .ref rv, .ref t)
abbrev xN (hx t : Nat) : Xa := (hx, t, .null, .null, .null)
def xRf (k : Nat) : Bool := match k with
  | 0 => true
  | 5 => true
  | 6 => true
  | 7 => true
  | 8 => true
  | 9 => true
  | 10 => true
  | 16 => true
  | _ => false
def xRv (X : Xa) (k : Nat) : Value := match k with
  | 0 => .ref (X.1 + 1)
  | 5 => X.2.2.1
  | 6 => X.2.2.2.1
  | 7 => X.2.2.2.2
  | 8 => .ref (X.1 + 2)
  | 9 => .ref (X.1 + 3)
  | 10 => .ref (X.1 + 4)
  | _ => .ref (X.1 + 5)
def xFd (X : Xa) (f : Nat → Int32) (k : Nat) : Value := if xRf k = true then xRv X k else .int (f k)
def fu (f : Nat → Int32) (k : Nat) (x : Int32) : Nat → Int32 := fun j => if j = k then x else f j
def xCe (X : Xa) (S : Xst) (a : Nat) (o : Option Cel) : Option Cel :=
  if a = X.1 then some (0, 0, xFd X S.1)
  else if a = X.1 + 4 then some (100, 5, fun i => .int (S.2.1 i))
  else if a = X.1 + 5 then some (100, 4, fun i => .int (S.2.2.1 i))
  else if a = X.2.1 then some (13, 0, ob [X.2.2.1, .ref (X.2.1 + 1), .ref (X.2.1 + 2), .int S.2.2.2.2.2.1, .int S.2.2.2.2.2.2])
  else if a = X.2.1 + 1 then some (100, 5, fun i => .int (S.2.2.2.1 i))
  else if a = X.2.1 + 2 then some (100, 4, fun i => .int (S.2.2.2.2.1 i))
  else o
def xm (X : Xa) (h0 : Hp) (S : Xst) : Hp := (h0.1, h0.2.1, fun a => xCe X S a (h0.2.2 a))
def XOk (Δ : Cx) (hx t : Nat) (h0 : Hp) : Prop := n0 Δ ≤ hx ∧ hx + 6 ≤ t ∧ hx + 6 ≤ h0.1
def Fz (Δ : Cx) (hx t : Nat) (h0 : Hp) (c0 : Nat → Option Cel) : Prop := ∀ a x, c0 a = some x → ce Δ h0 a = some x ∧ a ≠ hx ∧ a ≠ hx + 4 ∧ a ≠ hx + 5 ∧ a ≠ t ∧ a ≠ t + 1 ∧ a ≠ t + 2
section XM
variable {Δ : Cx} {hx t : Nat} {rgv rvv tv : Value} {h0 : Hp} {S : Xst}
theorem xm_ce {a : Nat} {c : Cel} (ha : a < h0.1) (hn : n0 Δ ≤ a) (hc : ∀ o, xCe (hx, t, rgv, rvv, tv) S a o = some c) : ce Δ (xm (hx, t, rgv, rvv, tv) h0 S) a = some c := by
  unfold ce
  rw [if_neg (by show ¬ h0.1 ≤ a; omega), if_neg (by omega)]
  exact hc _
theorem xm_off {a : Nat} (h1 : a ≠ hx) (h2 : a ≠ hx + 4) (h3 : a ≠ hx + 5) (h4 : a ≠ t) (h5 : a ≠ t + 1) (h6 : a ≠ t + 2) : ce Δ (xm (hx, t, rgv, rvv, tv) h0 S) a = ce Δ h0 a := by
  unfold ce xm
  show (if h0.1 ≤ a then none else if a < n0 Δ then cK Δ a else xCe (hx, t, rgv, rvv, tv) S a (h0.2.2 a)) = _
  unfold xCe
  rw [if_neg h1, if_neg h2, if_neg h3, if_neg h4, if_neg h5, if_neg h6]
theorem xm_x (XO : XOk Δ hx t h0) : ce Δ (xm (hx, t, rgv, rvv, tv) h0 S) hx = some (0, 0, xFd (hx, t, rgv, rvv, tv) S.1) := by
  obtain ⟨h1, h2, h3⟩ := XO
  exact xm_ce (by omega) h1 (fun o => if_pos rfl)
theorem xm_b (XO : XOk Δ hx t h0) : ce Δ (xm (hx, t, rgv, rvv, tv) h0 S) (hx + 4) = some (100, 5, fun i => .int (S.2.1 i)) := by
  obtain ⟨h1, h2, h3⟩ := XO
  refine xm_ce (by omega) (by omega) (fun o => ?_)
  unfold xCe
  rw [if_neg (by show ¬ hx + 4 = hx; omega), if_pos rfl]
theorem xm_l (XO : XOk Δ hx t h0) : ce Δ (xm (hx, t, rgv, rvv, tv) h0 S) (hx + 5) = some (100, 4, fun i => .int (S.2.2.1 i)) := by
  obtain ⟨h1, h2, h3⟩ := XO
  refine xm_ce (by omega) (by omega) (fun o => ?_)
  unfold xCe
  rw [if_neg (by show ¬ hx + 5 = hx; omega), if_neg (by show ¬ hx + 5 = hx + 4; omega), if_pos rfl]
theorem xm_t (XO : XOk Δ hx t h0) (ht : t + 3 ≤ h0.1) : ce Δ (xm (hx, t, rgv, rvv, tv) h0 S) t = some (13, 0, ob [rgv, .ref (t + 1), .ref (t + 2), .int S.2.2.2.2.2.1, .int S.2.2.2.2.2.2]) := by
  obtain ⟨h1, h2, h3⟩ := XO
  refine xm_ce (by omega) (by omega) (fun o => ?_)
  unfold xCe
  rw [if_neg (by show ¬ t = hx; omega), if_neg (by show ¬ t = hx + 4; omega), if_neg (by show ¬ t = hx + 5; omega), if_pos rfl]
theorem xm_h (XO : XOk Δ hx t h0) (ht : t + 3 ≤ h0.1) : ce Δ (xm (hx, t, rgv, rvv, tv) h0 S) (t + 1) = some (100, 5, fun i => .int (S.2.2.2.1 i)) := by
  obtain ⟨h1, h2, h3⟩ := XO
  refine xm_ce (by omega) (by omega) (fun o => ?_)
  unfold xCe
  rw [if_neg (by show ¬ t + 1 = hx; omega), if_neg (by show ¬ t + 1 = hx + 4; omega), if_neg (by show ¬ t + 1 = hx + 5; omega), if_neg (by show ¬ t + 1 = t; omega), if_pos rfl]
theorem xm_n (XO : XOk Δ hx t h0) (ht : t + 3 ≤ h0.1) : ce Δ (xm (hx, t, rgv, rvv, tv) h0 S) (t + 2) = some (100, 4, fun i => .int (S.2.2.2.2.1 i)) := by
  obtain ⟨h1, h2, h3⟩ := XO
  refine xm_ce (by omega) (by omega) (fun o => ?_)
  unfold xCe
  rw [if_neg (by show ¬ t + 2 = hx; omega), if_neg (by show ¬ t + 2 = hx + 4; omega), if_neg (by show ¬ t + 2 = hx + 5; omega), if_neg (by show ¬ t + 2 = t; omega), if_neg (by show ¬ t + 2 = t + 1; omega), if_pos rfl]
theorem xm_sub {c0 : Nat → Option Cel} (Z : Fz Δ hx t h0 c0) (S : Xst) : Sub c0 (ce Δ (xm (hx, t, rgv, rvv, tv) h0 S)) := by
  intro a x hax
  obtain ⟨h1, h2, h3, h4, h5, h6, h7⟩ := Z a x hax
  rw [xm_off h2 h3 h4 h5 h6 h7]
  exact h1
/-- one cell written -/
theorem xm_put {S' : Xst} {a : Nat} {c : Cel} (h1 : ∀ o, xCe (hx, t, rgv, rvv, tv) S' a o = some c) (h2 : ∀ b o, b ≠ a → xCe (hx, t, rgv, rvv, tv) S' b o = xCe (hx, t, rgv, rvv, tv) S b o) : hput (xm (hx, t, rgv, rvv, tv) h0 S) a c = xm (hx, t, rgv, rvv, tv) h0 S' := by
  unfold hput xm
  congr 2
  funext b
  by_cases e : b = a
  · subst e
    rw [if_pos rfl]
    exact (h1 _).symm
  · rw [if_neg e]
    exact (h2 b _ e).symm
theorem xFd_u {X : Xa} {f : Nat → Int32} {k : Nat} {x : Int32} (h : xRf k = false) : xFd X (fu f k x) = updV (xFd X f) k (.int x) := by
  funext j
  unfold updV xFd fu
  by_cases e : j = k
  · subst e
    simp [h]
  · simp [e]
theorem xp_x (XO : XOk Δ hx t h0) {k : Nat} {x : Int32} (h : xRf k = false) : hput (xm (hx, t, rgv, rvv, tv) h0 S) hx (0, 0, updV (xFd (hx, t, rgv, rvv, tv) S.1) k (.int x)) = xm (hx, t, rgv, rvv, tv) h0 (fu S.1 k x, S.2) := by
  refine xm_put (fun o => ?_) (fun b o e => ?_)
  · unfold xCe
    rw [if_pos rfl, xFd_u h]
  · unfold xCe
    rw [if_neg (show ¬ b = hx from e), if_neg (show ¬ b = hx from e)]
theorem iu {f : Nat → Int32} {n : Nat} {x : Int32} : updV (fun i => Value.int (f i)) n (.int x) = fun i => .int (fu f n x i) := by
  funext i
  unfold updV fu
  by_cases h : i = n <;> simp [h]
theorem xp_b (XO : XOk Δ hx t h0) {k : Nat} {x : Int32} : hput (xm (hx, t, rgv, rvv, tv) h0 S) (hx + 4) (100, 5, updV (fun i => .int (S.2.1 i)) k (.int x)) = xm (hx, t, rgv, rvv, tv) h0 (S.1, fu S.2.1 k x, S.2.2) := by
  refine xm_put (fun o => ?_) (fun b o e => ?_)
  · unfold xCe
    rw [if_neg (by show ¬ hx + 4 = hx; omega), if_pos rfl, iu]
  · unfold xCe
    have e : ¬ b = hx + 4 := e
    rw [if_neg (show ¬ b = (hx, t, rgv, rvv, tv).1 + 4 from e), if_neg (show ¬ b = (hx, t, rgv, rvv, tv).1 + 4 from e)]
theorem xp_l (XO : XOk Δ hx t h0) {k : Nat} {x : Int32} : hput (xm (hx, t, rgv, rvv, tv) h0 S) (hx + 5) (100, 4, updV (fun i => .int (S.2.2.1 i)) k (.int x)) = xm (hx, t, rgv, rvv, tv) h0 (S.1, S.2.1, fu S.2.2.1 k x, S.2.2.2) := by
  refine xm_put (fun o => ?_) (fun b o e => ?_)
  · unfold xCe
    rw [if_neg (by show ¬ hx + 5 = hx; omega), if_neg (by show ¬ hx + 5 = hx + 4; omega), if_pos rfl, iu]
  · unfold xCe
    have e : ¬ b = hx + 5 := e
    rw [if_neg (show ¬ b = (hx, t, rgv, rvv, tv).1 + 5 from e), if_neg (show ¬ b = (hx, t, rgv, rvv, tv).1 + 5 from e)]
/-- the part of the river that is tried, written -/
theorem xp_T {a : Nat} {c : Cel} {ho la : Nat → Int32} {l w : Int32} (XO : XOk Δ hx t h0) (ha : a = t ∨ a = t + 1 ∨ a = t + 2)
    (h1 : (if a = t then some ((13, 0, ob [rgv, .ref (t + 1), .ref (t + 2), .int l, .int w]) : Cel) else if a = t + 1 then some (100, 5, fun i => .int (ho i)) else some (100, 4, fun i => .int (la i))) = some c)
    (h2 : a ≠ t → l = S.2.2.2.2.2.1 ∧ w = S.2.2.2.2.2.2) (h3 : a ≠ t + 1 → ho = S.2.2.2.1) (h4 : a ≠ t + 2 → la = S.2.2.2.2.1) : hput (xm (hx, t, rgv, rvv, tv) h0 S) a c = xm (hx, t, rgv, rvv, tv) h0 (S.1, S.2.1, S.2.2.1, ho, la, l, w) := by
  obtain ⟨q1, q2, q3⟩ := XO
  refine xm_put (fun o => ?_) (fun b o e => ?_)
  · unfold xCe
    rw [if_neg (by show ¬ a = hx; omega), if_neg (by show ¬ a = hx + 4; omega), if_neg (by show ¬ a = hx + 5; omega)]
    rcases ha with rfl | rfl | rfl
    · rw [if_pos rfl] at h1 ⊢; exact h1
    · rw [if_neg (by omega), if_pos rfl] at h1
      rw [if_neg (by show ¬ t + 1 = t; omega), if_pos rfl]; exact h1
    · rw [if_neg (by omega), if_neg (by omega)] at h1
      rw [if_neg (by show ¬ t + 2 = t; omega), if_neg (by show ¬ t + 2 = t + 1; omega), if_pos rfl]; exact h1
  · unfold xCe
    by_cases c1 : b = t
    · have := h2 (fun z => e (c1.trans z.symm))
      show (if b = hx then _ else if b = hx + 4 then _ else if b = hx + 5 then _ else if b = t then some ((13, 0, ob [rgv, .ref (t + 1), .ref (t + 2), .int l, .int w]) : Cel) else _) = (if b = hx then _ else if b = hx + 4 then _ else if b = hx + 5 then _ else if b = t then _ else _)
      rw [if_pos c1, if_pos c1, this.1, this.2]
    · by_cases c2 : b = t + 1
      · have := h3 (fun z => e (c2.trans z.symm))
        show (if b = hx then _ else if b = hx + 4 then _ else if b = hx + 5 then _ else if b = t then _ else if b = t + 1 then some ((100, 5, fun i => .int (ho i)) : Cel) else _) = (if b = hx then _ else if b = hx + 4 then _ else if b = hx + 5 then _ else if b = t then _ else if b = t + 1 then _ else _)
        rw [if_neg c1, if_neg c1, if_pos c2, if_pos c2, this]
      · by_cases c3 : b = t + 2
        · have := h4 (fun z => e (c3.trans z.symm))
          show (if b = hx then _ else if b = hx + 4 then _ else if b = hx + 5 then _ else if b = t then _ else if b = t + 1 then _ else if b = t + 2 then some ((100, 4, fun i => .int (la i)) : Cel) else _) = (if b = hx then _ else if b = hx + 4 then _ else if b = hx + 5 then _ else if b = t then _ else if b = t + 1 then _ else if b = t + 2 then _ else _)
          rw [if_neg c1, if_neg c1, if_neg c2, if_neg c2, if_pos c3, if_pos c3, this]
        · show (if b = hx then _ else if b = hx + 4 then _ else if b = hx + 5 then _ else if b = t then _ else if b = t + 1 then _ else if b = t + 2 then _ else o) = (if b = hx then _ else if b = hx + 4 then _ else if b = hx + 5 then _ else if b = t then _ else if b = t + 1 then _ else if b = t + 2 then _ else o)
          rw [if_neg c1, if_neg c1, if_neg c2, if_neg c2, if_neg c3, if_neg c3]
end XM
/-- what is tried is a row -/
def Tr (ho la : Nat → Int32) (l w : Int32) (row : Nat → Int32) : Prop := (∀ i, i < 5 → ho i = lpS (row i)) ∧ (∀ i, i < 4 → la i = (row 5 >>> (nI i &&& 31)) &&& 1) ∧ l = row 6 ∧ w = row 7
theorem xm_tv {Δ : Cx} {hx t rg : Nat} {rvv tv : Value} {h0 : Hp} {f b l4 ho la : Nat → Int32} {l w : Int32} {row : Nat → Int32} (XO : XOk Δ hx t h0) (ht : t + 3 ≤ h0.1) (T : Tr ho la l w row) : RVr (ce Δ (xm (hx, t, .ref rg, rvv, tv) h0 (f, b, l4, ho, la, l, w))) t rg row := by
  obtain ⟨t1, t2, rfl, rfl⟩ := T
  exact ⟨ho, la, xm_t XO ht, xm_h XO ht, xm_n XO ht, t1, t2⟩
section GX
variable {Δ : Cx} {d : Nat} {μ : Mi} {pc : Nat} {lv : List (Nat × Value)} {st : List Value} {Q : Option Value → Hp → Prop} {hx t : Nat} {rgv rvv tv : Value} {h0 : Hp} {S : Xst} {idx : Nat}
theorem gx_get {k : Nat} {x : Value} {ref nm ds : String} {fin : Bool} {ty : FieldType} (F : fOk 0 k ref nm ds fin ty) (hl : Cond.fieldLink μ.1 idx ref nm ds ∈ lw_all) (dg : decode μ.2.2.1 pc = .ok (.getfield idx, 3)) (XO : XOk Δ hx t h0) (hx' : xFd (hx, t, rgv, rvv, tv) S.1 k = x) (kk : wp Δ d μ (pc + 3) lv (x :: st) (xm (hx, t, rgv, rvv, tv) h0 S) Q) : wp Δ d μ pc lv (.ref hx :: st) (xm (hx, t, rgv, rvv, tv) h0 S) Q := by
  subst hx'
  exact g_getf F hl (xm_x XO) dg kk
theorem gx_put {k : Nat} {x : Int32} {ref nm ds : String} (F : fOk 0 k ref nm ds false .int) (hl : Cond.fieldLink μ.1 idx ref nm ds ∈ lw_all) (dg : decode μ.2.2.1 pc = .ok (.putfield idx, 3)) (XO : XOk Δ hx t h0) (h1 : xRf k = false) (kk : wp Δ d μ (pc + 3) lv st (xm (hx, t, rgv, rvv, tv) h0 (fu S.1 k x, S.2)) Q) : wp Δ d μ pc lv (.int x :: .ref hx :: st) (xm (hx, t, rgv, rvv, tv) h0 S) Q := by
  refine g_putf F hl (xm_x XO) XO.1 rfl rfl dg ?_
  rw [xp_x XO h1]
  exact kk
theorem gh_iast {h : Hp} {n a j : Nat} {f : Nat → Value} {i x : Int32} (ha : ce Δ h a = some (100, n, f)) (hn0 : n0 Δ ≤ a) (hi : i = nI j) (hj : j < n) (h31 : n < 2 ^ 31) (dg : decode μ.2.2.1 pc = .ok (.iastore, 1)) (kk : wp Δ d μ (pc + 1) lv st (hput h a (100, n, updV f j (.int x))) Q) : wp Δ d μ pc lv (.int x :: .int i :: .ref a :: st) h Q := by
  subst hi
  refine g_iast ha hn0 (vp_in_nI hj h31) dg ?_
  rw [nI_clamp (by omega)]
  exact kk
theorem gx_astB {j : Nat} {i x : Int32} (dg : decode μ.2.2.1 pc = .ok (.iastore, 1)) (XO : XOk Δ hx t h0) (hi : i = nI j) (hj : j < 5) (kk : wp Δ d μ (pc + 1) lv st (xm (hx, t, rgv, rvv, tv) h0 (S.1, fu S.2.1 j x, S.2.2)) Q) : wp Δ d μ pc lv (.int x :: .int i :: .ref (hx + 4) :: st) (xm (hx, t, rgv, rvv, tv) h0 S) Q := by
  refine gh_iast (xm_b XO) (by have := XO.1; omega) hi hj (by omega) dg ?_
  rw [xp_b XO]
  exact kk
theorem gx_astL {j : Nat} {i x : Int32} (dg : decode μ.2.2.1 pc = .ok (.iastore, 1)) (XO : XOk Δ hx t h0) (hi : i = nI j) (hj : j < 4) (kk : wp Δ d μ (pc + 1) lv st (xm (hx, t, rgv, rvv, tv) h0 (S.1, S.2.1, fu S.2.2.1 j x, S.2.2.2)) Q) : wp Δ d μ pc lv (.int x :: .int i :: .ref (hx + 5) :: st) (xm (hx, t, rgv, rvv, tv) h0 S) Q := by
  refine gh_iast (xm_l XO) (by have := XO.1; omega) hi hj (by omega) dg ?_
  rw [xp_l XO]
  exact kk
theorem gx_astH {j : Nat} {i x : Int32} (dg : decode μ.2.2.1 pc = .ok (.iastore, 1)) (XO : XOk Δ hx t h0) (ht : t + 3 ≤ h0.1) (hi : i = nI j) (hj : j < 5) (kk : wp Δ d μ (pc + 1) lv st (xm (hx, t, rgv, rvv, tv) h0 (S.1, S.2.1, S.2.2.1, fu S.2.2.2.1 j x, S.2.2.2.2)) Q) : wp Δ d μ pc lv (.int x :: .int i :: .ref (t + 1) :: st) (xm (hx, t, rgv, rvv, tv) h0 S) Q := by
  refine gh_iast (xm_h XO ht) (by have := XO.1; have := XO.2.1; omega) hi hj (by omega) dg ?_
  rw [xp_T (ho := fu S.2.2.2.1 j x) (la := S.2.2.2.2.1) (l := S.2.2.2.2.2.1) (w := S.2.2.2.2.2.2) XO (Or.inr (Or.inl rfl)) (by rw [if_neg (by omega), if_pos rfl, iu]) (fun _ => ⟨rfl, rfl⟩) (fun z => absurd rfl z) (fun _ => rfl)]
  exact kk
theorem gx_astN {j : Nat} {i x : Int32} (dg : decode μ.2.2.1 pc = .ok (.iastore, 1)) (XO : XOk Δ hx t h0) (ht : t + 3 ≤ h0.1) (hi : i = nI j) (hj : j < 4) (kk : wp Δ d μ (pc + 1) lv st (xm (hx, t, rgv, rvv, tv) h0 (S.1, S.2.1, S.2.2.1, S.2.2.2.1, fu S.2.2.2.2.1 j x, S.2.2.2.2.2)) Q) : wp Δ d μ pc lv (.int x :: .int i :: .ref (t + 2) :: st) (xm (hx, t, rgv, rvv, tv) h0 S) Q := by
  refine gh_iast (xm_n XO ht) (by have := XO.1; have := XO.2.1; omega) hi hj (by omega) dg ?_
  rw [xp_T (ho := S.2.2.2.1) (la := fu S.2.2.2.2.1 j x) (l := S.2.2.2.2.2.1) (w := S.2.2.2.2.2.2) XO (Or.inr (Or.inr rfl)) (by rw [if_neg (by omega), if_neg (by omega), iu]) (fun _ => ⟨rfl, rfl⟩) (fun _ => rfl) (fun z => absurd rfl z)]
  exact kk
theorem gx_putL {x : Int32} (hl : Cond.fieldLink μ.1 idx "RoofRegatta$River" "lit" "I" ∈ lw_all) (dg : decode μ.2.2.1 pc = .ok (.putfield idx, 3)) (XO : XOk Δ hx t h0) (ht : t + 3 ≤ h0.1) (kk : wp Δ d μ (pc + 3) lv st (xm (hx, t, rgv, rvv, tv) h0 (S.1, S.2.1, S.2.2.1, S.2.2.2.1, S.2.2.2.2.1, x, S.2.2.2.2.2.2)) Q) : wp Δ d μ pc lv (.int x :: .ref t :: st) (xm (hx, t, rgv, rvv, tv) h0 S) Q := by
  refine g_putf f_13_3 hl (xm_t XO ht) (by have := XO.1; have := XO.2.1; omega) rfl rfl dg ?_
  rw [ob_u _ _ _ (Nat.lt_of_succ_le (Nat.le_of_ble_eq_true rfl))]
  show wp Δ d μ (pc + 3) lv st (hput (xm (hx, t, rgv, rvv, tv) h0 S) t (13, 0, ob [rgv, .ref (t + 1), .ref (t + 2), .int x, .int S.2.2.2.2.2.2])) Q
  rw [xp_T (ho := S.2.2.2.1) (la := S.2.2.2.2.1) (l := x) (w := S.2.2.2.2.2.2) XO (Or.inl rfl) (if_pos rfl) (fun z => absurd rfl z) (fun _ => rfl) (fun _ => rfl)]
  exact kk
theorem gx_putW {x : Int32} (hl : Cond.fieldLink μ.1 idx "RoofRegatta$River" "water" "I" ∈ lw_all) (dg : decode μ.2.2.1 pc = .ok (.putfield idx, 3)) (XO : XOk Δ hx t h0) (ht : t + 3 ≤ h0.1) (kk : wp Δ d μ (pc + 3) lv st (xm (hx, t, rgv, rvv, tv) h0 (S.1, S.2.1, S.2.2.1, S.2.2.2.1, S.2.2.2.2.1, S.2.2.2.2.2.1, x)) Q) : wp Δ d μ pc lv (.int x :: .ref t :: st) (xm (hx, t, rgv, rvv, tv) h0 S) Q := by
  refine g_putf f_13_4 hl (xm_t XO ht) (by have := XO.1; have := XO.2.1; omega) rfl rfl dg ?_
  rw [ob_u _ _ _ (Nat.lt_of_succ_le (Nat.le_of_ble_eq_true rfl))]
  show wp Δ d μ (pc + 3) lv st (hput (xm (hx, t, rgv, rvv, tv) h0 S) t (13, 0, ob [rgv, .ref (t + 1), .ref (t + 2), .int S.2.2.2.2.2.1, .int x])) Q
  rw [xp_T (ho := S.2.2.2.1) (la := S.2.2.2.2.1) (l := S.2.2.2.2.2.1) (w := x) XO (Or.inl rfl) (if_pos rfl) (fun z => absurd rfl z) (fun _ => rfl) (fun _ => rfl)]
  exact kk
end GX
/-- what a question's end leaves: where, trouble; taped and the fault as they were -/
def xE (f f' : Nat → Int32) (t : Int32) : Prop := f' 1 = f 1 ∧ f' 2 = f 2 ∧ f' 3 = -1 ∧ f' 4 = t
/-- all that is known of X with a regatta: where it lies, what is frozen, the numbers -/
def XQ (Δ : Cx) (hx t rg rv : Nat) (h0 : Hp) (r row : Nat → Int32) (nl nh nb np ns : Nat) : Prop := XOk Δ hx t h0 ∧ t + 3 ≤ h0.1 ∧ (∃ c0 : Nat → Option Cel, Fz Δ hx t h0 c0 ∧ RG c0 rg r nl nh nb np ns ∧ RVr c0 rv rg row) ∧ ROk r nl nh nb np ns ∧ WOk row nh ∧ 0 < nh
theorem xp_sub {Δ : Cx} {hx t : Nat} {h0 : Hp} {c0 : Nat → Option Cel} (rg rv : Nat) (Z : Fz Δ hx t h0 c0) (S : Xst) : Sub c0 (ce Δ (xm (xP hx t rg rv) h0 S)) := xm_sub Z S
