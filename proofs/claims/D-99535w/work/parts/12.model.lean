/-! THE MODEL's WORLD: one object at hm, its thirteen arrays behind it, all in one value ms: ints and booleans by field, longs by field, arrays by their order of making (0 tape, 1 letters, 2 the regatta, 3 fresh, 4 st, 5 undone, 6 kept, 7 totals, 8 ranks, 9 trial, 10 bestLoad, 11 litMany, 12 won) -/
abbrev Mst : Type := (Nat → Int32) × (Nat → Int64) × (Nat → Nat → Int32)
def mlen (j : Nat) : Nat := match j with
  | 0 => 900
  | 1 => 8
  | 2 => 191
  | 3 => 191
  | 4 => 8
  | 5 => 128
  | 6 => 24
  | 7 => 4
  | 8 => 4
  | 9 => 8
  | 10 => 5
  | _ => 4
/-- which array a field is (0: none) -/
def mAr (k : Nat) : Nat := match k with
  | 1 => 1
  | 12 => 2
  | 15 => 3
  | 16 => 4
  | 17 => 5
  | 18 => 6
  | 19 => 7
  | 23 => 8
  | 24 => 9
  | 26 => 10
  | 27 => 11
  | 32 => 12
  | 40 => 13
  | _ => 0
def mLg (k : Nat) : Bool := match k with
  | 36 => true
  | 37 => true
  | 38 => true
  | 39 => true
  | _ => false
def mF (hm : Nat) (ms : Mst) (k : Nat) : Value := if mAr k = 0 then (if mLg k = true then .long (ms.2.1 k) else .int (ms.1 k)) else .ref (hm + mAr k)
def mC (hm : Nat) (ms : Mst) (j : Nat) : Cel := match j with
  | 0 => (1, 0, mF hm ms)
  | j + 1 => (100, mlen j, fun i => .int (ms.2.2 j i))
def mix (hm : Nat) (h0 : Hp) (ms : Mst) : Hp := (h0.1, h0.2.1, fun a => if hm ≤ a ∧ a < hm + 14 then some (mC hm ms (a - hm)) else h0.2.2 a)
def MH (Δ : Cx) (hm : Nat) (h0 : Hp) : Prop := n0 Δ ≤ hm ∧ hm + 14 ≤ h0.1
def sI (ms : Mst) (k : Nat) (x : Int32) : Mst := (fun j => if j = k then x else ms.1 j, ms.2.1, ms.2.2)
def sL (ms : Mst) (k : Nat) (x : Int64) : Mst := (ms.1, fun j => if j = k then x else ms.2.1 j, ms.2.2)
def sA (ms : Mst) (j n : Nat) (x : Int32) : Mst := (ms.1, ms.2.1, fun j' => if j' = j then (fun i => if i = n then x else ms.2.2 j i) else ms.2.2 j')
theorem mix_ce {Δ : Cx} {hm : Nat} {h0 : Hp} {ms : Mst} (M : MH Δ hm h0) {j : Nat} (hj : j < 14) : ce Δ (mix hm h0 ms) (hm + j) = some (mC hm ms j) := by
  obtain ⟨h1, h2⟩ := M
  unfold ce
  rw [if_neg (by show ¬ h0.1 ≤ hm + j; omega), if_neg (by omega)]
  show (if hm ≤ hm + j ∧ hm + j < hm + 14 then some (mC hm ms (hm + j - hm)) else h0.2.2 (hm + j)) = _
  rw [if_pos ⟨by omega, by omega⟩, Nat.add_sub_cancel_left]
theorem mix_put {hm : Nat} {h0 : Hp} {ms ms' : Mst} {j : Nat} {c : Cel} (hj : j < 14) (h1 : mC hm ms' j = c) (h2 : ∀ i, i < 14 → i ≠ j → mC hm ms' i = mC hm ms i) : hput (mix hm h0 ms) (hm + j) c = mix hm h0 ms' := by
  unfold hput mix
  congr 2
  funext a
  by_cases ha : a = hm + j
  · subst ha
    rw [if_pos rfl, if_pos ⟨by omega, by omega⟩, Nat.add_sub_cancel_left, h1]
  · rw [if_neg ha]
    by_cases hb : hm ≤ a ∧ a < hm + 14
    · rw [if_pos hb]
      exact (if_pos hb).trans (by rw [h2 (a - hm) (by omega) (by omega)])
    · rw [if_neg hb]
      exact if_neg hb
theorem mix_off {Δ : Cx} {hm : Nat} {h0 : Hp} {ms : Mst} {a : Nat} (h : a < hm ∨ hm + 14 ≤ a) : ce Δ (mix hm h0 ms) a = ce Δ h0 a := by
  unfold ce mix
  show (if h0.1 ≤ a then none else if a < n0 Δ then cK Δ a else if hm ≤ a ∧ a < hm + 14 then _ else h0.2.2 a) = _
  rw [if_neg (by omega : ¬ (hm ≤ a ∧ a < hm + 14))]
theorem mF_sI (hm : Nat) (ms : Mst) {k : Nat} (x : Int32) (h1 : mAr k = 0) (h2 : mLg k = false) : mF hm (sI ms k x) = updV (mF hm ms) k (.int x) := by
  funext j
  unfold updV mF sI
  by_cases h : j = k
  · subst h
    simp [h1, h2]
  · simp [h]
theorem mF_sL (hm : Nat) (ms : Mst) {k : Nat} (x : Int64) (h1 : mAr k = 0) (h2 : mLg k = true) : mF hm (sL ms k x) = updV (mF hm ms) k (.long x) := by
  funext j
  unfold updV mF sL
  by_cases h : j = k
  · subst h
    simp [h1, h2]
  · simp [h]
section GM
variable {Δ : Cx} {d : Nat} {μ : Mi} {pc : Nat} {lv : List (Nat × Value)} {st : List Value} {Q : Option Value → Hp → Prop} {hm idx : Nat} {h0 : Hp} {ms : Mst}
theorem gm_get {k : Nat} {x : Value} {ref nm ds : String} {fin : Bool} {ty : FieldType} (F : fOk 1 k ref nm ds fin ty) (hl : Cond.fieldLink μ.1 idx ref nm ds ∈ lw_all) (dg : decode μ.2.2.1 pc = .ok (.getfield idx, 3)) (M : MH Δ hm h0) (hx : mF hm ms k = x) (kk : wp Δ d μ (pc + 3) lv (x :: st) (mix hm h0 ms) Q) : wp Δ d μ pc lv (.ref hm :: st) (mix hm h0 ms) Q := by
  subst hx
  exact g_getf F hl (mix_ce (j := 0) M (by omega)) dg kk
theorem gm_put {k : Nat} {x : Int32} {ref nm ds : String} {ty : FieldType} (F : fOk 1 k ref nm ds false ty) (hl : Cond.fieldLink μ.1 idx ref nm ds ∈ lw_all) (dg : decode μ.2.2.1 pc = .ok (.putfield idx, 3)) (M : MH Δ hm h0) (h1 : mAr k = 0) (h2 : mLg k = false) (hn : narrow ty (.int x) = .int x) (hf : fits ty (.int x) = true) (kk : wp Δ d μ (pc + 3) lv st (mix hm h0 (sI ms k x)) Q) : wp Δ d μ pc lv (.int x :: .ref hm :: st) (mix hm h0 ms) Q := by
  refine g_putf F hl (mix_ce (j := 0) M (by omega)) M.1 hn hf dg ?_
  have e : hput (mix hm h0 ms) (hm + 0) (1, 0, updV (mF hm ms) k (.int x)) = mix hm h0 (sI ms k x) := mix_put (by omega) (by show (1, 0, mF hm (sI ms k x)) = _; rw [mF_sI hm ms x h1 h2]) (fun i _ hi => by
    match i, hi with
    | 0, hi => exact absurd rfl hi
    | i + 1, _ => rfl)
  have e2 : hput (mix hm h0 ms) hm (1, 0, updV (mF hm ms) k (.int x)) = mix hm h0 (sI ms k x) := e
  show wp Δ d μ (pc + 3) lv st (hput (mix hm h0 ms) hm (1, 0, updV (mF hm ms) k (.int x))) Q
  rw [e2]
  exact kk
theorem gm_putL {k : Nat} {x : Int64} {ref nm ds : String} (F : fOk 1 k ref nm ds false .long) (hl : Cond.fieldLink μ.1 idx ref nm ds ∈ lw_all) (dg : decode μ.2.2.1 pc = .ok (.putfield idx, 3)) (M : MH Δ hm h0) (h1 : mAr k = 0) (h2 : mLg k = true) (kk : wp Δ d μ (pc + 3) lv st (mix hm h0 (sL ms k x)) Q) : wp Δ d μ pc lv (.long x :: .ref hm :: st) (mix hm h0 ms) Q := by
  refine g_putf F hl (mix_ce (j := 0) M (by omega)) M.1 rfl rfl dg ?_
  have e : hput (mix hm h0 ms) (hm + 0) (1, 0, updV (mF hm ms) k (.long x)) = mix hm h0 (sL ms k x) := mix_put (by omega) (by show (1, 0, mF hm (sL ms k x)) = _; rw [mF_sL hm ms x h1 h2]) (fun i _ hi => by
    match i, hi with
    | 0, hi => exact absurd rfl hi
    | i + 1, _ => rfl)
  have e2 : hput (mix hm h0 ms) hm (1, 0, updV (mF hm ms) k (.long x)) = mix hm h0 (sL ms k x) := e
  show wp Δ d μ (pc + 3) lv st (hput (mix hm h0 ms) hm (1, 0, updV (mF hm ms) k (.long x))) Q
  rw [e2]
  exact kk
theorem gm_ald {j n : Nat} {i x : Int32} (dg : decode μ.2.2.1 pc = .ok (.iaload, 1)) (M : MH Δ hm h0) (hj : j < 13) (hi : i = nI n) (hn : n < mlen j) (hx : ms.2.2 j n = x) (kk : wp Δ d μ (pc + 1) lv (.int x :: st) (mix hm h0 ms) Q) : wp Δ d μ pc lv (.int i :: .ref (hm + (j + 1)) :: st) (mix hm h0 ms) Q := by
  have h31 : mlen j < 2 ^ 31 := by unfold mlen; split <;> omega
  subst hi; subst hx
  refine g_iald (mix_ce (j := j + 1) M (by omega)) (vp_in_nI hn h31) dg ?_
  rw [nI_clamp (by omega)]
  exact kk
theorem gm_ast {j n : Nat} {i x : Int32} (dg : decode μ.2.2.1 pc = .ok (.iastore, 1)) (M : MH Δ hm h0) (hj : j < 13) (hi : i = nI n) (hn : n < mlen j) (kk : wp Δ d μ (pc + 1) lv st (mix hm h0 (sA ms j n x)) Q) : wp Δ d μ pc lv (.int x :: .int i :: .ref (hm + (j + 1)) :: st) (mix hm h0 ms) Q := by
  have h31 : mlen j < 2 ^ 31 := by unfold mlen; split <;> omega
  subst hi
  refine g_iast (mix_ce (j := j + 1) M (by omega)) (Nat.le_trans M.1 (Nat.le_add_right _ _)) (vp_in_nI hn h31) dg ?_
  rw [nI_clamp (by omega)]
  have e : hput (mix hm h0 ms) (hm + (j + 1)) (100, mlen j, updV (fun i => .int (ms.2.2 j i)) n (.int x)) = mix hm h0 (sA ms j n x) := mix_put (by omega) (by
    show (100, mlen j, fun i => Value.int ((sA ms j n x).2.2 j i)) = _
    congr 2
    funext i
    unfold sA updV
    by_cases h : i = n <;> simp [h]) (fun i hi14 hi => by
    match i, hi with
    | 0, _ => rfl
    | i + 1, hi =>
      show (100, mlen i, fun q => Value.int ((sA ms j n x).2.2 i q)) = (100, mlen i, fun q => Value.int (ms.2.2 i q))
      have : ¬ i = j := by omega
      unfold sA
      simp [this])
  rw [e]
  exact kk
end GM
/-! numbers -/
theorem ix_add {x y : Int32} {a b : Nat} (hx : x = nI a) (hy : y = nI b) : x + y = nI (a + b) := by rw [hx, hy, nI_add]
theorem ix_mul {x y : Int32} {a b : Nat} (hx : x = nI a) (hy : y = nI b) : x * y = nI (a * b) := by rw [hx, hy, pk_mul]
theorem ix_sub {x y : Int32} {a b : Nat} (hx : x = nI a) (hy : y = nI b) (h : b ≤ a) : x - y = nI (a - b) := by rw [hx, hy, pk_sub h]
section GN
variable {Δ : Cx} {d : Nat} {μ : Mi} {pc : Nat} {lv : List (Nat × Value)} {st : List Value} {h : Hp} {Q : Option Value → Hp → Prop}
theorem gn_lt {x y : Int32} {a b : Nat} {off : Int} {tgt : Nat} (dg : decode μ.2.2.1 pc = .ok (.if_icmp .lt off, 3)) (ht : (pc : Int) + off = (tgt : Int)) (hx : x = nI a) (hy : y = nI b) (ha : a < 2 ^ 31) (hb : b < 2 ^ 31) (kt : a < b → wp Δ d μ tgt lv st h Q) (kf : b ≤ a → wp Δ d μ (pc + 3) lv st h Q) : wp Δ d μ pc lv (.int y :: .int x :: st) h Q := by
  subst hx; subst hy
  exact g_icmp_lt dg ht (fun c => kt ((nI_ltI ha hb).mp c)) (fun c => kf (Nat.not_lt.mp fun q => c ((nI_ltI ha hb).mpr q)))
theorem gn_ge {x y : Int32} {a b : Nat} {off : Int} {tgt : Nat} (dg : decode μ.2.2.1 pc = .ok (.if_icmp .ge off, 3)) (ht : (pc : Int) + off = (tgt : Int)) (hx : x = nI a) (hy : y = nI b) (ha : a < 2 ^ 31) (hb : b < 2 ^ 31) (kt : b ≤ a → wp Δ d μ tgt lv st h Q) (kf : a < b → wp Δ d μ (pc + 3) lv st h Q) : wp Δ d μ pc lv (.int y :: .int x :: st) h Q := by
  subst hx; subst hy
  exact g_icmp_ge dg ht (fun c => kt ((nI_leI hb ha).mp c)) (fun c => kf (Nat.not_le.mp fun q => c ((nI_leI hb ha).mpr q)))
theorem gn_gt {x y : Int32} {a b : Nat} {off : Int} {tgt : Nat} (dg : decode μ.2.2.1 pc = .ok (.if_icmp .gt off, 3)) (ht : (pc : Int) + off = (tgt : Int)) (hx : x = nI a) (hy : y = nI b) (ha : a < 2 ^ 31) (hb : b < 2 ^ 31) (kt : b < a → wp Δ d μ tgt lv st h Q) (kf : a ≤ b → wp Δ d μ (pc + 3) lv st h Q) : wp Δ d μ pc lv (.int y :: .int x :: st) h Q := by
  subst hx; subst hy
  exact g_icmp_gt dg ht (fun c => kt ((nI_ltI hb ha).mp c)) (fun c => kf (Nat.not_lt.mp fun q => c ((nI_ltI hb ha).mpr q)))
theorem gn_le {x y : Int32} {a b : Nat} {off : Int} {tgt : Nat} (dg : decode μ.2.2.1 pc = .ok (.if_icmp .le off, 3)) (ht : (pc : Int) + off = (tgt : Int)) (hx : x = nI a) (hy : y = nI b) (ha : a < 2 ^ 31) (hb : b < 2 ^ 31) (kt : a ≤ b → wp Δ d μ tgt lv st h Q) (kf : b < a → wp Δ d μ (pc + 3) lv st h Q) : wp Δ d μ pc lv (.int y :: .int x :: st) h Q := by
  subst hx; subst hy
  exact g_icmp_le dg ht (fun c => kt ((nI_leI ha hb).mp c)) (fun c => kf (Nat.not_le.mp fun q => c ((nI_leI ha hb).mpr q)))
theorem gn_eq {x y : Int32} {a b : Nat} {off : Int} {tgt : Nat} (dg : decode μ.2.2.1 pc = .ok (.if_icmp .eq off, 3)) (ht : (pc : Int) + off = (tgt : Int)) (hx : x = nI a) (hy : y = nI b) (ha : a < 2 ^ 31) (hb : b < 2 ^ 31) (kt : a = b → wp Δ d μ tgt lv st h Q) (kf : ¬ a = b → wp Δ d μ (pc + 3) lv st h Q) : wp Δ d μ pc lv (.int y :: .int x :: st) h Q := by
  subst hx; subst hy
  exact g_icmp_eq dg ht (fun c => kt ((nI_eq ha hb).mp c)) (fun c => kf (fun q => c ((nI_eq ha hb).mpr q)))
theorem gn_ne {x y : Int32} {a b : Nat} {off : Int} {tgt : Nat} (dg : decode μ.2.2.1 pc = .ok (.if_icmp .ne off, 3)) (ht : (pc : Int) + off = (tgt : Int)) (hx : x = nI a) (hy : y = nI b) (ha : a < 2 ^ 31) (hb : b < 2 ^ 31) (kt : ¬ a = b → wp Δ d μ tgt lv st h Q) (kf : a = b → wp Δ d μ (pc + 3) lv st h Q) : wp Δ d μ pc lv (.int y :: .int x :: st) h Q := by
  subst hx; subst hy
  exact g_icmp_ne dg ht (fun c => kt (fun q => c ((nI_eq ha hb).mpr q))) (fun c => kf ((nI_eq ha hb).mp c))
end GN
