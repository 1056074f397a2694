/-! booleans; naming what is on top of the stack -/
def bI (b : Bool) : Int32 := if b = true then 1 else 0
theorem bI_01 (b : Bool) : bI b = 0 ∨ bI b = 1 := by cases b <;> simp [bI]
theorem bI_t {b : Bool} (h : b = true) : bI b = 1 := by rw [h]; rfl
theorem bI_f {b : Bool} (h : b = false) : bI b = 0 := by rw [h]; rfl
theorem bI_eq {c : Prop} [Decidable c] : (if c then (1 : Int32) else 0) = bI (decide c) := by by_cases h : c <;> simp [bI, h]
theorem nI_inc (a c : Nat) : nI a + nI c = nI (a + c) := nI_add a c
section GB
variable {Δ : Cx} {d : Nat} {μ : Mi} {pc : Nat} {lv : List (Nat × Value)} {st : List Value} {h : Hp} {Q : Option Value → Hp → Prop}
theorem wp_top {x z : Value} (e : x = z) (k : wp Δ d μ pc lv (z :: st) h Q) : wp Δ d μ pc lv (x :: st) h Q := by subst e; exact k
theorem gb_eq {b : Bool} {off : Int} {tgt : Nat} (dg : decode μ.2.2.1 pc = .ok (.ifCond .eq off, 3)) (ht : (pc : Int) + off = (tgt : Int)) (kt : b = false → wp Δ d μ tgt lv st h Q) (kf : b = true → wp Δ d μ (pc + 3) lv st h Q) : wp Δ d μ pc lv (.int (bI b) :: st) h Q := by
  refine g_if_eq dg ht (fun c => kt ?_) (fun c => kf ?_)
  · cases b
    · rfl
    · exact absurd c (by decide)
  · cases b
    · exact absurd rfl c
    · rfl
theorem gb_ne {b : Bool} {off : Int} {tgt : Nat} (dg : decode μ.2.2.1 pc = .ok (.ifCond .ne off, 3)) (ht : (pc : Int) + off = (tgt : Int)) (kt : b = true → wp Δ d μ tgt lv st h Q) (kf : b = false → wp Δ d μ (pc + 3) lv st h Q) : wp Δ d μ pc lv (.int (bI b) :: st) h Q := by
  refine g_if_ne dg ht (fun c => kt ?_) (fun c => kf ?_)
  · cases b
    · exact absurd rfl c
    · rfl
  · cases b
    · rfl
    · exact absurd c (by decide)
end GB
/-! the model's numbers -/
def inS (v lo hi : Int32) : Bool := decide (lo ≤ v ∧ v ≤ hi)
def hbS (s k : Int32) : Bool := decide ((s >>> (k &&& 31)) &&& 1 = 1)
def onS (s : Int32) : Nat → Int32
  | 0 => 0
  | k + 1 => onS s k + ((s >>> (nI k &&& 31)) &&& 1)
/-- a stretch of one array of the model copied into another one -/
def cpS (ms : Mst) (j1 a j2 b n : Nat) : Mst := (ms.1, ms.2.1, fun j => if j = j2 then (fun i => if b ≤ i ∧ i < b + n then ms.2.2 j1 (a + (i - b)) else ms.2.2 j2 i) else ms.2.2 j)
theorem cpS_0 (ms : Mst) (j1 a j2 b : Nat) : cpS ms j1 a j2 b 0 = ms := by
  unfold cpS
  refine Prod.ext rfl (Prod.ext rfl (funext fun j => ?_))
  by_cases h : j = j2
  · subst h
    simp only [if_true]
    funext i
    rw [if_neg (by omega)]
  · simp [h]
theorem cpS_s (ms : Mst) {j1 j2 : Nat} (hj : j1 ≠ j2) (a b n : Nat) : sA (cpS ms j1 a j2 b n) j2 (b + n) ((cpS ms j1 a j2 b n).2.2 j1 (a + n)) = cpS ms j1 a j2 b (n + 1) := by
  unfold cpS sA
  refine Prod.ext rfl (Prod.ext rfl (funext fun j => ?_))
  by_cases h : j = j2
  · subst h
    simp only [if_true, if_neg hj]
    funext i
    by_cases h1 : i = b + n
    · subst h1
      rw [if_pos rfl, if_pos ⟨by omega, by omega⟩]
      rw [Nat.add_sub_cancel_left]
    · rw [if_neg h1]
      by_cases h2 : b ≤ i ∧ i < b + n
      · rw [if_pos h2, if_pos ⟨by omega, by omega⟩]
      · rw [if_neg h2, if_neg (by omega)]
  · simp [h]
theorem in_1 {x lo hi : Int32} (h : x < lo) : bI (inS x lo hi) = 0 := bI_f (decide_eq_false (fun q => absurd h (Int32.not_lt.mpr q.1)))
theorem in_2 {x lo hi : Int32} (h : hi < x) : bI (inS x lo hi) = 0 := bI_f (decide_eq_false (fun q => absurd h (Int32.not_lt.mpr q.2)))
theorem in_3 {x lo hi : Int32} (h1 : ¬ x < lo) (h2 : ¬ hi < x) : bI (inS x lo hi) = 1 := bI_t (decide_eq_true ⟨Int32.not_lt.mp h1, Int32.not_lt.mp h2⟩)
theorem hb_1 {s k : Int32} (h : (s >>> (k &&& 31)) &&& 1 = 1) : bI (hbS s k) = 1 := bI_t (decide_eq_true h)
theorem hb_0 {s k : Int32} (h : ¬ (s >>> (k &&& 31)) &&& 1 = 1) : bI (hbS s k) = 0 := bI_f (decide_eq_false h)
