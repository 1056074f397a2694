/-! WHAT THE REGATTA's NUMBERS ARE: of r (the regatta as told) and a row (where lodgers are, lanes, fires, water); raw Int32 as both programs compute -/
def abS (row : Nat → Int32) (h : Nat) : Nat → Int32
  | 0 => 0
  | l + 1 => abS row h l ||| (if row l = nI h + 1 then (1 : Int32) <<< (nI l &&& 31) else 0)
def wgS0 (r : Nat → Int32) (h : Nat) : Int32 := if r (19 + 4 * h) = 2 then r (19 + 4 * h + 2) / 2 else r (19 + 4 * h + 2)
def wgS (r row : Nat → Int32) (h : Nat) : Nat → Int32
  | 0 => wgS0 r h
  | l + 1 => wgS r row h l + (if row l = nI h + 1 then r (35 + 4 * l) else 0)
def rwS (r row : Nat → Int32) (h : Nat) : Nat → Int32
  | 0 => 0
  | l + 1 => rwS r row h l + (if row l = nI h + 1 then r (35 + 4 * l + 1) else 0)
def pwS (r row : Nat → Int32) (nl h : Nat) : Int32 := row 7 + (if r (19 + 4 * h) = 1 then (if onS (abS row h nl) 8 ≤ 1 then rwS r row h nl else rwS r row h nl * 2) else rwS r row h nl)
def tiS (r row : Nat → Int32) (h k : Nat) : Bool := decide (r (19 + 4 * h) = 3 ∨ (row 5 >>> (nI h &&& 31)) &&& 1 = r (11 + 2 * k + 1))
def wyS (r row : Nat → Int32) (nl h k : Nat) : Int32 := (r (11 + 2 * k) + (if tiS r row h k = true then 0 else 2)) * (wgS r row h nl + 10)
def tpS (r row : Nat → Int32) (nl h k : Nat) (rain : Int32) : Int32 := pwS r row nl h + (if hbS rain (nI k) = true then r 4 else 0)
def t0S (r row : Nat → Int32) (nl h k : Nat) (rain : Int32) : Int32 := (wyS r row nl h k + tpS r row nl h k rain - 1) / tpS r row nl h k rain
def tmS (r row : Nat → Int32) (nl h k : Nat) (rain : Int32) : Int32 := if hbS (row 6) (nI h) = true then t0S r row nl h k rain - t0S r row nl h k rain / 10 else t0S r row nl h k rain
def brS (r : Nat → Int32) (h : Nat) : Int32 := if r (19 + 4 * h + 3) - r 1 ≤ 0 then 0 else (r (19 + 4 * h + 3) - r 1) * r 2
def sfS (r row : Nat → Int32) (nl h : Nat) (rain : Int32) : Nat → Int32
  | 0 => brS r h
  | k + 1 => sfS r row nl h rain k + tmS r row nl h k rain
def toS (r row : Nat → Int32) (nl nb h : Nat) (rain : Int32) : Int32 := if nb = 0 then 0 else sfS r row nl h rain nb
def fiS (tot : Nat → Int32) : Nat → Nat
  | 0 => 0
  | h + 1 => if tot h < tot (fiS tot h) then h else fiS tot h
def ouS (tot : Nat → Int32) (lit : Int32) (nh : Nat) : Int32 := lit &&& (((1 : Int32) <<< (nI (fiS tot nh) &&& 31)) ^^^ (-1))
def btS (o : Int32) (tot : Nat → Int32) (g h : Nat) : Bool := if bI (hbS o (nI g)) = bI (hbS o (nI h)) then (if tot g = tot h then decide (g < h) else decide (tot g < tot h)) else hbS o (nI h)
def rkS (o : Int32) (tot : Nat → Int32) (h : Nat) : Nat → Nat
  | 0 => 0
  | g + 1 => rkS o tot h g + (if g ≠ h ∧ btS o tot g h = true then 1 else 0)
def tgS1 (r row : Nat → Int32) (l : Nat) : Nat → Int32 → Int32
  | 0, n => n
  | m + 1, n => tgS1 r row l m n + (if 0 < row l ∧ row l = row m ∧ hbS (r (35 + 4 * l + 3)) (nI m) = true then 1 else 0)
def tgS (r row : Nat → Int32) : Nat → Int32
  | 0 => 0
  | l + 1 => tgS1 r row l l (tgS r row l)
theorem fiS_lt (tot : Nat → Int32) : ∀ n, 0 < n → fiS tot n < n
  | 0, h => absurd h (by omega)
  | n + 1, _ => by
    unfold fiS
    split
    · omega
    · rcases Nat.eq_zero_or_pos n with rfl | h
      · show fiS tot 0 < 1; exact Nat.zero_lt_one
      · have := fiS_lt tot n h; omega
theorem fiS_le (tot : Nat → Int32) (n : Nat) : fiS tot n ≤ n := by
  rcases Nat.eq_zero_or_pos n with rfl | h
  · exact Nat.le_refl _
  · exact Nat.le_of_lt (fiS_lt tot n h)
theorem rkS_le (o : Int32) (tot : Nat → Int32) (h : Nat) : ∀ g, rkS o tot h g ≤ g
  | 0 => Nat.le_refl _
  | g + 1 => by
    have := rkS_le o tot h g
    unfold rkS
    split <;> omega
/-- the model's state with the totals of the first h houses laid -/
def ltS (ms : Mst) (tot : Nat → Int32) (h : Nat) : Mst := (ms.1, ms.2.1, fun j => if j = 7 then (fun i => if i < h then tot i else ms.2.2 7 i) else ms.2.2 j)
theorem ltS_0 (ms : Mst) (tot : Nat → Int32) : ltS ms tot 0 = ms := by
  unfold ltS
  refine Prod.ext rfl (Prod.ext rfl (funext fun j => ?_))
  by_cases h : j = 7
  · subst h; simp
  · simp [h]
theorem ltS_s (ms : Mst) (tot : Nat → Int32) (h : Nat) : sA (ltS ms tot h) 7 h (tot h) = ltS ms tot (h + 1) := by
  unfold ltS sA
  refine Prod.ext rfl (Prod.ext rfl (funext fun j => ?_))
  by_cases hj : j = 7
  · subst hj
    simp only [if_true]
    funext i
    by_cases h1 : i = h
    · subst h1; simp
    · by_cases h2 : i < h
      · simp [h1, h2, show i < h + 1 by omega]
      · simp [h1, h2, show ¬ i < h + 1 by omega]
  · simp [hj]
theorem ltS_at (ms : Mst) (tot : Nat → Int32) {h i : Nat} (hi : i < h) : (ltS ms tot h).2.2 7 i = tot i := by
  show (if i < h then tot i else ms.2.2 7 i) = tot i
  rw [if_pos hi]
/-- and who is out, and the ranks of the first n houses -/
def lrS (ms : Mst) (tot : Nat → Int32) (o : Int32) (rk : Nat → Int32) (nh n : Nat) : Mst := (fun k => if k = 25 then o else ms.1 k, ms.2.1, fun j => if j = 7 then (fun i => if i < nh then tot i else ms.2.2 7 i) else if j = 8 then (fun i => if i < n then rk i else ms.2.2 8 i) else ms.2.2 j)
theorem lrS_0 (ms : Mst) (tot : Nat → Int32) (o : Int32) (rk : Nat → Int32) (nh : Nat) : sI (ltS ms tot nh) 25 o = lrS ms tot o rk nh 0 := by
  unfold ltS sI lrS
  refine Prod.ext rfl (Prod.ext rfl (funext fun j => ?_))
  by_cases h : j = 7
  · subst h; simp
  · by_cases h8 : j = 8
    · subst h8; simp
    · simp [h, h8]
theorem lrS_s (ms : Mst) (tot : Nat → Int32) (o : Int32) (rk : Nat → Int32) (nh n : Nat) : sA (lrS ms tot o rk nh n) 8 n (rk n) = lrS ms tot o rk nh (n + 1) := by
  unfold lrS sA
  refine Prod.ext rfl (Prod.ext rfl (funext fun j => ?_))
  by_cases h8 : j = 8
  · subst h8
    simp only [if_true, show ¬ (8 = 7) by decide, if_false]
    funext i
    by_cases h1 : i = n
    · subst h1; simp
    · by_cases h2 : i < n
      · simp [h1, h2, show i < n + 1 by omega]
      · simp [h1, h2, show ¬ i < n + 1 by omega]
  · simp [h8]
theorem lrS_at (ms : Mst) (tot : Nat → Int32) (o : Int32) (rk : Nat → Int32) {nh n i : Nat} (hi : i < nh) : (lrS ms tot o rk nh n).2.2 7 i = tot i := by
  show (if i < nh then tot i else ms.2.2 7 i) = tot i
  rw [if_pos hi]
theorem lrS_rk (ms : Mst) (tot : Nat → Int32) (o : Int32) (rk : Nat → Int32) {nh n i : Nat} (hi : i < n) : (lrS ms tot o rk nh n).2.2 8 i = rk i := by
  show (if i < n then rk i else ms.2.2 8 i) = rk i
  rw [if_pos hi]
/-- how many lodgers, houses, bends the regatta has -/
def DM (ms : Mst) (nl nh nb : Nat) : Prop := ms.2.2 2 7 = nI nl ∧ nl ≤ 5 ∧ ms.2.2 2 6 = nI nh ∧ nh ≤ 4 ∧ ms.2.2 2 5 = nI nb ∧ nb ≤ 4
