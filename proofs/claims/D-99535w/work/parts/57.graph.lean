/-! LISTS, THE REGATTA's GRAPH, A RIVER: what cells are there (c: a world's cells, or some of them) -/
def AL (c : Nat → Option Cel) (L n : Nat) (f : Nat → Nat) : Prop := ∃ (E cap : Nat) (mc : Int32) (g : Nat → Value), c L = some (14, 0, ob [.int mc, .ref E, .int (nI n)]) ∧ c E = some (103, cap, g) ∧ n ≤ cap ∧ cap < 2 ^ 31 ∧ ∀ i, i < n → g i = .ref (f i)
def RVr (c : Nat → Option Cel) (rv rg : Nat) (row : Nat → Int32) : Prop := ∃ hf lf : Nat → Int32, c rv = some (13, 0, ob [.ref rg, .ref (rv + 1), .ref (rv + 2), .int (row 6), .int (row 7)]) ∧ c (rv + 1) = some (100, 5, fun i => .int (hf i)) ∧ c (rv + 2) = some (100, 4, fun i => .int (lf i)) ∧ (∀ i, i < 5 → hf i = lpS (row i)) ∧ ∀ i, i < 4 → lf i = (row 5 >>> (nI i &&& 31)) &&& 1
def RGw (c : Nat → Option Cel) (rg pz LB LH LL LS : Nat) (bn hs lg sn kd tb th tl : Nat → Nat) (pf r : Nat → Int32) (nl nh nb np ns : Nat) : Prop :=
  c rg = some (4, 0, ob [.int (r 0), .int (r 1), .int (r 2), .int (r 3), .int (r 4), .int (r 8), .int (r 9), .ref pz, .ref LB, .ref LH, .ref LL, .ref LS]) ∧
  c pz = some (100, 4, fun i => .int (pf i)) ∧ (∀ i, i < np → pf i = r (55 + i)) ∧
  AL c LB nb bn ∧ AL c LH nh hs ∧ AL c LL nl lg ∧ AL c LS ns sn ∧
  (∀ i, i < nb → c (bn i) = some (6, 0, ob [.ref (tb i), .int (r (11 + 2 * i)), .int (r (11 + 2 * i + 1))])) ∧
  (∀ i, i < nh → kd i ≤ 3 ∧ r (19 + 4 * i) = nI (kd i) ∧ c (hs i) = some (7 + kd i, 0, ob [.ref (th i), .int (r (19 + 4 * i + 1)), .int (r (19 + 4 * i + 2)), .int (r (19 + 4 * i + 3))])) ∧
  (∀ i, i < nl → c (lg i) = some (11, 0, ob [.ref (tl i), .int (r (35 + 4 * i)), .int (r (35 + 4 * i + 1)), .int (lpS (r (35 + 4 * i + 2))), .int (r (35 + 4 * i + 3))])) ∧
  ∀ i, i < ns → c (sn i) = some (12, 0, ob [.int (r (59 + 3 * i)), .int (r (59 + 3 * i + 1)), .int (r (59 + 3 * i + 2))])
def RG (c : Nat → Option Cel) (rg : Nat) (r : Nat → Int32) (nl nh nb np ns : Nat) : Prop := ∃ (pz LB LH LL LS : Nat) (bn hs lg sn kd tb th tl : Nat → Nat) (pf : Nat → Int32), RGw c rg pz LB LH LL LS bn hs lg sn kd tb th tl pf r nl nh nb np ns
abbrev Sub (c c' : Nat → Option Cel) : Prop := ∀ a x, c a = some x → c' a = some x
theorem AL.mono {c c' : Nat → Option Cel} (hs : Sub c c') {L n : Nat} {f : Nat → Nat} (h : AL c L n f) : AL c' L n f := by
  obtain ⟨E, cap, mc, g, h1, h2, h3⟩ := h
  exact ⟨E, cap, mc, g, hs _ _ h1, hs _ _ h2, h3⟩
theorem RVr.mono {c c' : Nat → Option Cel} (hs : Sub c c') {rv rg : Nat} {row : Nat → Int32} (h : RVr c rv rg row) : RVr c' rv rg row := by
  obtain ⟨hf, lf, h1, h2, h3, h4⟩ := h
  exact ⟨hf, lf, hs _ _ h1, hs _ _ h2, hs _ _ h3, h4⟩
theorem RVr.row {c : Nat → Option Cel} {rv rg : Nat} {row row' : Nat → Int32} (e : ∀ i, i < 8 → row i = row' i) (h : RVr c rv rg row) : RVr c rv rg row' := by
  obtain ⟨hf, lf, h1, h2, h3, h4, h5⟩ := h
  refine ⟨hf, lf, ?_, h2, h3, fun i hi => ?_, fun i hi => ?_⟩
  · rw [← e 6 (by omega), ← e 7 (by omega)]; exact h1
  · rw [← e i (by omega)]; exact h4 i hi
  · rw [← e 5 (by omega)]; exact h5 i hi
theorem RGw.mono {c c' : Nat → Option Cel} (hs : Sub c c') {rg pz LB LH LL LS : Nat} {bn hs' lg sn kd tb th tl : Nat → Nat} {pf r : Nat → Int32} {nl nh nb np ns : Nat} (h : RGw c rg pz LB LH LL LS bn hs' lg sn kd tb th tl pf r nl nh nb np ns) : RGw c' rg pz LB LH LL LS bn hs' lg sn kd tb th tl pf r nl nh nb np ns := by
  obtain ⟨h1, h2, h3, h4, h5, h6, h7, h8, h9, h10, h11⟩ := h
  exact ⟨hs _ _ h1, hs _ _ h2, h3, h4.mono hs, h5.mono hs, h6.mono hs, h7.mono hs, fun i hi => hs _ _ (h8 i hi), fun i hi => ⟨(h9 i hi).1, (h9 i hi).2.1, hs _ _ (h9 i hi).2.2⟩, fun i hi => hs _ _ (h10 i hi), fun i hi => hs _ _ (h11 i hi)⟩
theorem RG.mono {c c' : Nat → Option Cel} (hs : Sub c c') {rg : Nat} {r : Nat → Int32} {nl nh nb np ns : Nat} (h : RG c rg r nl nh nb np ns) : RG c' rg r nl nh nb np ns := by
  obtain ⟨pz, LB, LH, LL, LS, bn, hs', lg, sn, kd, tb, th, tl, pf, h⟩ := h
  exact ⟨pz, LB, LH, LL, LS, bn, hs', lg, sn, kd, tb, th, tl, pf, h.mono hs⟩
theorem RGw.cong {c : Nat → Option Cel} {rg pz LB LH LL LS : Nat} {bn hs' lg sn kd tb th tl : Nat → Nat} {pf r r' : Nat → Int32} {nl nh nb np ns : Nat} (e : ∀ i, i < 74 → r i = r' i) (hl : nl ≤ 5) (hh : nh ≤ 4) (hb : nb ≤ 4) (hp : np ≤ 4) (hn : ns ≤ 5) (h : RGw c rg pz LB LH LL LS bn hs' lg sn kd tb th tl pf r nl nh nb np ns) : RGw c rg pz LB LH LL LS bn hs' lg sn kd tb th tl pf r' nl nh nb np ns := by
  obtain ⟨h1, h2, h3, h4, h5, h6, h7, h8, h9, h10, h11⟩ := h
  refine ⟨?_, h2, fun i hi => ?_, h4, h5, h6, h7, fun i hi => ?_, fun i hi => ⟨(h9 i hi).1, ?_, ?_⟩, fun i hi => ?_, fun i hi => ?_⟩
  · rw [← e 0 (by omega), ← e 1 (by omega), ← e 2 (by omega), ← e 3 (by omega), ← e 4 (by omega), ← e 8 (by omega), ← e 9 (by omega)]; exact h1
  · rw [← e _ (by omega)]; exact h3 i hi
  · rw [← e _ (by omega), ← e _ (by omega)]; exact h8 i hi
  · rw [← e _ (by omega)]; exact (h9 i hi).2.1
  · rw [← e _ (by omega), ← e _ (by omega), ← e _ (by omega)]; exact (h9 i hi).2.2
  · rw [← e _ (by omega), ← e _ (by omega), ← e _ (by omega), ← e _ (by omega)]; exact h10 i hi
  · rw [← e _ (by omega), ← e _ (by omega), ← e _ (by omega)]; exact h11 i hi
theorem RG.cong {c : Nat → Option Cel} {rg : Nat} {r r' : Nat → Int32} {nl nh nb np ns : Nat} (e : ∀ i, i < 74 → r i = r' i) (hl : nl ≤ 5) (hh : nh ≤ 4) (hb : nb ≤ 4) (hp : np ≤ 4) (hn : ns ≤ 5) (h : RG c rg r nl nh nb np ns) : RG c rg r' nl nh nb np ns := by
  obtain ⟨pz, LB, LH, LL, LS, bn, hs', lg, sn, kd, tb, th, tl, pf, h⟩ := h
  exact ⟨pz, LB, LH, LL, LS, bn, hs', lg, sn, kd, tb, th, tl, pf, h.cong e hl hh hb hp hn⟩
/-! houses: four classes with the same fields -/
theorem kd4 {kd : Nat} (h : kd ≤ 3) : kd = 0 ∨ kd = 1 ∨ kd = 2 ∨ kd = 3 := by omega
theorem fH_0 {kd : Nat} (h : kd ≤ 3) : fOk (7 + kd) 0 "RoofRegatta$House" "name" "Ljava/lang/String;" true (.object "java/lang/String") := by
  rcases kd4 h with rfl | rfl | rfl | rfl
  · exact f_7_0
  · exact f_8_0
  · exact f_9_0
  · exact f_10_0
theorem fH_1 {kd : Nat} (h : kd ≤ 3) : fOk (7 + kd) 1 "RoofRegatta$House" "lane" "I" false (.int) := by
  rcases kd4 h with rfl | rfl | rfl | rfl
  · exact f_7_1
  · exact f_8_1
  · exact f_9_1
  · exact f_10_1
theorem fH_2 {kd : Nat} (h : kd ≤ 3) : fOk (7 + kd) 2 "RoofRegatta$House" "tiles" "I" false (.int) := by
  rcases kd4 h with rfl | rfl | rfl | rfl
  · exact f_7_2
  · exact f_8_2
  · exact f_9_2
  · exact f_10_2
theorem fH_3 {kd : Nat} (h : kd ≤ 3) : fOk (7 + kd) 3 "RoofRegatta$House" "storeys" "I" false (.int) := by
  rcases kd4 h with rfl | rfl | rfl | rfl
  · exact f_7_3
  · exact f_8_3
  · exact f_9_3
  · exact f_10_3
theorem clH {kd : Nat} (h : kd ≤ 3) : ∃ (C : String) (T : u_T), clz[7 + kd]? = some (C, T, 4) ∧ Cond.castable C "java/lang/Object" ∈ lw_tbl ∧ (kd = 0 ∨ Cond.castable C "RoofRegatta$House" ∈ lw_tbl) := by
  rcases kd4 h with rfl | rfl | rfl | rfl
  · exact ⟨RX8, TX8, rfl, q2370, Or.inl rfl⟩
  · exact ⟨RX9, TX9, rfl, q2371, Or.inr q2357⟩
  · exact ⟨RX10, TX10, rfl, q2372, Or.inr q2358⟩
  · exact ⟨RX11, TX11, rfl, q2373, Or.inr q2356⟩
section GG
variable {Δ : Cx} {d : Nat} {μ : Mi} {pc : Nat} {lv lv' : List (Nat × Value)} {st : List Value} {h : Hp} {Q : Option Value → Hp → Prop}
theorem gH_cast {kd n a idx : Nat} {f : Nat → Value} (hk : kd ≤ 3) (ha : ce Δ h a = some (7 + kd, n, f)) (hl : Cond.classLink μ.1 idx "RoofRegatta$House" ∈ lw_all) (dg : decode μ.2.2.1 pc = .ok (.checkcast idx, 3)) (kk : wp Δ d μ (pc + 3) lv (.ref a :: st) h Q) : wp Δ d μ pc lv (.ref a :: st) h Q := by
  rcases kd4 hk with rfl | rfl | rfl | rfl
  · exact g_castS (C := RX8) (T := TX8) (N := 4) ha rfl hl dg kk
  · exact g_castY (C := RX9) (T := TX9) (N := 4) ha rfl q2357 hl dg kk
  · exact g_castY (C := RX10) (T := TX10) (N := 4) ha rfl q2358 hl dg kk
  · exact g_castY (C := RX11) (T := TX11) (N := 4) ha rfl q2356 hl dg kk
end GG
/-! of places and numbers -/
theorem lp_eq : ∀ (k : Fin 8) (h : Fin 8), (lpS (nI k.val) = nI h.val ↔ nI k.val = nI h.val + 1) := by decide +kernel
theorem lp_h {x : Int32} {h n : Nat} (hx : bd x n) (hn : n ≤ 4) (hh : h < 4) : lpS x = nI h ↔ x = nI h + 1 := by
  obtain ⟨k, h1, rfl⟩ := hx
  exact lp_eq ⟨k, by omega⟩ ⟨h, by omega⟩
theorem lp_0 {x : Int32} {n : Nat} (hx : bd x n) (hn : n ≤ 4) : lpS x = -2 ↔ ¬ 0 < x := by
  obtain ⟨k, h1, rfl⟩ := hx
  have : ∀ k : Fin 8, (lpS (nI k.val) = -2 ↔ ¬ (0 : Int32) < nI k.val) := by decide +kernel
  exact this ⟨k, by omega⟩
theorem lp_i {x y : Int32} {n : Nat} (hx : bd x n) (hy : bd y n) (hn : n ≤ 4) : lpS x = lpS y ↔ x = y := by
  obtain ⟨k, h1, rfl⟩ := hx
  obtain ⟨j, h2, rfl⟩ := hy
  have : ∀ k j : Fin 8, (lpS (nI k.val) = lpS (nI j.val) ↔ nI k.val = nI j.val) := by decide +kernel
  exact this ⟨k, by omega⟩ ⟨j, by omega⟩
theorem ab_bd (row : Nat → Int32) (h : Nat) : ∀ l, l ≤ 5 → ∃ k : Nat, k < 2 ^ l ∧ abS row h l = nI k
  | 0, _ => ⟨0, by omega, rfl⟩
  | l + 1, hl => by
    obtain ⟨k, h1, h2⟩ := ab_bd row h l (by omega)
    unfold abS
    rw [h2]
    split
    · have : ∀ (l : Fin 5) (k : Fin 16), k.val < 2 ^ l.val → nI k.val ||| (1 : Int32) <<< (nI l.val &&& 31) = nI (k.val + 2 ^ l.val) := by decide +kernel
      have hp : 2 ^ l ≤ 16 := p2le4 (n := l) (by omega)
      refine ⟨k + 2 ^ l, by rw [Nat.pow_succ]; omega, this ⟨l, by omega⟩ ⟨k, by omega⟩ h1⟩
    · have : ∀ k : Fin 16, nI k.val ||| 0 = nI k.val := by decide +kernel
      have hp : 2 ^ l ≤ 16 := p2le4 (n := l) (by omega)
      exact ⟨k, by rw [Nat.pow_succ]; omega, this ⟨k, by omega⟩⟩
/-- bits counted one by one off the low end -/
theorem on_step : ∀ k : Fin 32, k.val ≠ 0 → (nI k.val &&& (nI k.val - 1)).toInt.toNat < k.val ∧ nI k.val &&& (nI k.val - 1) = nI (nI k.val &&& (nI k.val - 1)).toInt.toNat ∧ onS (nI k.val) 8 = onS (nI k.val &&& (nI k.val - 1)) 8 + 1 := by decide +kernel
theorem on_nat : ∀ k : Fin 32, onS (nI k.val) 8 = nI (onS (nI k.val) 8).toInt.toNat ∧ (onS (nI k.val) 8).toInt.toNat ≤ 5 := by decide +kernel
def onN (k : Nat) : Nat := (onS (nI k) 8).toInt.toNat
theorem on_N {k : Nat} (h : k < 32) : onS (nI k) 8 = nI (onN k) ∧ onN k ≤ 5 := on_nat ⟨k, h⟩
theorem on_S {k : Nat} (h : k < 32) (h0 : k ≠ 0) : ∃ j : Nat, j < k ∧ nI k &&& (nI k - 1) = nI j ∧ onN k = onN j + 1 := by
  obtain ⟨h1, h2, h3⟩ := on_step ⟨k, h⟩ h0
  refine ⟨_, h1, h2, ?_⟩
  have h1 : (nI k &&& (nI k - 1)).toInt.toNat < k := h1
  have h2 : nI k &&& (nI k - 1) = nI (nI k &&& (nI k - 1)).toInt.toNat := h2
  have h3 : onS (nI k) 8 = onS (nI k &&& (nI k - 1)) 8 + 1 := h3
  generalize (nI k &&& (nI k - 1)).toInt.toNat = j at h1 h2
  rw [h2] at h3
  obtain ⟨e1, e2⟩ := on_N h
  obtain ⟨e3, e4⟩ := on_N (k := j) (by omega)
  rw [e1, e3] at h3
  have e5 : nI (onN j) + 1 = nI (onN j + 1) := nI_add _ 1
  rw [e5] at h3
  exact (nI_eq (by omega) (by omega)).mp h3
/-- who is out -/
theorem ou_bit {x : Int32} {f h : Nat} (hx : bd x 15) (hf : f < 4) (hh : h < 4) : hbS (x &&& (((1 : Int32) <<< (nI f &&& 31)) ^^^ (-1))) (nI h) = (hbS x (nI h) && !decide (f = h)) := by
  obtain ⟨k, h1, rfl⟩ := hx
  have : ∀ (k : Fin 16) (f h : Fin 4), hbS (nI k.val &&& (((1 : Int32) <<< (nI f.val &&& 31)) ^^^ (-1))) (nI h.val) = (hbS (nI k.val) (nI h.val) && !decide (f.val = h.val)) := by decide +kernel
  exact this ⟨k, by omega⟩ ⟨f, hf⟩ ⟨h, hh⟩
