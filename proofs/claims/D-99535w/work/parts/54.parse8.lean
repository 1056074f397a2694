/-! the whole parse; the model's state behind it -/
def loF (t : Nat → Int32) (n : Nat) : Nat → Pk → Pk
  | 0, P => P
  | f + 1, P => if P.f = 0 ∧ P.k = 59 then loF t n f (rlL t n (nxP t n P)) else P
def enA (P : Pk) : Pk := if P.f = 0 then (if P.k = 0 then P else wgP 1 P.a P) else P
def enB (P : Pk) : Pk := if P.f = 0 then (if P.fr 0 = 0 ∨ P.fr 6 = 0 then wgP 6 P.a P else P) else P
def reF (t : Nat → Int32) (n : Nat) (P : Pk) : Pk := enB (enA (loF t n (n + 1) (rlL t n (nxP t n P))))
def zrF (f : Nat → Int32) (k : Nat) : Nat → Int32 := fun i => if i < k then 0 else f i
theorem zrF_0 (f : Nat → Int32) : f = zrF f 0 := by funext i; unfold zrF; rw [if_neg (by omega)]
theorem zrF_s {f : Nat → Int32} {k : Nat} : (fun i => if i = k then (0 : Int32) else zrF f k i) = zrF f (k + 1) := by
  funext i
  unfold zrF
  by_cases h : i = k
  · rw [if_pos h, if_pos (by omega)]
  · rw [if_neg h]
    by_cases h2 : i < k
    · rw [if_pos h2, if_pos (by omega)]
    · rw [if_neg h2, if_neg (by omega)]
def rg0 (ms : Mst) : Mst := sI (sI (sI ms 0 0) 11 0) 2 0
def rg1 (ms : Mst) (n : Nat) : Mst := sI (rg0 ms) 3 (nI n)
def Pk0 (ms : Mst) : Pk := (ms.1 4, 0, ms.1 6, ms.1 7, ms.1 8, 0, 0, ms.1 10, ms.2.2 1, zrF (ms.2.2 3) 191)
theorem pk_o3 {ms : Mst} {P : Pk} {x : Int32} : sI (pkS ms P) 3 x = pkS (sI ms 3 x) P := by
  refine pk_ext rfl rfl rfl rfl rfl rfl rfl rfl rfl rfl (fun j c4 c5 c6 c7 c8 c13 c9 c10 => ?_) rfl (fun j c1 c3 => pk_oA c1 c3)
  show (if j = 3 then x else (pkS ms P).1 j) = (if j = 3 then x else ms.1 j)
  rw [pk_o c4 c5 c6 c7 c8 c13 c9 c10]
theorem eOk_n0 {t : Nat → Int32} {n : Nat} (hn : n ≤ 900) {P : Pk} (h : ∃ e : Nat, e ≤ n ∧ P.e = nI e) : eOk n (nxP t n P) :=
  eOk_nx (P := (P.a, P.e, 0, P.w, P.z, P.f, P.u, P.p, P.le, P.fr)) hn ⟨h, fun q => absurd q (show ¬ (0 : Int32) = 2 by decide)⟩
theorem li_0 (f : Nat → Int32) : LI (zrF f 191) := by
  have hz : ∀ q, q < 191 → zrF f 191 q = 0 := fun q hq => if_pos hq
  refine ⟨0, 0, 0, 0, 0, 0, ⟨by omega, by omega, by omega, by omega, by omega, by omega⟩, ⟨hz _ (by omega), hz _ (by omega), hz _ (by omega), hz _ (by omega), hz _ (by omega), hz _ (by omega)⟩, fun q hq _ => ⟨0, by omega, hz q (by omega)⟩, fun l hl => ⟨0, by omega, hz _ (by omega)⟩, fun i hi => absurd hi (by omega), fun i hi => ⟨0, by omega, hz _ (by omega), ?_⟩, fun i j hi hj hne h => ?_⟩
  · unfold told; omega
  · rw [hz _ (by omega)] at h
    exact absurd h (by decide)
theorem li_fe {f g : Nat → Int32} (e : f = g) (h : LI g) : LI f := e ▸ h
theorem eG_0 {n : Nat} {P : Pk} (h : eOk n P) : eG n 0 P := by
  obtain ⟨⟨e, h1, h2⟩, -⟩ := h
  exact ⟨e, by omega, h1, h2⟩
theorem loF_f {t : Nat → Int32} {n : Nat} {P : Pk} (h : ¬ (P.f = 0 ∧ P.k = 59)) : ∀ f, loF t n f P = P
  | 0 => rfl
  | f + 1 => if_neg h
theorem loF_t {t : Nat → Int32} {n k : Nat} {P : Pk} (h1 : P.f = 0) (h2 : P.k = 59) (hk : k ≤ n) : loF t n (n + 1 - k) P = loF t n (n + 1 - (k + 1)) (rlL t n (nxP t n P)) := by
  rw [show n + 1 - k = (n + 1 - (k + 1)) + 1 by omega]
  exact if_pos ⟨h1, h2⟩
section OL
variable {t : Nat → Int32} {n : Nat} {P : Pk}
theorem eOk_sA (hn : n ≤ 900) {i x : Nat} {lo hi : Int32} (h : eOk n P) : eOk n (stA t n i x lo hi P) := eOk_sf (eOk_af hn h)
theorem eOk_sS (hn : n ≤ 900) {x : Nat} (h : eOk n P) : eOk n (stS t n x P) := eOk_sf (eOk_si hn h)
theorem eOk_in {k : Nat} (h : eOk n P) : eOk n (inP k P) := by unfold inP; split <;> exact h
theorem eOk_beL (hn : n ≤ 900) (h : eOk n P) : eOk n (beL t n P) := by
  unfold beL; split
  · exact eOk_in (eOk_sS hn (eOk_sA hn (eOk_nn hn h)))
  · exact h
theorem eOk_loL (hn : n ≤ 900) (h : eOk n P) : eOk n (loL t n P) := by
  unfold loL; split
  · exact eOk_in (eOk_sA hn (eOk_sA hn (eOk_nn hn h)))
  · exact h
theorem eOk_hoL (hn : n ≤ 900) (h : eOk n P) : eOk n (hoL t n P) := by
  unfold hoL; split
  · have h1 := eOk_nn (t := t) hn (i := ix (P.fr 6)) h
    unfold hoM; split
    · exact eOk_in (eOk_sA hn (eOk_sA hn (eOk_sS hn (eOk_sf (eOk_nx hn (eOk_hk h1))))))
    · exact eOk_hk h1
  · exact h
theorem eOk_reL (hn : n ≤ 900) (h : eOk n P) : eOk n (reL t n P) := by
  have h1 : eOk n (reW P) := eOk_rw h
  have h2 : eOk n (reM t n (reW P)) := by
    unfold reM
    exact eOk_sA hn (eOk_sA hn (eOk_sA hn (eOk_sA hn (eOk_af hn (eOk_nx hn h1)))))
  unfold reL; split
  · split
    · exact eOk_sf h2
    · exact h2
  · exact h1
theorem eOk_prL (hn : n ≤ 900) (h : eOk n P) : eOk n (prL t n P) := by
  unfold prL; split
  · exact eOk_sf (eOk_sf (eOk_nu hn h))
  · exact eOk_nu hn h
theorem eOk_abL (hn : n ≤ 900) (h : eOk n P) : eOk n (abL t n P) := by
  have h1 : eOk n (abQ t n P) := eOk_pa hn (eOk_aa (eOk_nd h))
  unfold abL abE; split
  · exact eOk_sf (eOk_pa hn (eOk_aw (eOk_nd h1)))
  · exact eOk_pa hn (eOk_aw (eOk_nd h1))
theorem eOk_frL (hn : n ≤ 900) (h : eOk n P) : eOk n (frL t n P) := by
  have h1 : eOk n (frQ t n P) := eOk_pa hn (eOk_nd h)
  unfold frL frE; split
  · exact eOk_sf (eOk_sf (eOk_sf (eOk_pa hn (eOk_fw (eOk_nd h1)))))
  · exact eOk_pa hn (eOk_fw (eOk_nd h1))
theorem eOk_saL (hn : n ≤ 900) (h : eOk n P) : eOk n (saL t n P) := by
  have h1 : eOk n (saQ t n P) := eOk_pa hn (eOk_nd h)
  have h2 : eOk n (saR t n P) := eOk_pa hn (eOk_sw (eOk_nd h1))
  unfold saL saE; split
  · exact eOk_sf (eOk_sf (eOk_sf (eOk_sf (eOk_pa hn (eOk_nd h2)))))
  · exact eOk_pa hn (eOk_nd h2)
theorem eOk_rl (hn : n ≤ 900) (h : eOk n P) : eOk n (rlL t n P) := by
  unfold rlL
  repeat' split
  · exact eOk_reL hn h
  · exact eOk_beL hn (eOk_be hn h)
  · exact eOk_hoL hn (eOk_be hn h)
  · exact eOk_loL hn (eOk_be hn h)
  · exact eOk_abL hn (eOk_be hn h)
  · exact eOk_frL hn (eOk_be hn h)
  · exact eOk_prL hn (eOk_be hn h)
  · exact eOk_saL hn (eOk_be hn h)
  · exact eOk_wg h
end OL
/-- what a turn of the parser's loop keeps -/
theorem lo_keep {t : Nat → Int32} {n k : Nat} (hn : n ≤ 900) {P : Pk} (E : eOk n P) (hf : P.f = 0) (hL : LI P.fr) (G : eG n k P) : eOk n (nxP t n P) ∧ LI (nxP t n P).fr ∧ eOk n (rlL t n (nxP t n P)) ∧ ((rlL t n (nxP t n P)).f = 0 → LI (rlL t n (nxP t n P)).fr ∧ eG n (k + 1) (rlL t n (nxP t n P))) := by
  have E1 := eOk_nx (t := t) hn E
  have L1 : LI (nxP t n P).fr := li_fe fr_nx hL
  refine ⟨E1, L1, eOk_rl hn E1, fun h => ⟨li_rl hn L1 E1 h, ?_⟩⟩
  by_cases c : (nxP t n P).k = 0
  · exact absurd h (rl_end c)
  · exact eG_rl hn (eG_ns hn G c)
def stW (w : Mst) (g : Nat → Int32) : Mst := (w.1, w.2.1, fun j => if j = 4 then g else w.2.2 j)
theorem stW_self (w : Mst) : w = stW w (w.2.2 4) := by
  refine Prod.ext rfl (Prod.ext rfl (funext fun j => ?_))
  show w.2.2 j = if j = 4 then w.2.2 4 else w.2.2 j
  by_cases h : j = 4
  · rw [if_pos h, h]
  · rw [if_neg h]
theorem stW_A {w : Mst} {g : Nat → Int32} {n : Nat} {x : Int32} : sA (stW w g) 4 n x = stW w (fun i => if i = n then x else g i) := by
  refine Prod.ext rfl (Prod.ext rfl (funext fun j => ?_))
  show (if j = 4 then (fun i => if i = n then x else g i) else (if j = 4 then g else w.2.2 j)) = if j = 4 then _ else w.2.2 j
  by_cases h : j = 4
  · rw [if_pos h, if_pos h]
  · rw [if_neg h, if_neg h, if_neg h]
def rgC (ms : Mst) (n : Nat) (Q : Pk) : Mst := cpS (pkS (rg1 ms n) Q) 3 0 2 0 191
theorem rgC_r {ms : Mst} {n : Nat} {Q : Pk} {i : Nat} (hi : i < 191) : (rgC ms n Q).2.2 2 i = Q.fr i := by
  show (if 0 ≤ i ∧ i < 0 + 191 then Q.fr (0 + (i - 0)) else _) = _
  rw [if_pos ⟨by omega, by omega⟩, Nat.sub_zero, Nat.zero_add]
def laS (fr : Nat → Int32) : Nat → Int32
  | 0 => 0
  | h + 1 => laS fr h ||| (fr (19 + 4 * h + 1) <<< (nI h &&& 31))
def rowB (fr : Nat → Int32) (nl h : Nat) (i : Nat) : Int32 := if i < 5 then (if i < nl then fr (35 + 4 * i + 2) else 0) else if i = 5 then laS fr h else 0
def rowS (fr : Nat → Int32) (nl nh : Nat) (i : Nat) : Int32 := if i = 7 then fr 0 else rowB fr nl nh i
theorem rb_0 {fr g : Nat → Int32} {nl l : Nat} (hn : nl ≤ 5) (hl : l = nl) (h : ∀ i, i < 8 → g i = if i < l then fr (35 + 4 * i + 2) else 0) : ∀ i, i < 8 → g i = rowB fr nl 0 i := by
  subst hl
  intro i hi
  rw [h i hi]
  unfold rowB
  by_cases h1 : i < 5
  · rw [if_pos h1]
  · rw [if_neg h1, if_neg (by omega)]
    split <;> rfl
theorem rl_0 {fr g : Nat → Int32} {k : Nat} (hk : 8 ≤ k) (h : ∀ i, i < k → g i = 0) : ∀ i, i < 8 → g i = if i < 0 then fr (35 + 4 * i + 2) else 0 := by
  intro i hi
  rw [if_neg (by omega)]
  exact h i (by omega)
theorem rl_s {fr g : Nat → Int32} {l : Nat} {x : Int32} (hx : x = fr (35 + 4 * l + 2)) (h : ∀ i, i < 8 → g i = if i < l then fr (35 + 4 * i + 2) else 0) : ∀ i, i < 8 → (if i = l then x else g i) = if i < l + 1 then fr (35 + 4 * i + 2) else 0 := by
  intro i hi
  by_cases e : i = l
  · rw [if_pos e, if_pos (by omega), hx, e]
  · rw [if_neg e, h i hi]
    by_cases e2 : i < l
    · rw [if_pos e2, if_pos (by omega)]
    · rw [if_neg e2, if_neg (by omega)]
theorem rb_s {fr g : Nat → Int32} {nl h : Nat} {x : Int32} (hx : x = laS fr (h + 1)) (hg : ∀ i, i < 8 → g i = rowB fr nl h i) : ∀ i, i < 8 → (if i = 5 then x else g i) = rowB fr nl (h + 1) i := by
  intro i hi
  unfold rowB
  by_cases e : i = 5
  · rw [if_pos e, hx, if_neg (by omega), if_pos e]
  · rw [if_neg e, hg i hi]
    unfold rowB
    rw [if_neg e, if_neg e]
theorem rs_e {fr g : Nat → Int32} {nl nh h : Nat} {x : Int32} (hh : h = nh) (hx : x = fr 0) (hg : ∀ i, i < 8 → g i = rowB fr nl h i) : ∀ i, i < 8 → (if i = 7 then x else g i) = rowS fr nl nh i := by
  subst hh
  intro i hi
  unfold rowS
  by_cases e : i = 7
  · rw [if_pos e, if_pos e, hx]
  · rw [if_neg e, if_neg e, hg i hi]
/-- what regatta(x) makes of the model's state -/
def rgQ (ms ms' : Mst) (x v : Int32) : Prop :=
  (inS x 0 (ms.1 2) = false → v = -1 ∧ cEq ms ms' 2) ∧
  (inS x 0 (ms.1 2) = true → ms'.1 2 = 0 ∧ ms'.1 9 = (reF (ms.2.2 0) (ix x) (Pk0 ms)).u ∧ ms'.2.2 0 = ms.2.2 0 ∧
    (¬ (reF (ms.2.2 0) (ix x) (Pk0 ms)).f = 0 → v = -1 ∧ ms'.1 10 = (reF (ms.2.2 0) (ix x) (Pk0 ms)).p ∧ ms'.1 14 = ms.1 14 ∧ ms'.1 20 = ms.1 20 ∧ ms'.1 21 = ms.1 21 ∧ ms'.1 11 = 4 ∧ ms'.2.2 2 = ms.2.2 2 ∧ ms'.2.2 4 = ms.2.2 4 ∧ ms'.2.2 5 = ms.2.2 5 ∧ ms'.2.2 6 = ms.2.2 6) ∧
    ((reF (ms.2.2 0) (ix x) (Pk0 ms)).f = 0 → v = (reF (ms.2.2 0) (ix x) (Pk0 ms)).fr 6 ∧ ms'.1 14 = 1 ∧ ms'.1 20 = 0 ∧ ms'.1 21 = 0 ∧ ms'.1 11 = 0 ∧ (∀ i, i < 191 → ms'.2.2 2 i = (reF (ms.2.2 0) (ix x) (Pk0 ms)).fr i) ∧ ∀ i, i < 8 → ms'.2.2 4 i = rowS (reF (ms.2.2 0) (ix x) (Pk0 ms)).fr (ix ((reF (ms.2.2 0) (ix x) (Pk0 ms)).fr 7)) (ix ((reF (ms.2.2 0) (ix x) (Pk0 ms)).fr 6)) i))
