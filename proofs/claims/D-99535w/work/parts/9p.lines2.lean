/-! lines that tell one more: the graph behind them -/
/-- what a line leaves -/
def LNQ (Δ : Cx) (E : Ev) (L : Nat) (c0 : Nat → Option Cel) (P : Pk) (v : Option Value) (h' : Hp) : Prop := v = none ∧ ∃ c1, PX Δ E (L + 2) h' c1 P ∧ (∀ b x, b < E.rg → c0 b = some x → c1 b = some x) ∧ (P.f = 0 → ∃ EL cp cnt el, GP Δ E c1 P.fr EL cp cnt el) ∧ ∃ g EL cp cnt el, GP Δ E c1 g EL cp cnt el
theorem lnq_mk {Δ : Cx} {E : Ev} {L : Nat} {h : Hp} {c0 c1 : Nat → Option Cel} {P : Pk} (X : PX Δ E (L + 2) h c1 P) (F : ∀ b x, b < E.rg → c0 b = some x → c1 b = some x) (G : ∃ EL cp cnt el, GP Δ E c1 P.fr EL cp cnt el) : LNQ Δ E L c0 P none h := by
  obtain ⟨EL, cp, cnt, el, G⟩ := G
  exact ⟨rfl, c1, X, F, fun _ => ⟨EL, cp, cnt, el, G⟩, _, EL, cp, cnt, el, G⟩
theorem lnq_no {Δ : Cx} {E : Ev} {L : Nat} {h : Hp} {c0 c1 : Nat → Option Cel} {P : Pk} (X : PX Δ E (L + 2) h c1 P) (F : ∀ b x, b < E.rg → c0 b = some x → c1 b = some x) (hf : ¬ P.f = 0) (G : ∃ g EL cp cnt el, GP Δ E c1 g EL cp cnt el) : LNQ Δ E L c0 P none h := ⟨rfl, c1, X, F, fun z => absurd z hf, G⟩
theorem lx_W {Δ : Cx} {c : Nat → Option Cel} {L E cap n : Nat} {f : Nat → Nat} (X : LX Δ c L E cap n f) : ∀ b x, c b = some x → (b = L ∨ (b = E ∧ cap = 10)) → x.1 ≠ 2 ∧ x.1 ≠ 3 ∧ x.1 ≠ 5 ∧ x.1 ≠ 16 ∧ x.1 ≠ 102 := by
  obtain ⟨mc, g, h1, h2, -⟩ := X
  intro b x q z
  rcases z with z | ⟨z, -⟩
  · rw [z, h1] at q
    have q := Option.some.inj q
    rw [← q]
    exact ⟨by show 14 ≠ 2; omega, by show 14 ≠ 3; omega, by show 14 ≠ 5; omega, by show 14 ≠ 16; omega, by show 14 ≠ 102; omega⟩
  · rw [z, h2] at q
    have q := Option.some.inj q
    rw [← q]
    exact ⟨by show 103 ≠ 2; omega, by show 103 ≠ 3; omega, by show 103 ≠ 5; omega, by show 103 ≠ 16; omega, by show 103 ≠ 102; omega⟩
theorem lx_up {Δ : Cx} {c c' : Nat → Option Cel} {L E cap n : Nat} {f : Nat → Nat} (X : LX Δ c L E cap n f) (k : ∀ b x, c b = some x → x.1 ≠ 2 → x.1 ≠ 3 → x.1 ≠ 16 → c' b = some x) : LX Δ c' L E cap n f := by
  obtain ⟨mc, g, h1, h2, h3⟩ := X
  exact ⟨mc, g, k _ _ h1 (by show 14 ≠ 2; omega) (by show 14 ≠ 3; omega) (by show 14 ≠ 16; omega), k _ _ h2 (by show 103 ≠ 2; omega) (by show 103 ≠ 3; omega) (by show 103 ≠ 16; omega), h3⟩
theorem cb_eq {P : Pk} {k v m : Nat} (hv : v ≤ m) (hm : m < 100) (h : P.fr k = nI v) : decide (¬ nI v = nI m) = cB P k (nI m) := by
  unfold cB
  rw [h]
  by_cases e : v = m
  · rw [decide_eq_false (show ¬ ¬ nI v = nI m from fun q => q (by rw [e])), decide_eq_false (fun q => by have := (nI_ltI (by omega) (by omega)).mp q; omega)]
  · rw [decide_eq_true (show ¬ nI v = nI m from fun q => e ((nI_eq (by omega) (by omega)).mp q)), decide_eq_true ((nI_ltI (by omega) (by omega)).mpr (by omega))]
theorem j4 {j : Nat} (h : j < 4) : j = 0 ∨ j = 1 ∨ j = 2 ∨ j = 3 := by omega
section FIN
variable {Δ : Cx} {E : Ev} {c c2 : Nat → Option Cel} {P S1 S2 S3 S4 S5 : Pk} {EL cp cnt : Nat → Nat} {el : Nat → Nat → Nat} {np nf a s z E' kd : Nat} {r1 r2 r3 : Int32} {le : Nat → Int32}
theorem fin_be (G : GP Δ E c P.fr EL cp cnt el) (I : LIq (cnt 0) (cnt 1) (cnt 2) (cnt 3) np nf 13 P.fr) (EO : eOk E.n P) (q1 : S1 = nnP E.t E.n (4 + ix (P.fr 5)) P) (q2 : S2 = stA E.t E.n 10 (11 + 2 * ix (P.fr 5)) 1 30 S1) (q3 : S3 = stS E.t E.n (11 + 2 * ix (P.fr 5) + 1) S2) (h : S3.f = 0) (h4 : cnt 0 < 4)
    (kp : ∀ b x, c b = some x → ¬ (b = E.rg + 2 + 0 ∨ (b = EL 0 ∧ cp 0 = 10)) → c2 b = some x) (X : LX Δ c2 (E.rg + 2 + 0) E' 10 (cnt 0 + 1) (fun i => if i = cnt 0 then a else el 0 i))
    (hE : (E' = EL 0 ∧ cp 0 = 10) ∨ ((∀ b x, c b = some x → b ≠ E') ∧ E.rg ≤ E')) (ha : (∀ b x, c b = some x → b ≠ a) ∧ E.rg ≤ a)
    (hc : c2 a = some (6, 0, ob [.ref s, .int r1, .int r2])) (hs : ST Δ c2 s z le) (hz : P.z = nI z) (hl : ∀ j, j < z → le j = P.le j) (h1 : r1 = afV E.t E.n 10 1 30 S1) (h2 : r2 = siV S2) : GP Δ E c2 (beL E.t E.n P).fr (upN EL 0 E') (upN cp 0 10) (upN cnt 0 (cnt 0 + 1)) (upE el 0 (cnt 0) a) := by
  obtain ⟨g1, g2, e0, fr'⟩ := be_fr q1 q2 q3 h
  have b4 := I.1
  have hv : ix (P.fr 5) = cnt 0 := by rw [I.2.1.1, ix_nI (by omega)]
  rw [hv] at fr'
  have z8 := z_8 EO g2
  have hz8 := hs.z8
  have hzz : ix P.z = z := by rw [hz, ix_nI (by omega)]
  have same : ∀ q, q ≠ 5 → q ≠ 11 + 2 * cnt 0 + 1 → q ≠ 11 + 2 * cnt 0 → q ≠ 74 + (4 + cnt 0) → ¬ (87 + 8 * (4 + cnt 0) ≤ q ∧ q < 87 + 8 * (4 + cnt 0) + 8) → (beL E.t E.n P).fr q = P.fr q := fun q n1 n2 n3 n4 n5 => by
    rw [fr', if_neg n1, if_neg n2, if_neg n3]; exact na_1 n4 n5 z8
  refine gp_add G (j0 := 0) (by omega) kp X hE ha ⟨same 0 (by omega) (by omega) (by omega) (by omega) (by omega), same 1 (by omega) (by omega) (by omega) (by omega) (by omega), same 2 (by omega) (by omega) (by omega) (by omega) (by omega), same 3 (by omega) (by omega) (by omega) (by omega) (by omega), same 4 (by omega) (by omega) (by omega) (by omega) (by omega), same 8 (by omega) (by omega) (by omega) (by omega) (by omega), same 9 (by omega) (by omega) (by omega) (by omega) (by omega)⟩
    (fun i hi => same _ (by omega) (by omega) (by omega) (by omega) (by omega)) ⟨?_, ?_, ?_, ?_⟩ (fun j i q hj hi hu => ?_) ?_ (fun l hl1 hl2 => ?_)
  · rw [fr', if_pos rfl, I.2.1.1, upN_t]; exact nI_add _ 1
  · rw [same 6 (by omega) (by omega) (by omega) (by omega) (by omega), upN_f (by omega)]; exact I.2.1.2.1
  · rw [same 7 (by omega) (by omega) (by omega) (by omega) (by omega), upN_f (by omega)]; exact I.2.1.2.2.1
  · rw [same 10 (by omega) (by omega) (by omega) (by omega) (by omega), upN_f (by omega)]; exact I.2.1.2.2.2.1
  · unfold uE at hu
    rcases j4 hj with rfl | rfl | rfl | rfl <;> exact same q (by omega) (by omega) (by omega) (by omega) (by omega)
  · refine ⟨s, ?_, z, le, hs, ?_, fun q hq => ?_⟩
    · rw [fr', if_neg (by omega), if_neg (by omega), if_pos rfl, fr', if_neg (by omega), if_pos rfl, ← h1, ← h2]; exact hc
    · rw [fr', if_neg (by omega), if_neg (by omega), if_neg (by omega), na_2]; exact hz
    · rw [fr', if_neg (by omega), if_neg (by omega), if_neg (by omega), na_3 (by omega) (by omega) z8]; exact (hl q hq).symm
  · rw [upN_f (by omega)] at hl1
    rw [same _ (by omega) (by omega) (by omega) (by omega) (by omega), same _ (by omega) (by omega) (by omega) (by omega) (by omega)]
    exact G.2.2.2.2.2.2.2 l hl1 hl2
theorem fin_lo (G : GP Δ E c P.fr EL cp cnt el) (I : LIq (cnt 0) (cnt 1) (cnt 2) (cnt 3) np nf 13 P.fr) (EO : eOk E.n P) (q1 : S1 = nnP E.t E.n (8 + ix (P.fr 7)) P) (q2 : S2 = stA E.t E.n 24 (35 + 4 * ix (P.fr 7)) 0 30 S1) (q3 : S3 = stA E.t E.n 16 (35 + 4 * ix (P.fr 7) + 1) 0 9 S2) (h : S3.f = 0) (h4 : cnt 2 < 5)
    (kp : ∀ b x, c b = some x → ¬ (b = E.rg + 2 + 2 ∨ (b = EL 2 ∧ cp 2 = 10)) → c2 b = some x) (X : LX Δ c2 (E.rg + 2 + 2) E' 10 (cnt 2 + 1) (fun i => if i = cnt 2 then a else el 2 i))
    (hE : (E' = EL 2 ∧ cp 2 = 10) ∨ ((∀ b x, c b = some x → b ≠ E') ∧ E.rg ≤ E')) (ha : (∀ b x, c b = some x → b ≠ a) ∧ E.rg ≤ a)
    (hc : c2 a = some (11, 0, ob [.ref s, .int r1, .int r2, .int (-2), .int 0])) (hs : ST Δ c2 s z le) (hz : P.z = nI z) (hl : ∀ j, j < z → le j = P.le j) (h1 : r1 = afV E.t E.n 24 0 30 S1) (h2 : r2 = afV E.t E.n 16 0 9 S2) : GP Δ E c2 (loL E.t E.n P).fr (upN EL 2 E') (upN cp 2 10) (upN cnt 2 (cnt 2 + 1)) (upE el 2 (cnt 2) a) := by
  obtain ⟨g1, g2, e0, fr'⟩ := lo_fr q1 q2 q3 h
  have b4 := I.1
  have hv : ix (P.fr 7) = cnt 2 := by rw [I.2.1.2.2.1, ix_nI (by omega)]
  rw [hv] at fr'
  have z8 := z_8 EO g2
  have hz8 := hs.z8
  have hzz : ix P.z = z := by rw [hz, ix_nI (by omega)]
  have same : ∀ q, q ≠ 7 → q ≠ 35 + 4 * cnt 2 + 1 → q ≠ 35 + 4 * cnt 2 → q ≠ 74 + (8 + cnt 2) → ¬ (87 + 8 * (8 + cnt 2) ≤ q ∧ q < 87 + 8 * (8 + cnt 2) + 8) → (loL E.t E.n P).fr q = P.fr q := fun q n1 n2 n3 n4 n5 => by
    rw [fr', if_neg n1, if_neg n2, if_neg n3]; exact na_1 n4 n5 z8
  obtain ⟨k1, k2⟩ := G.2.2.2.2.2.2.2 (cnt 2) (Nat.le_refl _) h4
  refine gp_add G (j0 := 2) (by omega) kp X hE ha ⟨same 0 (by omega) (by omega) (by omega) (by omega) (by omega), same 1 (by omega) (by omega) (by omega) (by omega) (by omega), same 2 (by omega) (by omega) (by omega) (by omega) (by omega), same 3 (by omega) (by omega) (by omega) (by omega) (by omega), same 4 (by omega) (by omega) (by omega) (by omega) (by omega), same 8 (by omega) (by omega) (by omega) (by omega) (by omega), same 9 (by omega) (by omega) (by omega) (by omega) (by omega)⟩
    (fun i hi => same _ (by omega) (by omega) (by omega) (by omega) (by omega)) ⟨?_, ?_, ?_, ?_⟩ (fun j i q hj hi hu => ?_) ?_ (fun l hl1 hl2 => ?_)
  · rw [same 5 (by omega) (by omega) (by omega) (by omega) (by omega), upN_f (by omega)]; exact I.2.1.1
  · rw [same 6 (by omega) (by omega) (by omega) (by omega) (by omega), upN_f (by omega)]; exact I.2.1.2.1
  · rw [fr', if_pos rfl, I.2.1.2.2.1, upN_t]; exact nI_add _ 1
  · rw [same 10 (by omega) (by omega) (by omega) (by omega) (by omega), upN_f (by omega)]; exact I.2.1.2.2.2.1
  · unfold uE at hu
    rcases j4 hj with rfl | rfl | rfl | rfl <;> exact same q (by omega) (by omega) (by omega) (by omega) (by omega)
  · refine ⟨s, ?_, z, le, hs, ?_, fun q hq => ?_⟩
    · rw [fr', if_neg (by omega), if_neg (by omega), if_pos rfl, fr', if_neg (by omega), if_pos rfl, same (35 + 4 * cnt 2 + 2) (by omega) (by omega) (by omega) (by omega) (by omega), same (35 + 4 * cnt 2 + 3) (by omega) (by omega) (by omega) (by omega) (by omega), k1, k2, ← h1, ← h2]; exact hc
    · rw [fr', if_neg (by omega), if_neg (by omega), if_neg (by omega), na_2]; exact hz
    · rw [fr', if_neg (by omega), if_neg (by omega), if_neg (by omega), na_3 (by omega) (by omega) z8]; exact (hl q hq).symm
  · rw [upN_t] at hl1
    rw [same _ (by omega) (by omega) (by omega) (by omega) (by omega), same _ (by omega) (by omega) (by omega) (by omega) (by omega)]
    exact G.2.2.2.2.2.2.2 l (by omega) hl2
theorem fin_ho (G : GP Δ E c P.fr EL cp cnt el) (I : LIq (cnt 0) (cnt 1) (cnt 2) (cnt 3) np nf 13 P.fr) (EO : eOk E.n P) (q1 : S1 = nnP E.t E.n (ix (P.fr 6)) P) (q2 : S2 = sfP (19 + 4 * ix (P.fr 6)) (hkV S1) (paP E.t E.n (hkW S1))) (q3 : S3 = stS E.t E.n (19 + 4 * ix (P.fr 6) + 1) S2) (q4 : S4 = stA E.t E.n 21 (19 + 4 * ix (P.fr 6) + 2) 0 50 S3) (q5 : S5 = stA E.t E.n 19 (19 + 4 * ix (P.fr 6) + 3) 1 6 S4) (h : S5.f = 0) (h4 : cnt 1 < 4)
    (kp : ∀ b x, c b = some x → ¬ (b = E.rg + 2 + 1 ∨ (b = EL 1 ∧ cp 1 = 10)) → c2 b = some x) (X : LX Δ c2 (E.rg + 2 + 1) E' 10 (cnt 1 + 1) (fun i => if i = cnt 1 then a else el 1 i))
    (hE : (E' = EL 1 ∧ cp 1 = 10) ∨ ((∀ b x, c b = some x → b ≠ E') ∧ E.rg ≤ E')) (ha : (∀ b x, c b = some x → b ≠ a) ∧ E.rg ≤ a) (hkd : kd ≤ 3) (hkv : hkV S1 = nI kd)
    (hc : c2 a = some (7 + kd, 0, ob [.ref s, .int r1, .int r2, .int r3])) (hs : ST Δ c2 s z le) (hz : P.z = nI z) (hl : ∀ j, j < z → le j = P.le j) (h1 : r1 = siV S2) (h2 : r2 = afV E.t E.n 21 0 50 S3) (h3 : r3 = afV E.t E.n 19 1 6 S4) : GP Δ E c2 (hoL E.t E.n P).fr (upN EL 1 E') (upN cp 1 10) (upN cnt 1 (cnt 1 + 1)) (upE el 1 (cnt 1) a) := by
  obtain ⟨g1, g2, e0, fr'⟩ := ho_fr q1 q2 q3 q4 q5 h
  have b4 := I.1
  have hv : ix (P.fr 6) = cnt 1 := by rw [I.2.1.2.1, ix_nI (by omega)]
  rw [hv] at fr'
  have z8 := z_8 EO g2
  have hz8 := hs.z8
  have hzz : ix P.z = z := by rw [hz, ix_nI (by omega)]
  have same : ∀ q, q ≠ 6 → ¬ (19 + 4 * cnt 1 ≤ q ∧ q < 19 + 4 * cnt 1 + 4) → q ≠ 74 + cnt 1 → ¬ (87 + 8 * cnt 1 ≤ q ∧ q < 87 + 8 * cnt 1 + 8) → (hoL E.t E.n P).fr q = P.fr q := fun q n1 n2 n4 n5 => by
    rw [fr', if_neg n1, if_neg (by omega), if_neg (by omega), if_neg (by omega), if_neg (by omega)]; exact na_1 n4 n5 z8
  refine gp_add G (j0 := 1) (by omega) kp X hE ha ⟨same 0 (by omega) (by omega) (by omega) (by omega), same 1 (by omega) (by omega) (by omega) (by omega), same 2 (by omega) (by omega) (by omega) (by omega), same 3 (by omega) (by omega) (by omega) (by omega), same 4 (by omega) (by omega) (by omega) (by omega), same 8 (by omega) (by omega) (by omega) (by omega), same 9 (by omega) (by omega) (by omega) (by omega)⟩
    (fun i hi => same _ (by omega) (by omega) (by omega) (by omega)) ⟨?_, ?_, ?_, ?_⟩ (fun j i q hj hi hu => ?_) ?_ (fun l hl1 hl2 => ?_)
  · rw [same 5 (by omega) (by omega) (by omega) (by omega), upN_f (by omega)]; exact I.2.1.1
  · rw [fr', if_pos rfl, I.2.1.2.1, upN_t]; exact nI_add _ 1
  · rw [same 7 (by omega) (by omega) (by omega) (by omega), upN_f (by omega)]; exact I.2.1.2.2.1
  · rw [same 10 (by omega) (by omega) (by omega) (by omega), upN_f (by omega)]; exact I.2.1.2.2.2.1
  · unfold uE at hu
    rcases j4 hj with rfl | rfl | rfl | rfl <;> exact same q (by omega) (by omega) (by omega) (by omega)
  · refine ⟨kd, s, hkd, ?_, ?_, z, le, hs, ?_, fun q hq => ?_⟩
    · rw [fr', if_neg (by omega), if_neg (by omega), if_neg (by omega), if_neg (by omega), if_pos rfl]; exact hkv
    · rw [fr' (19 + 4 * cnt 1 + 1), if_neg (by omega), if_neg (by omega), if_neg (by omega), if_pos rfl, fr' (19 + 4 * cnt 1 + 2), if_neg (by omega), if_neg (by omega), if_pos rfl, fr' (19 + 4 * cnt 1 + 3), if_neg (by omega), if_pos rfl, ← h1, ← h2, ← h3]; exact hc
    · rw [fr', if_neg (by omega), if_neg (by omega), if_neg (by omega), if_neg (by omega), if_neg (by omega), na_2]; exact hz
    · rw [fr', if_neg (by omega), if_neg (by omega), if_neg (by omega), if_neg (by omega), if_neg (by omega), na_3 (by omega) (by omega) z8]; exact (hl q hq).symm
  · rw [upN_f (by omega)] at hl1
    rw [same _ (by omega) (by omega) (by omega) (by omega), same _ (by omega) (by omega) (by omega) (by omega)]
    exact G.2.2.2.2.2.2.2 l hl1 hl2
end FIN
