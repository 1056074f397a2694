/-! what was seen: the line's laws -/
theorem sa_un {u v : Nat} {Q : Pk} (hu : u < 100) (hv : v < 100) : unP (decide (nI u = nI v)) Q = saW u v Q := by
  unfold unP saW
  by_cases c : Q.f = 0
  · rw [if_pos c, if_pos c]
    by_cases e : u = v
    · rw [if_pos (decide_eq_true (by rw [e])), if_pos e]
    · rw [if_neg (bf (decide_eq_false (fun q => e ((nI_eq (by omega) (by omega)).mp q)))), if_neg e]
  · rw [if_neg c, if_neg c]
theorem saE_f {v h g k : Nat} {Q : Pk} : (saE v h g k Q).f = Q.f := by
  unfold saE
  split <;> rfl
section SAX
variable {Δ : Cx} {E : Ev} {L : Nat} {h0 : Hp} {c c2 : Nat → Option Cel} {P Q : Pk} {EL cp cnt : Nat → Nat} {el : Nat → Nat → Nat} {np nf a E' v h g k : Nat}
theorem px_saE (X : PX Δ E L h0 c Q) : PX Δ E L h0 c (saE v h g k Q) := by
  unfold saE
  split
  · exact px_ic (px_sf (px_sf (px_sf X)))
  · exact X
theorem fin_sa (G : GP Δ E c P.fr EL cp cnt el) (I : LIq (cnt 0) (cnt 1) (cnt 2) (cnt 3) np nf 13 P.fr) (hQ : Q.fr = P.fr) (hf : Q.f = 0) (h4 : cnt 3 < 5)
    (kp : ∀ b x, c b = some x → ¬ (b = E.rg + 2 + 3 ∨ (b = EL 3 ∧ cp 3 = 10)) → c2 b = some x) (X : LX Δ c2 (E.rg + 2 + 3) E' 10 (cnt 3 + 1) (fun i => if i = cnt 3 then a else el 3 i))
    (hE : (E' = EL 3 ∧ cp 3 = 10) ∨ ((∀ b x, c b = some x → b ≠ E') ∧ E.rg ≤ E')) (ha : (∀ b x, c b = some x → b ≠ a) ∧ E.rg ≤ a)
    (hc : c2 a = some (12, 0, ob [.int (nI h), .int (nI g), .int (nI k)])) : GP Δ E c2 (saE (cnt 3) h g k Q).fr (upN EL 3 E') (upN cp 3 10) (upN cnt 3 (cnt 3 + 1)) (upE el 3 (cnt 3) a) := by
  have b4 := I.1
  have fr' : ∀ q, (saE (cnt 3) h g k Q).fr q = if q = 10 then P.fr 10 + 1 else if q = 59 + 3 * cnt 3 + 2 then nI k else if q = 59 + 3 * cnt 3 + 1 then nI g else if q = 59 + 3 * cnt 3 then nI h else P.fr q := fun q => by
    unfold saE
    rw [if_pos hf]
    show (if q = 10 then (if 10 = 59 + 3 * cnt 3 + 2 then nI k else if 10 = 59 + 3 * cnt 3 + 1 then nI g else if 10 = 59 + 3 * cnt 3 then nI h else Q.fr 10) + 1 else (if q = 59 + 3 * cnt 3 + 2 then nI k else if q = 59 + 3 * cnt 3 + 1 then nI g else if q = 59 + 3 * cnt 3 then nI h else Q.fr q)) = _
    rw [hQ, if_neg (show ¬ 10 = 59 + 3 * cnt 3 + 2 by omega), if_neg (show ¬ 10 = 59 + 3 * cnt 3 + 1 by omega), if_neg (show ¬ 10 = 59 + 3 * cnt 3 by omega)]
  have same : ∀ q, q ≠ 10 → ¬ (59 + 3 * cnt 3 ≤ q ∧ q < 59 + 3 * cnt 3 + 3) → (saE (cnt 3) h g k Q).fr q = P.fr q := fun q n1 n2 => by
    rw [fr', if_neg n1, if_neg (by omega), if_neg (by omega), if_neg (by omega)]
  refine gp_add G (j0 := 3) (by omega) kp X hE ha ⟨same 0 (by omega) (by omega), same 1 (by omega) (by omega), same 2 (by omega) (by omega), same 3 (by omega) (by omega), same 4 (by omega) (by omega), same 8 (by omega) (by omega), same 9 (by omega) (by omega)⟩
    (fun i hi => same _ (by omega) (by omega)) ⟨?_, ?_, ?_, ?_⟩ (fun j i q hj hi hu => ?_) ?_ (fun l hl1 hl2 => ?_)
  · rw [same 5 (by omega) (by omega), upN_f (by omega)]; exact I.2.1.1
  · rw [same 6 (by omega) (by omega), upN_f (by omega)]; exact I.2.1.2.1
  · rw [same 7 (by omega) (by omega), upN_f (by omega)]; exact I.2.1.2.2.1
  · rw [fr', if_pos rfl, I.2.1.2.2.2.1, upN_t]; exact nI_add _ 1
  · unfold uE at hu
    rcases j4 hj with rfl | rfl | rfl | rfl <;> exact same q (by omega) (by omega)
  · show c2 a = some (12, 0, ob [.int ((saE (cnt 3) h g k Q).fr (59 + 3 * cnt 3)), .int ((saE (cnt 3) h g k Q).fr (59 + 3 * cnt 3 + 1)), .int ((saE (cnt 3) h g k Q).fr (59 + 3 * cnt 3 + 2))])
    rw [fr' (59 + 3 * cnt 3), if_neg (by omega), if_neg (by omega), if_neg (by omega), if_pos rfl, fr' (59 + 3 * cnt 3 + 1), if_neg (by omega), if_neg (by omega), if_pos rfl, fr' (59 + 3 * cnt 3 + 2), if_neg (by omega), if_pos rfl]
    exact hc
  · rw [upN_f (by omega)] at hl1
    rw [same _ (by omega) (by omega), same _ (by omega) (by omega)]
    exact G.2.2.2.2.2.2.2 l hl1 hl2
end SAX
