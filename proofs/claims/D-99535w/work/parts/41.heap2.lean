/-! objects by their fields' values; texts; rows with a value named -/
def ob (l : List Value) : Nat → Value := fun k => l.getD k .null
theorem ob_u (l : List Value) (k : Nat) (x : Value) (hk : k < l.length) : updV (ob l) k x = ob (l.set k x) := by
  funext j
  unfold updV ob
  by_cases h : j = k
  · subst h
    simp [List.getD, hk]
  · rw [if_neg h]
    simp only [List.getD]
    rw [List.getElem?_set_ne (fun q => h q.symm)]
section GH
variable {Δ : Cx} {d : Nat} {μ : Mi} {pc : Nat} {lv : List (Nat × Value)} {st : List Value} {h : Hp} {Q : Option Value → Hp → Prop}
theorem gh_get {tag n k idx a : Nat} {f : Nat → Value} {x : Value} {ref nm ds : String} {fin : Bool} {ty : FieldType} (F : fOk tag k ref nm ds fin ty) (hl : Cond.fieldLink μ.1 idx ref nm ds ∈ lw_all) (ha : ce Δ h a = some (tag, n, f)) (dg : decode μ.2.2.1 pc = .ok (.getfield idx, 3)) (hx : f k = x) (kk : wp Δ d μ (pc + 3) lv (x :: st) h Q) : wp Δ d μ pc lv (.ref a :: st) h Q := by
  subst hx
  exact g_getf F hl ha dg kk
theorem gh_bald {n a j : Nat} {f : Nat → Value} {i : Int32} {x : Value} (ha : ce Δ h a = some (102, n, f)) (hi : i = nI j) (hj : j < n) (h31 : n < 2 ^ 31) (hx : f j = x) (dg : decode μ.2.2.1 pc = .ok (.baload, 1)) (kk : wp Δ d μ (pc + 1) lv (x :: st) h Q) : wp Δ d μ pc lv (.int i :: .ref a :: st) h Q := by
  subst hi; subst hx
  refine g_bald ha (vp_in_nI hj h31) dg ?_
  rw [nI_clamp (by omega)]
  exact kk
theorem gh_iald {n a j : Nat} {f : Nat → Value} {i : Int32} {x : Value} (ha : ce Δ h a = some (100, n, f)) (hi : i = nI j) (hj : j < n) (h31 : n < 2 ^ 31) (hx : f j = x) (dg : decode μ.2.2.1 pc = .ok (.iaload, 1)) (kk : wp Δ d μ (pc + 1) lv (x :: st) h Q) : wp Δ d μ pc lv (.int i :: .ref a :: st) h Q := by
  subst hi; subst hx
  refine g_iald ha (vp_in_nI hj h31) dg ?_
  rw [nI_clamp (by omega)]
  exact kk
theorem gh_aald {n a j : Nat} {f : Nat → Value} {i : Int32} {x : Value} (ha : ce Δ h a = some (103, n, f)) (hi : i = nI j) (hj : j < n) (h31 : n < 2 ^ 31) (hx : f j = x) (dg : decode μ.2.2.1 pc = .ok (.aaload, 1)) (kk : wp Δ d μ (pc + 1) lv (x :: st) h Q) : wp Δ d μ pc lv (.int i :: .ref a :: st) h Q := by
  subst hi; subst hx
  refine g_aald ha (vp_in_nI hj h31) dg ?_
  rw [nI_clamp (by omega)]
  exact kk
/-- a static that is null or some object -/
theorem g_getsq {idx : Nat} {C nm ds : String} (hZ : okCx Δ → va_Zq C nm ds (fun q => n0 Δ ≤ q) (cS Δ) (cS Δ).heap) (hl : Cond.fieldLink μ.1 idx C nm ds ∈ lw_all) (dg : decode μ.2.2.1 pc = .ok (.getstatic idx, 3)) (kn : wp Δ d μ (pc + 3) lv (.null :: st) h Q) (kr : ∀ t : Nat, wp Δ d μ (pc + 3) lv (.ref t :: st) h Q) : wp Δ d μ pc lv st h Q := by
  by_cases hk : okCx Δ
  · rcases hZ hk with z | ⟨t, z⟩
    · exact g_gets (fun _ => z) hl dg kn
    · exact g_gets (fun _ => z) hl dg (kr t)
  · exact g_gets (fun q => absurd q hk) hl dg kn
end GH
/-- the text at a: n letters f -/
def Tx (Δ : Cx) (h : Hp) (a n : Nat) (f : Nat → Int32) : Prop := ∃ (b : Nat) (hs z : Int32), ce Δ h a = some (16, 0, ob [.ref b, .int 0, .int hs, .int z]) ∧ ce Δ h b = some (102, n, fun j => .int (f j)) ∧ n < 2 ^ 31 ∧ ∀ j, j < n → ∃ c : Nat, c < 128 ∧ f j = nI c
theorem ch_id {c : Nat} (h : c < 128) : ((nI c &&& 255).toUInt32 % 65536).toInt32 = nI c := by
  have : ∀ c : Fin 128, ((nI c.val &&& 255).toUInt32 % 65536).toInt32 = nI c.val := by decide +kernel
  exact this ⟨c, h⟩
theorem ch_nar {c : Nat} (h : c < 128) : narrow .char (.int (nI c)) = .int (nI c) := by
  have : ∀ c : Fin 128, narrow .char (.int (nI c.val)) = .int (nI c.val) := by decide +kernel
  exact this ⟨c, h⟩
theorem shr_0 (x : Int32) : x >>> ((0 : Int32) &&& 31) = x := by
  have : (0 : Int32) &&& 31 = 0 := by decide
  rw [this]
  exact Int32.shiftRight_zero
