/-! rows that write, over cells -/
section GPU
variable {Δ : Cx} {d : Nat} {μ : Mi} {pc idx : Nat} {lv : List (Nat × Value)} {st : List Value} {h : Hp} {Q : Option Value → Hp → Prop}
theorem gh_put {tag n k a : Nat} {f f2 : Nat → Value} {x : Value} {ref nm ds : String} {ty : FieldType} (F : fOk tag k ref nm ds false ty) (hl : Cond.fieldLink μ.1 idx ref nm ds ∈ lw_all) (ha : ce Δ h a = some (tag, n, f)) (hn0 : n0 Δ ≤ a) (dg : decode μ.2.2.1 pc = .ok (.putfield idx, 3)) (hnar : narrow ty x = x) (hfit : fits ty x = true) (hu : updV f k x = f2) (kk : wp Δ d μ (pc + 3) lv st (hput h a (tag, n, f2)) Q) : wp Δ d μ pc lv (x :: .ref a :: st) h Q := by
  subst hu
  exact g_putf F hl ha hn0 hnar hfit dg kk
theorem gh_putS {tag n k a : Nat} {f f2 : Nat → Value} {x : Value} {ref ref' nm ds : String} {ty : FieldType} (F : fOk tag k ref nm ds false ty) (hs : Cond.sameField ref' ref nm ds ∈ lw_all) (hl : Cond.fieldLink μ.1 idx ref' nm ds ∈ lw_all) (ha : ce Δ h a = some (tag, n, f)) (hn0 : n0 Δ ≤ a) (dg : decode μ.2.2.1 pc = .ok (.putfield idx, 3)) (hnar : narrow ty x = x) (hfit : fits ty x = true) (hu : updV f k x = f2) (kk : wp Δ d μ (pc + 3) lv st (hput h a (tag, n, f2)) Q) : wp Δ d μ pc lv (x :: .ref a :: st) h Q := by
  subst hu
  exact g_putfS F hs hl ha hn0 hnar hfit dg kk
theorem gh_putF {tag n k a : Nat} {f f2 : Nat → Value} {x : Value} {ref nm ds : String} {ty : FieldType} (F : fOk tag k ref nm ds true ty) (hl : Cond.fieldLink μ.1 idx ref nm ds ∈ lw_all) (ha : ce Δ h a = some (tag, n, f)) (hn0 : n0 Δ ≤ a) (hown : ref = μ.1) (hini : μ.2.1.name = "<init>") (dg : decode μ.2.2.1 pc = .ok (.putfield idx, 3)) (hnar : narrow ty x = x) (hfit : fits ty x = true) (hu : updV f k x = f2) (kk : wp Δ d μ (pc + 3) lv st (hput h a (tag, n, f2)) Q) : wp Δ d μ pc lv (x :: .ref a :: st) h Q := by
  subst hu
  exact g_putfF F hl hown hini ha hn0 hnar hfit dg kk
theorem gh_aast {n a b tag n' N j : Nat} {f f' : Nat → Value} {i : Int32} {C : String} {T : u_T} (ha : ce Δ h a = some (103, n, f)) (hn0 : n0 Δ ≤ a) (hb : ce Δ h b = some (tag, n', f')) (hc : clz[tag]? = some (C, T, N)) (hw : Cond.castable C "java/lang/Object" ∈ lw_tbl) (hi : i = nI j) (hj : j < n) (h31 : n < 2 ^ 31) (dg : decode μ.2.2.1 pc = .ok (.aastore, 1)) (kk : wp Δ d μ (pc + 1) lv st (hput h a (103, n, updV f j (.ref b))) Q) : wp Δ d μ pc lv (.ref b :: .int i :: .ref a :: st) h Q := by
  subst hi
  refine g_aast ha hn0 hb hc hw (vp_in_nI hj h31) dg ?_
  rw [nI_clamp (by omega)]
  exact kk
theorem gh_aastN {n a j : Nat} {f : Nat → Value} {i : Int32} (ha : ce Δ h a = some (103, n, f)) (hn0 : n0 Δ ≤ a) (hi : i = nI j) (hj : j < n) (h31 : n < 2 ^ 31) (dg : decode μ.2.2.1 pc = .ok (.aastore, 1)) (kk : wp Δ d μ (pc + 1) lv st (hput h a (103, n, updV f j .null)) Q) : wp Δ d μ pc lv (.null :: .int i :: .ref a :: st) h Q := by
  subst hi
  refine g_aastN ha hn0 (vp_in_nI hj h31) dg ?_
  rw [nI_clamp (by omega)]
  exact kk
theorem gw_iast {n a j : Nat} {f : Nat → Value} {i x : Int32} (ha : ce Δ h a = some (100, n, f)) (hn0 : n0 Δ ≤ a) (hi : i = nI j) (hj : j < n) (h31 : n < 2 ^ 31) (dg : decode μ.2.2.1 pc = .ok (.iastore, 1)) (kk : wp Δ d μ (pc + 1) lv st (hput h a (100, n, updV f j (.int x))) Q) : wp Δ d μ pc lv (.int x :: .int i :: .ref a :: st) h Q := by
  subst hi
  refine g_iast ha hn0 (vp_in_nI hj h31) dg ?_
  rw [nI_clamp (by omega)]
  exact kk
theorem gh_bast {n a j : Nat} {f : Nat → Value} {i x : Int32} (ha : ce Δ h a = some (102, n, f)) (hn0 : n0 Δ ≤ a) (hi : i = nI j) (hj : j < n) (h31 : n < 2 ^ 31) (dg : decode μ.2.2.1 pc = .ok (.bastore, 1)) (kk : wp Δ d μ (pc + 1) lv st (hput h a (102, n, updV f j (.int x.toInt8.toInt32))) Q) : wp Δ d μ pc lv (.int x :: .int i :: .ref a :: st) h Q := by
  subst hi
  refine g_bast ha hn0 (vp_in_nI hj h31) dg ?_
  rw [nI_clamp (by omega)]
  exact kk
theorem g_gtEM {C nm ds : String} (he : C = "java/util/ArrayList" ∧ nm = "DEFAULTCAPACITY_EMPTY_ELEMENTDATA" ∧ ds = "[Ljava/lang/Object;") (hl : Cond.fieldLink μ.1 idx C nm ds ∈ lw_all) (dg : decode μ.2.2.1 pc = .ok (.getstatic idx, 3)) (kk : wp Δ d μ (pc + 3) lv (.ref (cT Δ 99) :: st) h Q) : wp Δ d μ pc lv st h Q := by
  obtain ⟨rfl, rfl, rfl⟩ := he
  exact g_gets (fun q => q.2.2.2.2.2.1.1) hl dg kk
end GPU
theorem df_13 : ∀ k, k < 5 → defaultValue (tyX14 k) = ob [.null, .null, .null, .int 0, .int 0] k := by
  intro k hk
  rcases k with _ | _ | _ | _ | _ | k <;> first | rfl | omega
theorem df_14 : ∀ k, k < 3 → defaultValue (tyJ2 k) = ob [.int 0, .null, .int 0] k := by
  intro k hk
  rcases k with _ | _ | _ | k <;> first | rfl | omega
