/-! MORE ROWS: copies of arrays, new arrays of objects, objects compared; what a call of an inherited method asks -/
theorem okC.copied {Δ : Cx} {a t m0 m1 SP DP N : Nat} {f g : Nat → Value} {cs cd : Cell} {H1 : Heap} (hlt : n0 Δ ≤ a) (ht : t < 4) (hn31 : m1 < 2 ^ 31) (hvm : cd.vm = .none) (har : (cS Δ).isArrayOf cd (tyA t)) (hcl : cd.cls = cA Δ t) (hz : cd.slots.size = m1) (hg : ∀ j, j < m1 → cd.slots[j]? = some (g j)) (hf : ∀ j, j < m0 → cs.slots[j]? = some (f j)) (b1 : SP + N ≤ m0) (b2 : DP + N ≤ m1) (e : H1[a]? = some (cd.storeRun DP (cs.stretch SP N))) : okC Δ a (100 + t, m1, va_cpy f g SP DP N) H1 := by
  obtain ⟨e1, e2, e3, -, -⟩ := Cell.storeRun_facts cd DP (cs.stretch SP N)
  have el : (cs.stretch SP N).length = N := by unfold Cell.stretch; rw [List.length_map, List.length_range]
  refine ⟨_, e, ?_, ?_, fun _ => e2.trans hvm, Or.inr ⟨t, rfl, ht, hn31, ?_, fun _ => e1.trans hcl, e3.trans hz, ?_⟩⟩
  · rw [e2, hvm]; exact fun q => by cases q
  · intro k
    rw [e2, hvm]; exact fun q => by cases q
  · obtain ⟨z1, z2⟩ := har
    exact ⟨by rw [e2]; exact z1, by rw [e1]; exact z2⟩
  · intro j hj
    have hj : j < m1 := hj
    show (cd.storeRun DP (cs.stretch SP N)).slots[j]? = some (va_cpy f g SP DP N j)
    rw [Cell.storeRun_get cd DP (cs.stretch SP N) j (by rw [el, hz]; exact b2), el]
    unfold va_cpy
    by_cases c : DP ≤ j ∧ j < DP + N
    · rw [if_pos c, if_pos c]
      unfold Cell.stretch
      rw [List.getElem?_map, List.getElem?_range (by omega)]
      show some (cs.slots.getD (SP + (j - DP)) .null) = _
      rw [Array.getD_eq_getD_getElem?, hf _ (by omega)]
      rfl
    · rw [if_neg c, if_neg c]
      exact hg j hj
theorem okC.arrF {Δ : Cx} {a t n : Nat} {g : Nat → Value} {H1 : Heap} (ht : t < 4) (hn31 : n < 2 ^ 31) (har : ArrOfT (cS Δ) (cA Δ t) (tyA t)) (e : H1[a]? = some (arrV (cA Δ t) n g)) : okC Δ a (100 + t, n, g) H1 :=
  ⟨_, e, fun q => (by cases q), fun k q => (by cases q), fun _ => rfl, Or.inr ⟨t, rfl, ht, hn31, har _ _, fun _ => rfl, arrV_size _ _ _, fun j hj => arrV_read _ _ hj⟩⟩
theorem nI_int {n : Nat} (h : n < 2 ^ 31) : (nI n).toInt = (n : Int) := by
  have h1 := nI_clamp (n := n) (by omega)
  have h2 : ¬ nI n < 0 := nI_pos (by omega)
  have hz0 : (0 : Int) ≤ (nI n).toInt := by
    have := Int32.not_lt.mp h2
    simpa using Int32.le_iff_toInt_le.mp this
  have h3 : (nI n).toInt.toNat = n := h1
  omega
theorem lw_U {own : String} {idx : Nat} {C owner : String} {x y : MethodName} {b : ByteArray} {L : Nat} {r : Option FieldType} (h1 : Cond.methodLink own idx x ∈ lw_all) (h2 : Cond.sameMethod x.cls owner x.name x.desc ∈ lw_all) (h3 : Cond.selects C x y ∈ lw_all) (h4 : Cond.instanceMethod y ∈ lw_all) (h5 : Cond.initialized y.cls ∈ lw_all) (h6 : Cond.code y b L r ∈ lw_all) : GoodIn lw_all (va_wsU own idx C owner x y (ws_ y b L r)) := by
  refine lw_app ?_ (lw_meth h6)
  intro w hw
  simp only [List.mem_cons, List.not_mem_nil, or_false] at hw
  rcases hw with e | e | e | e | e
  · rw [e]; exact h1
  · rw [e]; exact h2
  · rw [e]; exact h3
  · rw [e]; exact h4
  · rw [e]; exact h5
theorem lw_O {own : String} {idx : Nat} {C owner : String} {x y : MethodName} {b : ByteArray} {L : Nat} {r : Option FieldType} (h1 : Cond.methodLink own idx x ∈ lw_all) (h2 : Cond.sameMethod x.cls owner x.name x.desc ∈ lw_all) (h2b : Cond.instanceMethod ⟨owner, x.name, x.desc⟩ ∈ lw_all) (h3 : Cond.selects C x y ∈ lw_all) (h4 : Cond.instanceMethod y ∈ lw_all) (h5 : Cond.initialized y.cls ∈ lw_all) (h6 : Cond.code y b L r ∈ lw_all) : GoodIn lw_all (va_wsO own idx C owner x y (ws_ y b L r)) := by
  refine lw_app ?_ (lw_meth h6)
  intro w hw
  simp only [List.mem_cons, List.not_mem_nil, or_false] at hw
  rcases hw with e | e | e | e | e | e
  · rw [e]; exact h1
  · rw [e]; exact h2
  · rw [e]; exact h2b
  · rw [e]; exact h3
  · rw [e]; exact h4
  · rw [e]; exact h5
theorem lw_SU {own : String} {idx : Nat} {y : MethodName} {b : ByteArray} {L : Nat} {r : Option FieldType} (h1 : Cond.methodLink own idx y ∈ lw_all) (h2 : Cond.sameMethod y.cls y.cls y.name y.desc ∈ lw_all) (h3 : Cond.superclass own y.cls ∈ lw_all) (h4 : Cond.instanceMethod y ∈ lw_all) (h5 : Cond.initialized y.cls ∈ lw_all) (h6 : Cond.code y b L r ∈ lw_all) : GoodIn lw_all (va_wsSU own idx y (ws_ y b L r)) := by
  refine lw_app ?_ (lw_meth h6)
  intro w hw
  simp only [List.mem_cons, List.not_mem_nil, or_false] at hw
  rcases hw with e | e | e | e | e
  · rw [e]; exact h1
  · rw [e]; exact h2
  · rw [e]; exact h3
  · rw [e]; exact h4
  · rw [e]; exact h5
section GA
variable {Δ : Cx} {d : Nat} {μ : Mi} {pc : Nat} {lv lv' : List (Nat × Value)} {st : List Value} {h : Hp} {Q : Option Value → Hp → Prop}
theorem g_acmp_eq {x y : Option Nat} {off : Int} {tgt : Nat} (dg : decode μ.2.2.1 pc = .ok (.if_acmp .eq off, 3)) (ht : (pc : Int) + off = (tgt : Int)) (kt : x = y → wp Δ d μ tgt lv st h Q) (kf : ¬ x = y → wp Δ d μ (pc + 3) lv st h Q) : wp Δ d μ pc lv (va_rf y :: va_rf x :: st) h Q := by
  by_cases hc : x = y
  · exact (kt hc).on fun v h' g p e s m args below meth c H locs cells slots ls mc ms B hR hl hL e1 e2 => lv_acmp_eq B.2.1 B.2.2.1 dg ht (fun _ => g p e s m args below meth c H locs cells slots ls mc ms B hR hl hL e1 e2) (fun q => absurd hc q)
  · exact (kf hc).on fun v h' g p e s m args below meth c H locs cells slots ls mc ms B hR hl hL e1 e2 => lv_acmp_eq B.2.1 B.2.2.1 dg ht (fun q => absurd q hc) (fun _ => g p e s m args below meth c H locs cells slots ls mc ms B hR hl hL e1 e2)
theorem g_acmp_ne {x y : Option Nat} {off : Int} {tgt : Nat} (dg : decode μ.2.2.1 pc = .ok (.if_acmp .ne off, 3)) (ht : (pc : Int) + off = (tgt : Int)) (kt : ¬ x = y → wp Δ d μ tgt lv st h Q) (kf : x = y → wp Δ d μ (pc + 3) lv st h Q) : wp Δ d μ pc lv (va_rf y :: va_rf x :: st) h Q := by
  by_cases hc : x = y
  · exact (kf hc).on fun v h' g p e s m args below meth c H locs cells slots ls mc ms B hR hl hL e1 e2 => lv_acmp_ne B.2.1 B.2.2.1 dg ht (fun q => absurd hc q) (fun _ => g p e s m args below meth c H locs cells slots ls mc ms B hR hl hL e1 e2)
  · exact (kt hc).on fun v h' g p e s m args below meth c H locs cells slots ls mc ms B hR hl hL e1 e2 => lv_acmp_ne B.2.1 B.2.2.1 dg ht (fun _ => g p e s m args below meth c H locs cells slots ls mc ms B hR hl hL e1 e2) (fun q => absurd q hc)
theorem gr_eq {x y : Nat} {off : Int} {tgt : Nat} (dg : decode μ.2.2.1 pc = .ok (.if_acmp .eq off, 3)) (ht : (pc : Int) + off = (tgt : Int)) (kt : x = y → wp Δ d μ tgt lv st h Q) (kf : ¬ x = y → wp Δ d μ (pc + 3) lv st h Q) : wp Δ d μ pc lv (.ref y :: .ref x :: st) h Q := g_acmp_eq (x := some x) (y := some y) dg ht (fun q => kt (Option.some.inj q)) (fun q => kf (fun z => q (congrArg some z)))
theorem gr_ne {x y : Nat} {off : Int} {tgt : Nat} (dg : decode μ.2.2.1 pc = .ok (.if_acmp .ne off, 3)) (ht : (pc : Int) + off = (tgt : Int)) (kt : ¬ x = y → wp Δ d μ tgt lv st h Q) (kf : x = y → wp Δ d μ (pc + 3) lv st h Q) : wp Δ d μ pc lv (.ref y :: .ref x :: st) h Q := g_acmp_ne (x := some x) (y := some y) dg ht (fun q => kt (fun z => q (congrArg some z))) (fun q => kf (Option.some.inj q))
theorem g_anewa {idx N : Nat} {n : Int32} (hcl : Cond.classLink μ.1 idx "java/lang/Object" ∈ lw_all) (hn : n = nI N) (h31 : N < 1000000) (dg : decode μ.2.2.1 pc = .ok (.anewarray idx, 3)) (kk : n0 Δ ≤ h.1 → wp Δ d μ (pc + 3) lv (.ref h.1 :: st) (hnew h N (103, N, fun _ => .null)) Q) : wp Δ d μ pc lv (.int n :: st) h Q := by
  subst hn
  refine wp.know fun hnn => (kk hnn).at (by show h.1 ≤ h.1 + 1; omega) (by show h.2.1 ≤ h.2.1 + N; omega) fun v h' _ w1 w2 g p e s m args below meth c H locs cells slots ls mc ms B hR hl0 hL e1 e2 => ?_
  have w1 : h.1 + 1 ≤ h'.1 := w1
  have w2 : h.2.1 + N ≤ h'.2.1 := w2
  have hN : (nI N).toNatClampNeg = N := nI_clamp (by omega)
  obtain ⟨b0, hb0⟩ := B.1.2.2.2.1
  have hao := va_AO.moved B.2.2.2.2.2.2.2.2.1.alike (va_AO.of (hb0 _ q847))
  refine W.anew B.2.1 B.2.2.1 B.2.2.2.2.2.2.1 (B.2.2.2.2.2.2.2.2.2.1 _ hcl) (va_AO.use hao) rfl dg rfl (nI_pos (by omega)) (by rw [hN]; omega) (by show cells + 1 ≤ mc; omega) (by rw [hN]; show slots + N ≤ ms; omega) fun cA' kA comp f1 f2 f3 f4 => ?_
  rw [hN]
  obtain ⟨a1, a2⟩ := B.1.2.2.1 3 (by decide)
  have hcl : cA' = cA Δ 3 := by
    have a3 := a2.moved B.2.2.2.2.2.2.2.2.1.alike
    obtain ⟨_, _, _, _, _, x⟩ := a3
    exact Option.some.inj (f1.symm.trans x)
  subst hcl
  generalize hH1 : H.push ({ cls := cA Δ 3, slots := Array.replicate N .null, vm := .none } : Cell) = H1
  have z1 : H1.size = h.1 + 1 := by rw [← hH1, Array.size_push, hR.1]
  have u1 : H1[h.1]? = some (arrV (cA Δ 3) N (fun _ => .null)) := by rw [← hH1, ← hR.1, Array.getElem?_push_size, ← arrV_new]
  have o1 : ∀ q : Nat, q < h.1 → H1[q]? = H[q]? := fun q hq => by rw [← hH1, Array.getElem?_push, if_neg (by rw [hR.1]; exact Nat.ne_of_lt hq)]
  rw [hR.1]
  exact g p e s m args below meth c H1 locs (cells + 1) (slots + N) ls mc ms B (hR.new (okC.arrF (t := 3) (by decide) (by omega) a1 u1) z1 o1) hl0 hL (by show cells + 1 + h'.1 = mc + (h.1 + 1); omega) (by show slots + N + h'.2.1 = ms + (h.2.1 + N); omega)
/-- a stretch of an array of ints or bytes copied into another one -/
theorem g_copyP {t idx m0 m1 a0 a SP DP N : Nat} {f g : Nat → Value} {sp dp n : Int32} (hprim : refKind (tyA t) = false) (ha0 : ce Δ h a0 = some (100 + t, m0, f)) (ha : ce Δ h a = some (100 + t, m1, g)) (hn0 : n0 Δ ≤ a) (h1 : sp = nI SP) (h2 : dp = nI DP) (h3 : n = nI N) (b1 : SP + N ≤ m0) (b2 : DP + N ≤ m1)
    (hfit : ∀ i, i < N → ∃ x : Int32, f (SP + i) = .int x ∧ fits (tyA t) (.int x) = true) (hl : Cond.methodLink μ.1 idx arraycopyName ∈ lw_all) (hnat : Cond.native arraycopyName ∈ lw_all) (hstat : Cond.static arraycopyName ∈ lw_all) (hini : Cond.initialized "java/lang/System" ∈ lw_all) (hs : (st.map fun v => v.category).sum ≤ 8) (dg : decode μ.2.2.1 pc = .ok (.invokestatic idx, 3))
    (kk : wp Δ (d + 1) μ (pc + 3) lv st (hput h a (100 + t, m1, va_cpy f g SP DP N)) Q) : wp Δ (d + 1) μ pc lv (.int n :: .int dp :: .ref a :: .int sp :: .ref a0 :: st) h Q := by
  subst h1; subst h2; subst h3
  refine kk.at (Nat.le_refl _) (Nat.le_refl _) fun v h' _ _ _ gg p e s m args below meth c H locs cells slots ls mc ms B hR hl0 hL e1 e2 => ?_
  obtain ⟨cs, s1, s2, s3, s4, s5, s6, s7, s8, s9, s10⟩ := (hR.2.2.1 _ _ ha0).arr
  obtain ⟨cd, q1, q2, q3, q4, q5, q6, q7, q8, q9, q10⟩ := (hR.2.2.1 _ _ ha).arr
  obtain ⟨z0, k0, hk0, cm0, hkk0⟩ := B.ar s7
  obtain ⟨z1, k1, hk1, cm1, hkk1⟩ := B.ar q7
  have hts := B.2.2.2.2.2.2.2.2.2.1
  have cSP : (nI SP).toNatClampNeg = SP := nI_clamp (by omega)
  have cDP : (nI DP).toNatClampNeg = DP := nI_clamp (by omega)
  have cN : (nI N).toNatClampNeg = N := nI_clamp (by omega)
  intro T hT X
  obtain ⟨vm', X', step⟩ := X.arraycopy B.2.1 B.2.2.2.2.2.2.1 (hts _ hl) (hts _ hnat) (hts _ hstat) (hts _ hini) (src := a0) (dst := a) (cs := cs) (cd := cd) (srcPos := nI SP) (destPos := nI DP) (n := nI N) (by rw [hT]; exact s1) (by rw [hT]; exact q1)
    s3 q3 s2 q2 hk0 hk1 hkk0 hkk1 (by simp [hprim]) (nI_pos (by omega)) (nI_pos (by omega)) (nI_pos (by omega))
    (by rw [nI_int (by omega), nI_int (by omega), s9]; omega)
    (by rw [nI_int (by omega), nI_int (by omega), q9]; omega)
    (fun vm₁ _ i hi => by
      rw [cN] at hi
      obtain ⟨x, x1, x2⟩ := hfit i hi
      have e : cs.slots.getD ((nI SP).toNatClampNeg + i) .null = .int x := by
        rw [cSP, Array.getD_eq_getD_getElem?, s10 _ (by omega), x1]
        rfl
      refine ⟨?_, ?_⟩
      · rw [e]
        exact x2
      · rw [e]
        exact trivial)
    (g := F0 m pc ls (.int (nI N) :: .int (nI DP) :: .ref a :: .int (nI SP) :: .ref a0 :: st)) rfl (by rw [B.2.2.2.2.2.1]; exact hl0.1) (rest := st) rfl (by rw [B.2.2.1]; exact dg) (by show 1 ≤ d + 1; omega) (by show 2 * 0 + _ + _ ≤ 64 * (d + 1) + 24; have hw : nativeFrameWords "java/lang/System" "arraycopy" 5 + 11 ≤ 60 := (by decide); omega)
  have ec : copied cs cd (nI SP) (nI DP) (nI N) = cd.storeRun DP (cs.stretch SP N) := by
    unfold copied
    rw [cSP, cDP, cN]
  rw [ec] at X' step
  have hla : a < H.size := (Array.getElem?_eq_some_iff.mp q1).1
  have hheap : ((T.setVm vm').setCell a (cd.storeRun DP (cs.stretch SP N))).heap = H.setIfInBounds a (cd.storeRun DP (cs.stretch SP N)) := by rw [← hT]; rfl
  have oq : ∀ q : Nat, q ≠ a → (H.setIfInBounds a (cd.storeRun DP (cs.stretch SP N)))[q]? = H[q]? := fun q hq => by simp [Array.getElem?_setIfInBounds, Ne.symm hq]
  obtain ⟨t2, a1, b3⟩ := gg p e s m args below meth c _ _ cells slots ls mc ms B (hR.put (ce_lt ha) hn0 (okC.copied hn0 q5 q6 (q4 hn0) q7 (q8 hn0) q9 q10 s10 b1 b2 (show (H.setIfInBounds a _)[a]? = some _ by simp [Array.getElem?_setIfInBounds, hla])) (by simp) oq) hl0 (fun q hq => by
      rcases List.mem_append.mp hq with w | w
      · exact hL q w
      · obtain ⟨z, -, hz⟩ := List.mem_map.mp w
        rw [← hz]
        exact hn0) e1 e2 _ hheap X'
  exact ⟨t2, step t2 a1, b3⟩
/-- a stretch of an array of objects -/
theorem g_copyR {idx m0 m1 a0 a SP DP N : Nat} {f g : Nat → Value} {sp dp n : Int32} (ha0 : ce Δ h a0 = some (103, m0, f)) (ha : ce Δ h a = some (103, m1, g)) (hn0 : n0 Δ ≤ a) (h1 : sp = nI SP) (h2 : dp = nI DP) (h3 : n = nI N) (b1 : SP + N ≤ m0) (b2 : DP + N ≤ m1)
    {C : String} {tag nF : Nat} {TT : u_T} (hc : clz[tag]? = some (C, TT, nF)) (hw : Cond.castable C "java/lang/Object" ∈ lw_tbl) (hfit : ∀ i, i < N → ∃ (b : Nat) (n' : Nat) (f' : Nat → Value), f (SP + i) = .ref b ∧ ce Δ h b = some (tag, n', f')) (hl : Cond.methodLink μ.1 idx arraycopyName ∈ lw_all) (hnat : Cond.native arraycopyName ∈ lw_all) (hstat : Cond.static arraycopyName ∈ lw_all) (hini : Cond.initialized "java/lang/System" ∈ lw_all) (hs : (st.map fun v => v.category).sum ≤ 8) (dg : decode μ.2.2.1 pc = .ok (.invokestatic idx, 3))
    (kk : wp Δ (d + 1) μ (pc + 3) lv st (hput h a (103, m1, va_cpy f g SP DP N)) Q) : wp Δ (d + 1) μ pc lv (.int n :: .int dp :: .ref a :: .int sp :: .ref a0 :: st) h Q := by
  subst h1; subst h2; subst h3
  refine kk.at (Nat.le_refl _) (Nat.le_refl _) fun v h' _ _ _ gg p e s m args below meth c H locs cells slots ls mc ms B hR hl0 hL e1 e2 => ?_
  obtain ⟨cs, s1, s2, s3, s4, s5, s6, s7, s8, s9, s10⟩ := (hR.2.2.1 _ _ ha0).arr (t := 3)
  obtain ⟨cd, q1, q2, q3, q4, q5, q6, q7, q8, q9, q10⟩ := (hR.2.2.1 _ _ ha).arr (t := 3)
  obtain ⟨z0, k0, hk0, cm0, hkk0⟩ := B.ar s7
  obtain ⟨z1, k1, hk1, cm1, hkk1⟩ := B.ar q7
  rw [q8 hn0] at hk1
  have hts := B.2.2.2.2.2.2.2.2.2.1
  have cSP : (nI SP).toNatClampNeg = SP := nI_clamp (by omega)
  have cDP : (nI DP).toNatClampNeg = DP := nI_clamp (by omega)
  have cN : (nI N).toNatClampNeg = N := nI_clamp (by omega)
  obtain ⟨_, y2⟩ := B.1.2.2.1 3 (by decide)
  obtain ⟨kA, comp, r1, r2, r3, r4⟩ := y2.moved B.2.2.2.2.2.2.2.2.1.alike
  obtain ⟨c0, t0, f1, f2, f3⟩ := Cond.castable_spec (va_Nw.use (A := args) rfl (B.word hw))
  intro T hT X
  obtain ⟨vm', X', step⟩ := X.arraycopy B.2.1 B.2.2.2.2.2.2.1 (hts _ hl) (hts _ hnat) (hts _ hstat) (hts _ hini) (src := a0) (dst := a) (cs := cs) (cd := cd) (srcPos := nI SP) (destPos := nI DP) (n := nI N) (by rw [hT]; exact s1) (by rw [hT]; exact q1)
    s3 q3 s2 q2 hk0 (by rw [q8 hn0]; exact hk1) hkk0 hkk1 rfl (nI_pos (by omega)) (nI_pos (by omega)) (nI_pos (by omega))
    (by rw [nI_int (by omega), nI_int (by omega), s9]; omega)
    (by rw [nI_int (by omega), nI_int (by omega), q9]; omega)
    (fun vm₁ hal i hi => by
      rw [cN] at hi
      obtain ⟨b, n', f', x1, x2⟩ := hfit i hi
      have e : cs.slots.getD ((nI SP).toNatClampNeg + i) .null = .ref b := by
        rw [cSP, Array.getD_eq_getD_getElem?, s10 _ (by omega), x1]
        rfl
      rw [e]
      obtain ⟨cellV, v1, v2, v3⟩ := g_recv B hR hc x2
      have e3 : c0 = cellV.cls := Option.some.inj (f1.symm.trans v3)
      have e4 : t0 = comp := Option.some.inj (f2.symm.trans r3)
      cases hk1.symm.trans r1
      cases hkk1.symm.trans r2
      obtain ⟨kC, hkC, -⟩ := Vm.findClass_spec v3
      obtain ⟨kE, hkE, -⟩ := Vm.findClass_spec r3
      obtain ⟨kC', hkC', -⟩ := hal.2.2 _ _ hkC
      obtain ⟨kE', hkE', -⟩ := hal.2.2 _ _ hkE
      refine ⟨rfl, cellV, (show T.heap[b]? = some cellV by rw [hT]; exact v1), (fun q h => by rw [h] at v2; cases v2), ⟨kC', hkC'⟩, ?_, ?_⟩
      · exact ⟨kE', hkE'⟩
      · show vm₁.assignable _ _ = true
        rw [hal.assignable, ← e3, ← e4]
        exact f3)
    (g := F0 m pc ls (.int (nI N) :: .int (nI DP) :: .ref a :: .int (nI SP) :: .ref a0 :: st)) rfl (by rw [B.2.2.2.2.2.1]; exact hl0.1) (rest := st) rfl (by rw [B.2.2.1]; exact dg) (by show 1 ≤ d + 1; omega) (by show 2 * 0 + _ + _ ≤ 64 * (d + 1) + 24; have hw : nativeFrameWords "java/lang/System" "arraycopy" 5 + 11 ≤ 60 := (by decide); omega)
  have ec : copied cs cd (nI SP) (nI DP) (nI N) = cd.storeRun DP (cs.stretch SP N) := by
    unfold copied
    rw [cSP, cDP, cN]
  rw [ec] at X' step
  have hla : a < H.size := (Array.getElem?_eq_some_iff.mp q1).1
  have hheap : ((T.setVm vm').setCell a (cd.storeRun DP (cs.stretch SP N))).heap = H.setIfInBounds a (cd.storeRun DP (cs.stretch SP N)) := by rw [← hT]; rfl
  have oq : ∀ q : Nat, q ≠ a → (H.setIfInBounds a (cd.storeRun DP (cs.stretch SP N)))[q]? = H[q]? := fun q hq => by simp [Array.getElem?_setIfInBounds, Ne.symm hq]
  obtain ⟨t2, a1, b3⟩ := gg p e s m args below meth c _ _ cells slots ls mc ms B (hR.put (ce_lt ha) hn0 (okC.copied (t := 3) hn0 q5 q6 (q4 hn0) q7 (q8 hn0) q9 q10 s10 b1 b2 (show (H.setIfInBounds a _)[a]? = some _ by simp [Array.getElem?_setIfInBounds, hla])) (by simp) oq) hl0 (fun q hq => by
      rcases List.mem_append.mp hq with w | w
      · exact hL q w
      · obtain ⟨z, -, hz⟩ := List.mem_map.mp w
        rw [← hz]
        exact hn0) e1 e2 _ hheap X'
  exact ⟨t2, step t2 a1, b3⟩
end GA
