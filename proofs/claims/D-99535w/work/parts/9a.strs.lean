/-! rows: a private field of a nest mate, a cast to byte[], a private method of an abstract class; what a string is -/
section GN
variable {Δ : Cx} {d : Nat} {μ μ' : Mi} {pc idx n : Nat} {lv : List (Nat × Value)} {st st0 av : List Value} {h : Hp} {Q Q1 : Option Value → Hp → Prop}
theorem gh_getN {tag n k a : Nat} {f : Nat → Value} {x : Value} {ref nm ds host : String} {fin : Bool} {ty : FieldType} (F : fOk tag k ref nm ds fin ty) (hl : Cond.fieldLinkNest μ.1 idx ref nm ds host ∈ lw_tbl) (ha : ce Δ h a = some (tag, n, f)) (dg : decode μ.2.2.1 pc = .ok (.getfield idx, 3)) (hx : f k = x) (kk : wp Δ d μ (pc + 3) lv (x :: st) h Q) : wp Δ d μ pc lv (.ref a :: st) h Q := by
  subst hx
  refine kk.on fun v h' g p e s m args below meth c H locs cells slots ls mc ms B hR hl0 hL e1 e2 => ?_
  obtain ⟨C, T, N, ty0, hc, hk, hin, hty, hnm, hT, -⟩ := F
  obtain ⟨cell, q1, q2, q3, q4, q5, q6⟩ := (hR.2.2.1 _ _ ha).obj hc
  obtain ⟨hS, hfc, kC, hkC, hkind⟩ := B.kn hc
  obtain ⟨cf, kf, fi, fd, hi, hsl⟩ := hS k hk
  have hst := (u_facts hfc hkC (u_lays B.2.2.2.2.2.2.2.2.2.1 hin hk) hi).1
  dsimp only at hi
  rw [hT] at hi
  obtain ⟨b0, hb0⟩ := B.1.2.2.2.1
  have hNw := va_Nw.warmF B.2.2.2.2.2.2.2.2.1 (va_Nw.of rfl (hb0 _ hl))
  refine va_Wgetf B.2.1 B.2.2.1 B.2.2.2.2.2.2.1 (va_Nw.use rfl hNw) hi hst q1 q2 (v := f k) ?_ rfl rfl dg (g p e s m args below meth c H locs cells slots ls mc ms B hR hl0 hL e1 e2)
  rw [hsl]; exact q6 k hk
theorem g_castB {n a : Nat} {f : Nat → Value} (ha : ce Δ h a = some (102, n, f)) (hn0 : n0 Δ ≤ a) (hl : Cond.classLink μ.1 idx "[B" ∈ lw_all) (dg : decode μ.2.2.1 pc = .ok (.checkcast idx, 3)) (kk : wp Δ d μ (pc + 3) lv (.ref a :: st) h Q) : wp Δ d μ pc lv (.ref a :: st) h Q := by
  refine kk.on fun v h' g p e s m args below meth c H locs cells slots ls mc ms B hR hl0 hL e1 e2 => ?_
  obtain ⟨cell, q1, q2, q3, q4, q5, q6, q7, q8, q9, q10⟩ := (hR.2.2.1 _ _ ha).arr (t := 2)
  have a2 := ((B.1.2.2.1 2 (by decide)).2).moved B.2.2.2.2.2.2.2.2.1.alike
  intro T hT X
  obtain ⟨vm', X', st'⟩ := X.checkcastYes B.2.1 B.2.2.2.2.2.2.1 (B.2.2.2.2.2.2.2.2.2.1 _ hl) (by rw [hT]; exact q1) (by rw [q4 hn0]; rfl) (va_nm_byte a2) (by rw [q8 hn0]; exact va_asg _ _) (g := F0 m pc ls (.ref a :: st)) rfl rfl (by rw [B.2.2.1]; exact dg)
  obtain ⟨t, a1, b1⟩ := (g p e s m args below meth c H locs cells slots ls mc ms B hR hl0 hL e1 e2) (T.setVm vm') hT X'
  exact ⟨t, st' t a1, b1⟩
theorem sel_ASB {y : MethodName} {args : Array Value} {s : State} (hcls : y.cls = "java/lang/AbstractStringBuilder") (hp : Cond.privateMethod y ∈ lw_tbl) (hi : Cond.instanceMethod y ∈ lw_all) (hb : ∀ w ∈ lw_tbl, w.before args s = true) : (Cond.selects "java/lang/StringBuilder" y y).before args s = true := by
  obtain ⟨c, r, m, h1, h2, h3, h4, k, h5, h6⟩ := Cond.selects_spec (hb _ (lw_all_tbl q465))
  obtain ⟨mk, methM, hnamed, hmethM, -, -⟩ := Cond.instanceMethod_spec (hb _ (lw_all_tbl hi))
  have hfound : s.methodFound? y.cls y.name y.desc = some mk := State.methodFound?_of_named hnamed ⟨by rw [hcls]; decide, by rw [hcls]; decide⟩
  have e1 : s.vm.findClass "java/lang/AbstractStringBuilder" = some m.cls := findClass_of_methodNamed h3
  have e2 : s.vm.findClass y.cls = some mk.cls := findClass_of_methodNamed hnamed
  have hc : mk.cls = m.cls := by rw [hcls] at e2; exact Option.some.inj (e2.symm.trans e1)
  have hsel : selectMethod {} s.vm c mk = .method mk := selectMethod_private hmethM (Cond.privateMethod_at (hb _ hp) mk methM hnamed hmethM)
  simp only [Cond.before, Cond.holds, Cond.value, h1, hfound, hnamed, hsel, hc, h5]
  simp
  exact h6
theorem g_callP {b tag N nn : Nat} {f : Nat → Value} {T : u_T} (hm : mt Δ d μ' (.ref b :: av) h Q1) (hcls : μ'.2.1.cls = "java/lang/AbstractStringBuilder") (hp : Cond.privateMethod μ'.2.1 ∈ lw_tbl) (hV : GoodIn (Cond.selects "java/lang/StringBuilder" μ'.2.1 μ'.2.1 :: lw_all) (va_wsU μ.1 idx "java/lang/StringBuilder" "java/lang/AbstractStringBuilder" μ'.2.1 μ'.2.1 (wsM μ'))) (hi : Cond.instanceMethod μ'.2.1 ∈ lw_all) (hM : mOk μ' n) (hyx : μ'.2.1 = ⟨"java/lang/AbstractStringBuilder", μ'.2.1.name, μ'.2.1.desc⟩) (hb : ce Δ h b = some (tag, nn, f)) (hc : clz[tag]? = some ("java/lang/StringBuilder", T, N)) (hn : av.length = n) (hst : st0 = av.reverse ++ .ref b :: st) (hs : (st.map fun v => v.category).sum ≤ 8) (dg : decode μ.2.2.1 pc = .ok (.invokevirtual idx, 3))
    (kk : ∀ v h1, h.1 ≤ h1.1 → h.2.1 ≤ h1.2.1 → Q1 v h1 → wp Δ (d + 1) μ (pc + 3) lv (v.toList ++ st) h1 Q) : wp Δ (d + 1) μ pc lv st0 h Q := by
  intro hnn
  obtain ⟨v1, h1, a1, a2, q1, sp⟩ := hm hnn
  obtain ⟨v, h', b1, b2, q2, g⟩ := kk v1 h1 a1 a2 q1 (Nat.le_trans hnn a1)
  refine ⟨v, h', Nat.le_trans a1 b1, Nat.le_trans a2 b2, q2, fun p e s m args below meth c H locs cells slots ls mc ms B hR hl0 hL e1 e2 => ?_⟩
  subst hst
  have hMet := sp B.1 (h1.1 - h.1) (h1.2.1 - h.2.1) (by omega) (by omega)
  have hM1 := hM.1
  rw [hyx] at hM1
  obtain ⟨b0, hb0⟩ := B.1.2.2.2.1
  have hts : ∀ w ∈ Cond.selects "java/lang/StringBuilder" μ'.2.1 μ'.2.1 :: lw_all, w.before args s = true := by
    intro w hw
    rcases List.mem_cons.mp hw with e | e
    · rw [e]; exact word_at B.2.2.2.2.2.2.2.2.1 (Or.inl rfl) (sel_ASB hcls hp hi hb0)
    · exact B.2.2.2.2.2.2.2.2.2.1 w e
  refine g_run (va_runU (Ts := Cond.selects "java/lang/StringBuilder" μ'.2.1 μ'.2.1 :: lw_all) (As := av) (rest := st) ⟨B.2.1, B.2.2.1, B.2.2.2.2.2.1, B.2.2.2.2.2.2.1, hts⟩ hMet (va_cwU n hts hV rfl rfl rfl hyx hM1 ⟨Nat.le_refl _, by have := hM.2; show 8 + (μ'.2.2.2.1 + 11) + (64 * d + 24) ≤ 64 * (d + 1) + 24; omega⟩) ⟨fun a U g mk q => q, g_recv B hR hc hb, fun U hU hW => ⟨rfl, by rw [hU]; exact hR, State.WarmedH.trans B.2.2.2.2.2.2.2.2.1 hW⟩⟩ rfl hn hl0.1 rfl (lv_room hs) dg ⟨by show cells + (h1.1 - h.1) ≤ mc; omega, by show slots + (h1.2.1 - h.2.1) ≤ ms; omega⟩) hL (fun H1 locs1 hR1 hL1 => g p e s m args below meth c H1 locs1 _ _ ls mc ms B hR1 hl0 hL1 (by omega) (by omega))
theorem lw_P {own : String} {i : Nat} {C owner : String} {x y : MethodName} {b : ByteArray} {L : Nat} {r : Option FieldType} (h1 : Cond.methodLink own i x ∈ lw_all) (h2 : Cond.sameMethod x.cls owner x.name x.desc ∈ lw_all) (h4 : Cond.instanceMethod y ∈ lw_all) (h5 : Cond.initialized y.cls ∈ lw_all) (h6 : Cond.code y b L r ∈ lw_all) : GoodIn (Cond.selects C x y :: lw_all) (va_wsU own i C owner x y (ws_ y b L r)) := by
  have up : ∀ w ∈ lw_all, w ∈ Cond.selects C x y :: lw_all ∧ ((w.onTables && w.keeps) = true ∨ ∃ ty, w = .arrayClass ty) := fun w hw => ⟨List.mem_cons_of_mem _ hw, (lw_self w hw).2⟩
  intro w hw
  rcases List.mem_append.mp hw with e | e
  · simp only [List.mem_cons, List.not_mem_nil, or_false] at e
    rcases e with e | e | e | e | e
    · rw [e]; exact up _ h1
    · rw [e]; exact up _ h2
    · rw [e]; exact ⟨List.mem_cons_self, Or.inl rfl⟩
    · rw [e]; exact up _ h4
    · rw [e]; exact up _ h5
  · rcases List.mem_cons.mp e with e | e
    · rw [e]; exact up _ h6
    · exact up _ e
end GN
/-- the hash of k letters -/
def hvS (f : Nat → Int32) : Nat → Int32
  | 0 => 0
  | k + 1 => 31 * hvS f k + f k
theorem ch_255 {c : Nat} (h : c < 128) : nI c &&& 255 = nI c := by
  have : ∀ c : Fin 128, nI c.val &&& 255 = nI c.val := by decide +kernel
  exact this ⟨c, h⟩
theorem z_nI {n : Nat} : (0 : Int32) + nI n = nI n := Int32.zero_add _
def HQ (sh sz hv : Int32) : Prop := (¬ sh = 0 → sh = hv) ∧ (sh = 0 → ¬ sz = 0 → hv = 0)
abbrev chk (z : Nat) (f : Nat → Int32) : Prop := ∀ j, j < z → ∃ c : Nat, c < 128 ∧ f j = nI c
/-- a string at s over bytes at b: z letters f -/
def SB (Δ : Cx) (c : Nat → Option Cel) (s b z : Nat) (f : Nat → Int32) (sh sz : Int32) : Prop := c s = some (16, 0, ob [.ref b, .int 0, .int sh, .int sz]) ∧ c b = some (102, z, fun j => .int (f j)) ∧ z ≤ 8 ∧ chk z f ∧ HQ sh sz (hvS f z) ∧ ((n0 Δ ≤ s ∧ n0 Δ ≤ b) ∨ ¬ sh = 0 ∨ ¬ sz = 0)
def ST (Δ : Cx) (c : Nat → Option Cel) (s z : Nat) (f : Nat → Int32) : Prop := ∃ (b : Nat) (sh sz : Int32), SB Δ c s b z f sh sz
theorem ST.tx {Δ : Cx} {h : Hp} {s z : Nat} {f : Nat → Int32} (S : ST Δ (ce Δ h) s z f) : Tx Δ h s z f := by
  obtain ⟨b, sh, sz, h1, h2, h3, h4, h5, h6⟩ := S
  exact ⟨b, sh, sz, h1, h2, by omega, h4⟩
theorem ST.mono {Δ : Cx} {c c' : Nat → Option Cel} {s z : Nat} {f : Nat → Int32} (hs : Sub c c') (S : ST Δ c s z f) : ST Δ c' s z f := by
  obtain ⟨b, sh, sz, h1, h2, h3⟩ := S
  exact ⟨b, sh, sz, hs _ _ h1, hs _ _ h2, h3⟩
/-- two words are alike -/
def eqW (f : Nat → Int32) (z : Nat) (g : Nat → Int32) (m : Nat) : Bool := decide (z = m) && wqS f g z
theorem eqW_n {f g : Nat → Int32} {z m : Nat} (h : ¬ z = m) : bI (eqW f z g m) = 0 := by unfold eqW; rw [decide_eq_false h]; rfl
theorem eqW_t {f g : Nat → Int32} {z m : Nat} (h : z = m) (h2 : wqS f g z = true) : bI (eqW f z g m) = 1 := by unfold eqW; rw [decide_eq_true h, h2]; rfl
theorem eqW_f {f g : Nat → Int32} {z m j : Nat} (hj : j < z) (h2 : ¬ f j = g j) : bI (eqW f z g m) = 0 := by
  have h3 : wqS f g (j + 1) = false := by
    show (wqS f g j && decide (f j = g j)) = false
    rw [decide_eq_false h2, Bool.and_false]
  have h4 := wqS_f h3 (z - (j + 1))
  rw [show j + 1 + (z - (j + 1)) = z by omega] at h4
  unfold eqW
  rw [h4, Bool.and_false]
  rfl
theorem wq_s {f g : Nat → Int32} {j : Nat} (h : wqS f g j = true) (h2 : f j = g j) : wqS f g (j + 1) = true := by
  show (wqS f g j && decide (f j = g j)) = true
  rw [h, decide_eq_true h2]; rfl
theorem wq_refl {f : Nat → Int32} : ∀ k, wqS f f k = true
  | 0 => rfl
  | k + 1 => wq_s (wq_refl k) rfl
theorem wq_cong {f g f2 g2 : Nat → Int32} : ∀ {k : Nat}, (∀ i, i < k → f i = f2 i) → (∀ i, i < k → g i = g2 i) → wqS f g k = wqS f2 g2 k
  | 0, _, _ => rfl
  | k + 1, h1, h2 => by
    show (wqS f g k && decide (f k = g k)) = (wqS f2 g2 k && decide (f2 k = g2 k))
    rw [wq_cong (fun i hi => h1 i (by omega)) (fun i hi => h2 i (by omega)), h1 k (by omega), h2 k (by omega)]
theorem hv_cong {f g : Nat → Int32} : ∀ {k : Nat}, wqS f g k = true → hvS f k = hvS g k
  | 0, _ => rfl
  | k + 1, h => by
    have h0 := wq_all h
    show 31 * hvS f k + f k = 31 * hvS g k + g k
    rw [hv_cong (k := k) (by
      have h : (wqS f g k && decide (f k = g k)) = true := h
      rw [Bool.and_eq_true] at h; exact h.1), h0 k (by omega)]
theorem ob_ref {l : List Value} {x y : Value} {l2 : List Value} (h : ob (x :: l) = ob (y :: l2)) : x = y := congrFun h 0
