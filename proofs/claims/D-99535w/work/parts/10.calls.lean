/-! THE ROWS OF CALLS, constants, statics -/
abbrev wsM (μ' : Mi) : List Cond := ws_ μ'.2.1 μ'.2.2.1 μ'.2.2.2.1 μ'.2.2.2.2
/-- a method that may be called: how many parameters it has -/
def mOk (μ' : Mi) (n : Nat) : Prop := (μ'.2.1.cls ≠ "java/lang/invoke/MethodHandle" ∧ μ'.2.1.cls ≠ "java/lang/invoke/VarHandle" ∧ (parseMethodDescriptor μ'.2.1.desc).map (fun d => d.parameters.length) = some n) ∧ μ'.2.2.2.1 ≤ 40
theorem g_run {Δ : Cx} {p : Program} {l : Launch} {e : Env} {R : Room} {s : State} {m : MethodId} {args : Array Value} {below : List Frame} {meth : Method} {c : Code} {H : Heap} {locs : List Loc} {cells slots mc' ms' pc : Nat} {ls : Array Slot} {st0 rest : List Value} {a : Array Value} {v : Option Value} {h1 : Hp} {Qw : State → Prop} (hr : va_Run p l e R s m args below meth c H locs cells slots mc' ms' (F0 m pc ls st0) rest (QR Δ v h1 a) (fun q => n0 Δ ≤ q)) (hL : ∀ q ∈ locs, n0 Δ ≤ q.base)
    (kk : ∀ (H1 : Heap) (locs1 : List Loc), Rl Δ h1 H1 → (∀ q ∈ locs1, n0 Δ ≤ q.base) → W p l e R s m args below meth c H1 locs1 (cells + mc') (slots + ms') Qw (F0 m (pc + 3) ls (v.toList ++ rest))) : W p l e R s m args below meth c H locs cells slots Qw (F0 m pc ls st0) := by
  intro T hT X
  obtain ⟨v', st₀, t, T', L, h0, X', hL', e1, e2, ⟨hv, hR⟩, stp⟩ := hr T hT X
  cases hv
  obtain ⟨t2, a1, b1⟩ := kk T'.heap (locs ++ L) (by rw [e1]; exact hR) (fun q hq => by
    rcases List.mem_append.mp hq with h | h
    · exact hL q h
    · exact hL' q h) T' rfl X'
  exact ⟨t2, stp t2 a1, b1⟩
section GC
variable {Δ : Cx} {d : Nat} {μ μ' : Mi} {pc : Nat} {lv : List (Nat × Value)} {st st0 : List Value} {h : Hp} {Q Q1 : Option Value → Hp → Prop} {av : List Value} {idx n : Nat}
theorem g_callV {b tag N nn : Nat} {f : Nat → Value} {C : String} {T : u_T} (hm : mt Δ d μ' (.ref b :: av) h Q1) (hV : GoodIn lw_all (wsV μ.1 idx μ'.2.1.cls μ'.2.1 (wsM μ'))) (hM : mOk μ' n) (hb : ce Δ h b = some (tag, nn, f)) (hc : clz[tag]? = some (C, T, N)) (hC : C = μ'.2.1.cls) (hn : av.length = n) (hst : st0 = av.reverse ++ .ref b :: st) (hs : (st.map fun v => v.category).sum ≤ 8) (dg : decode μ.2.2.1 pc = .ok (.invokevirtual idx, 3))
    (kk : ∀ v h1, h.1 ≤ h1.1 → h.2.1 ≤ h1.2.1 → Q1 v h1 → wp Δ (d + 1) μ (pc + 3) lv (v.toList ++ st) h1 Q) : wp Δ (d + 1) μ pc lv st0 h Q := by
  intro hnn
  obtain ⟨v1, h1, a1, a2, q1, sp⟩ := hm hnn
  obtain ⟨v, h', b1, b2, q2, g⟩ := kk v1 h1 a1 a2 q1 (Nat.le_trans hnn a1)
  refine ⟨v, h', Nat.le_trans a1 b1, Nat.le_trans a2 b2, q2, fun p e s m args below meth c H locs cells slots ls mc ms B hR hl0 hL e1 e2 => ?_⟩
  subst hst
  subst hC
  have hMet := sp B.1 (h1.1 - h.1) (h1.2.1 - h.2.1) (by omega) (by omega)
  refine g_run (va_runV (Ts := lw_all) (As := av) (rest := st) ⟨B.2.1, B.2.2.1, B.2.2.2.2.2.1, B.2.2.2.2.2.2.1, B.2.2.2.2.2.2.2.2.2.1⟩ hMet (cwV n B.2.2.2.2.2.2.2.2.2.1 hV rfl rfl rfl ⟨rfl, hM.1⟩ ⟨Nat.le_refl _, by have := hM.2; show 8 + (μ'.2.2.2.1 + 11) + (64 * d + 24) ≤ 64 * (d + 1) + 24; omega⟩) ⟨fun a U g mk q => q, g_recv B hR hc hb, fun U hU hW => ⟨rfl, by rw [hU]; exact hR, State.WarmedH.trans B.2.2.2.2.2.2.2.2.1 hW⟩⟩ rfl hn hl0.1 rfl (lv_room hs) dg ⟨by show cells + (h1.1 - h.1) ≤ mc; omega, by show slots + (h1.2.1 - h.2.1) ≤ ms; omega⟩) hL (fun H1 locs1 hR1 hL1 => g p e s m args below meth c H1 locs1 _ _ ls mc ms B hR1 hl0 hL1 (by omega) (by omega))
theorem g_callU {b tag N nn : Nat} {f : Nat → Value} {C owner : String} {T : u_T} {x : MethodName} (hm : mt Δ d μ' (.ref b :: av) h Q1) (hV : GoodIn lw_all (va_wsU μ.1 idx C owner x μ'.2.1 (wsM μ'))) (hM : mOk μ' n) (hyx : μ'.2.1 = ⟨owner, x.name, x.desc⟩) (hb : ce Δ h b = some (tag, nn, f)) (hc : clz[tag]? = some (C, T, N)) (hn : av.length = n) (hst : st0 = av.reverse ++ .ref b :: st) (hs : (st.map fun v => v.category).sum ≤ 8) (dg : decode μ.2.2.1 pc = .ok (.invokevirtual idx, 3))
    (kk : ∀ v h1, h.1 ≤ h1.1 → h.2.1 ≤ h1.2.1 → Q1 v h1 → wp Δ (d + 1) μ (pc + 3) lv (v.toList ++ st) h1 Q) : wp Δ (d + 1) μ pc lv st0 h Q := by
  intro hnn
  obtain ⟨v1, h1, a1, a2, q1, sp⟩ := hm hnn
  obtain ⟨v, h', b1, b2, q2, g⟩ := kk v1 h1 a1 a2 q1 (Nat.le_trans hnn a1)
  refine ⟨v, h', Nat.le_trans a1 b1, Nat.le_trans a2 b2, q2, fun p e s m args below meth c H locs cells slots ls mc ms B hR hl0 hL e1 e2 => ?_⟩
  subst hst
  have hMet := sp B.1 (h1.1 - h.1) (h1.2.1 - h.2.1) (by omega) (by omega)
  have hM1 := hM.1
  rw [hyx] at hM1
  refine g_run (va_runU (Ts := lw_all) (As := av) (rest := st) ⟨B.2.1, B.2.2.1, B.2.2.2.2.2.1, B.2.2.2.2.2.2.1, B.2.2.2.2.2.2.2.2.2.1⟩ hMet (va_cwU n B.2.2.2.2.2.2.2.2.2.1 hV rfl rfl rfl hyx hM1 ⟨Nat.le_refl _, by have := hM.2; show 8 + (μ'.2.2.2.1 + 11) + (64 * d + 24) ≤ 64 * (d + 1) + 24; omega⟩) ⟨fun a U g mk q => q, g_recv B hR hc hb, fun U hU hW => ⟨rfl, by rw [hU]; exact hR, State.WarmedH.trans B.2.2.2.2.2.2.2.2.1 hW⟩⟩ rfl hn hl0.1 rfl (lv_room hs) dg ⟨by show cells + (h1.1 - h.1) ≤ mc; omega, by show slots + (h1.2.1 - h.2.1) ≤ ms; omega⟩) hL (fun H1 locs1 hR1 hL1 => g p e s m args below meth c H1 locs1 _ _ ls mc ms B hR1 hl0 hL1 (by omega) (by omega))
theorem g_callO {b tag N nn : Nat} {f : Nat → Value} {C owner : String} {T : u_T} {x : MethodName} (hm : mt Δ d μ' (.ref b :: av) h Q1) (hV : GoodIn lw_all (va_wsO μ.1 idx C owner x μ'.2.1 (wsM μ'))) (hM : mOk μ' n) {b0 : ByteArray} {m0 : Nat} {r0 : Option FieldType} (hco : Cond.code ⟨owner, x.name, x.desc⟩ b0 m0 r0 ∈ lw_all) (howner : owner ≠ "java/lang/invoke/MethodHandle" ∧ owner ≠ "java/lang/invoke/VarHandle" ∧ (parseMethodDescriptor x.desc).map (fun d => d.parameters.length) = some n) (hb : ce Δ h b = some (tag, nn, f)) (hc : clz[tag]? = some (C, T, N)) (hn : av.length = n) (hst : st0 = av.reverse ++ .ref b :: st) (hs : (st.map fun v => v.category).sum ≤ 8) (dg : decode μ.2.2.1 pc = .ok (.invokevirtual idx, 3))
    (kk : ∀ v h1, h.1 ≤ h1.1 → h.2.1 ≤ h1.2.1 → Q1 v h1 → wp Δ (d + 1) μ (pc + 3) lv (v.toList ++ st) h1 Q) : wp Δ (d + 1) μ pc lv st0 h Q := by
  intro hnn
  obtain ⟨v1, h1, a1, a2, q1, sp⟩ := hm hnn
  obtain ⟨v, h', b1, b2, q2, g⟩ := kk v1 h1 a1 a2 q1 (Nat.le_trans hnn a1)
  refine ⟨v, h', Nat.le_trans a1 b1, Nat.le_trans a2 b2, q2, fun p e s m args below meth c H locs cells slots ls mc ms B hR hl0 hL e1 e2 => ?_⟩
  subst hst
  have hMet := sp B.1 (h1.1 - h.1) (h1.2.1 - h.2.1) (by omega) (by omega)
  refine g_run (va_runU (Ts := lw_all) (As := av) (rest := st) ⟨B.2.1, B.2.2.1, B.2.2.2.2.2.1, B.2.2.2.2.2.2.1, B.2.2.2.2.2.2.2.2.2.1⟩ hMet (va_cwO n B.2.2.2.2.2.2.2.2.2.1 hV rfl rfl rfl hco howner ⟨Nat.le_refl _, by have := hM.2; show 8 + (μ'.2.2.2.1 + 11) + (64 * d + 24) ≤ 64 * (d + 1) + 24; omega⟩) ⟨fun a U g mk q => q, g_recv B hR hc hb, fun U hU hW => ⟨rfl, by rw [hU]; exact hR, State.WarmedH.trans B.2.2.2.2.2.2.2.2.1 hW⟩⟩ rfl hn hl0.1 rfl (lv_room hs) dg ⟨by show cells + (h1.1 - h.1) ≤ mc; omega, by show slots + (h1.2.1 - h.2.1) ≤ ms; omega⟩) hL (fun H1 locs1 hR1 hL1 => g p e s m args below meth c H1 locs1 _ _ ls mc ms B hR1 hl0 hL1 (by omega) (by omega))
theorem g_callS (hm : mt Δ d μ' av h Q1) (hV : GoodIn lw_all (va_wsS μ.1 idx μ'.2.1 (wsM μ'))) (hM : mOk μ' n) (hn : av.length = n) (hst : st0 = av.reverse ++ st) (hs : (st.map fun v => v.category).sum ≤ 8) (dg : decode μ.2.2.1 pc = .ok (.invokestatic idx, 3))
    (kk : ∀ v h1, h.1 ≤ h1.1 → h.2.1 ≤ h1.2.1 → Q1 v h1 → wp Δ (d + 1) μ (pc + 3) lv (v.toList ++ st) h1 Q) : wp Δ (d + 1) μ pc lv st0 h Q := by
  intro hnn
  obtain ⟨v1, h1, a1, a2, q1, sp⟩ := hm hnn
  obtain ⟨v, h', b1, b2, q2, g⟩ := kk v1 h1 a1 a2 q1 (Nat.le_trans hnn a1)
  refine ⟨v, h', Nat.le_trans a1 b1, Nat.le_trans a2 b2, q2, fun p e s m args below meth c H locs cells slots ls mc ms B hR hl0 hL e1 e2 => ?_⟩
  subst hst
  have hMet := sp B.1 (h1.1 - h.1) (h1.2.1 - h.2.1) (by omega) (by omega)
  refine g_run (va_runS (Ts := lw_all) (As := av) (rest := st) ⟨B.2.1, B.2.2.1, B.2.2.2.2.2.1, B.2.2.2.2.2.2.1, B.2.2.2.2.2.2.2.2.2.1⟩ hMet (va_cwS n B.2.2.2.2.2.2.2.2.2.1 hV rfl rfl rfl hM.1 ⟨Nat.le_refl _, by have := hM.2; show 8 + (μ'.2.2.2.1 + 11) + (64 * d + 24) ≤ 64 * (d + 1) + 24; omega⟩) ⟨fun a U g mk q => q, fun U hU hW => ⟨rfl, by rw [hU]; exact hR, State.WarmedH.trans B.2.2.2.2.2.2.2.2.1 hW⟩⟩ rfl hn hl0.1 rfl (lv_room hs) dg ⟨by show cells + (h1.1 - h.1) ≤ mc; omega, by show slots + (h1.2.1 - h.2.1) ≤ ms; omega⟩) hL (fun H1 locs1 hR1 hL1 => g p e s m args below meth c H1 locs1 _ _ ls mc ms B hR1 hl0 hL1 (by omega) (by omega))
theorem g_callI {b : Nat} (hm : mt Δ d μ' (.ref b :: av) h Q1) (hG : GoodIn lw_all (wsM μ')) (hret : μ'.2.2.2.2 = none) (hini : Cond.initialized μ'.2.1.cls ∈ lw_all) (hl : Cond.methodLink μ.1 idx μ'.2.1 ∈ lw_all) (hin : Cond.instanceMethod μ'.2.1 ∈ lw_all) (hnm : μ'.2.1.name = "<init>") (hM : mOk μ' n) (hn : av.length = n) (hst : st0 = av.reverse ++ .ref b :: st) (hs : (st.map fun v => v.category).sum ≤ 8) (dg : decode μ.2.2.1 pc = .ok (.invokespecial idx, 3))
    (kk : ∀ v h1, h.1 ≤ h1.1 → h.2.1 ≤ h1.2.1 → Q1 v h1 → wp Δ (d + 1) μ (pc + 3) lv (v.toList ++ st) h1 Q) : wp Δ (d + 1) μ pc lv st0 h Q := by
  intro hnn
  obtain ⟨v1, h1, a1, a2, q1, sp⟩ := hm hnn
  obtain ⟨v, h', b1, b2, q2, g⟩ := kk v1 h1 a1 a2 q1 (Nat.le_trans hnn a1)
  refine ⟨v, h', Nat.le_trans a1 b1, Nat.le_trans a2 b2, q2, fun p e s m args below meth c H locs cells slots ls mc ms B hR hl0 hL e1 e2 => ?_⟩
  subst hst
  have hMet := sp B.1 (h1.1 - h.1) (h1.2.1 - h.2.1) (by omega) (by omega)
  have hts := B.2.2.2.2.2.2.2.2.2.1
  obtain ⟨ow, y, cc, mL, ret⟩ := μ'
  dsimp only at hret
  subst hret
  refine g_run (va_runI (Ts := lw_all) (As := av) (rest := st) ⟨B.2.1, B.2.2.1, B.2.2.2.2.2.1, B.2.2.2.2.2.2.1, hts⟩ hMet (cwI n hts hG rfl rfl rfl (hts _ hini) (hts _ hl) (hts _ hin) hnm hM.1 ⟨Nat.le_refl _, by have := hM.2; show 8 + (mL + 11) + (64 * d + 24) ≤ 64 * (d + 1) + 24; dsimp only at this; omega⟩) ⟨fun a U g mk q => q, fun U hU hW => ⟨rfl, by rw [hU]; exact hR, State.WarmedH.trans B.2.2.2.2.2.2.2.2.1 hW⟩⟩ rfl hn hl0.1 rfl (lv_room hs) dg ⟨by show cells + (h1.1 - h.1) ≤ mc; omega, by show slots + (h1.2.1 - h.2.1) ≤ ms; omega⟩) hL (fun H1 locs1 hR1 hL1 => g p e s m args below meth c H1 locs1 _ _ ls mc ms B hR1 hl0 hL1 (by omega) (by omega))
theorem g_callSU {b tag N nn : Nat} {f : Nat → Value} {C : String} {T : u_T} (hm : mt Δ d μ' (.ref b :: av) h Q1) (hV : GoodIn lw_all (va_wsSU μ.1 idx μ'.2.1 (wsM μ'))) (hM : mOk μ' n) (hno : μ'.2.1.name ≠ "<init>") (hb : ce Δ h b = some (tag, nn, f)) (hc : clz[tag]? = some (C, T, N)) (hn : av.length = n) (hst : st0 = av.reverse ++ .ref b :: st) (hs : (st.map fun v => v.category).sum ≤ 8) (dg : decode μ.2.2.1 pc = .ok (.invokespecial idx, 3))
    (kk : ∀ v h1, h.1 ≤ h1.1 → h.2.1 ≤ h1.2.1 → Q1 v h1 → wp Δ (d + 1) μ (pc + 3) lv (v.toList ++ st) h1 Q) : wp Δ (d + 1) μ pc lv st0 h Q := by
  intro hnn
  obtain ⟨v1, h1, a1, a2, q1, sp⟩ := hm hnn
  obtain ⟨v, h', b1, b2, q2, g⟩ := kk v1 h1 a1 a2 q1 (Nat.le_trans hnn a1)
  refine ⟨v, h', Nat.le_trans a1 b1, Nat.le_trans a2 b2, q2, fun p e s m args below meth c H locs cells slots ls mc ms B hR hl0 hL e1 e2 => ?_⟩
  subst hst
  have hMet := sp B.1 (h1.1 - h.1) (h1.2.1 - h.2.1) (by omega) (by omega)
  refine g_run (va_runSU (Ts := lw_all) (As := av) (rest := st) (B.kn hc).2 ⟨B.2.1, B.2.2.1, B.2.2.2.2.2.1, B.2.2.2.2.2.2.1, B.2.2.2.2.2.2.2.2.2.1⟩ hMet (va_cwSU n B.2.2.2.2.2.2.2.2.2.1 hV rfl rfl rfl ⟨hno, hM.1.2.2⟩ ⟨Nat.le_refl _, by have := hM.2; show 8 + (μ'.2.2.2.1 + 11) + (64 * d + 24) ≤ 64 * (d + 1) + 24; omega⟩) ⟨fun a U g mk q => q, g_recv B hR hc hb, fun U hU hW => ⟨rfl, by rw [hU]; exact hR, State.WarmedH.trans B.2.2.2.2.2.2.2.2.1 hW⟩⟩ rfl hn hl0.1 rfl (lv_room hs) dg ⟨by show cells + (h1.1 - h.1) ≤ mc; omega, by show slots + (h1.2.1 - h.2.1) ≤ ms; omega⟩) hL (fun H1 locs1 hR1 hL1 => g p e s m args below meth c H1 locs1 _ _ ls mc ms B hR1 hl0 hL1 (by omega) (by omega))
/-- a nest mate's private static -/
theorem g_callSN {host : String} (hm : mt Δ d μ' av h Q1) (hG : GoodIn lw_all (wsM μ')) (hl : Cond.methodLinkNest μ.1 idx μ'.2.1 host ∈ lw_tbl) (hini : Cond.initialized μ'.2.1.cls ∈ lw_all) (hsta : Cond.static μ'.2.1 ∈ lw_all) (hM : mOk μ' n) (hn : av.length = n) (hst : st0 = av.reverse ++ st) (hs : (st.map fun v => v.category).sum ≤ 8) (dg : decode μ.2.2.1 pc = .ok (.invokestatic idx, 3))
    (kk : ∀ v h1, h.1 ≤ h1.1 → h.2.1 ≤ h1.2.1 → Q1 v h1 → wp Δ (d + 1) μ (pc + 3) lv (v.toList ++ st) h1 Q) : wp Δ (d + 1) μ pc lv st0 h Q := by
  intro hnn
  obtain ⟨v1, h1, a1, a2, q1, sp⟩ := hm hnn
  obtain ⟨v, h', b1, b2, q2, g⟩ := kk v1 h1 a1 a2 q1 (Nat.le_trans hnn a1)
  refine ⟨v, h', Nat.le_trans a1 b1, Nat.le_trans a2 b2, q2, fun p e s m args below meth c H locs cells slots ls mc ms B hR hl0 hL e1 e2 => ?_⟩
  subst hst
  have hMet := sp B.1 (h1.1 - h.1) (h1.2.1 - h.2.1) (by omega) (by omega)
  have hts := B.2.2.2.2.2.2.2.2.2.1
  obtain ⟨b0, hb0⟩ := B.1.2.2.2.1
  have hNw := va_Nw.warmM B.2.2.2.2.2.2.2.2.1 (va_Nw.of rfl (hb0 _ hl))
  refine g_run (va_runSN (Ts := lw_all) (As := av) (rest := st) ⟨B.2.1, B.2.2.1, B.2.2.2.2.2.1, B.2.2.2.2.2.2.1, hts⟩ hMet ⟨va_cnB n hts hG rfl rfl rfl hNw (hts _ hini) hM.1 ⟨Nat.le_refl _, by have := hM.2; show 8 + (μ'.2.2.2.1 + 11) + (64 * d + 24) ≤ 64 * (d + 1) + 24; omega⟩, hts _ hsta, trivial⟩ ⟨fun a U g mk q => q, fun U hU hW => ⟨rfl, by rw [hU]; exact hR, State.WarmedH.trans B.2.2.2.2.2.2.2.2.1 hW⟩⟩ rfl hn hl0.1 rfl (lv_room hs) dg ⟨by show cells + (h1.1 - h.1) ≤ mc; omega, by show slots + (h1.2.1 - h.2.1) ≤ ms; omega⟩) hL (fun H1 locs1 hR1 hL1 => g p e s m args below meth c H1 locs1 _ _ ls mc ms B hR1 hl0 hL1 (by omega) (by omega))
theorem g_callIN {b : Nat} {host : String} (hm : mt Δ d μ' (.ref b :: av) h Q1) (hG : GoodIn lw_all (wsM μ')) (hret : μ'.2.2.2.2 = none) (hl : Cond.methodLinkNest μ.1 idx μ'.2.1 host ∈ lw_tbl) (hini : Cond.initialized μ'.2.1.cls ∈ lw_all) (hin : Cond.instanceMethod μ'.2.1 ∈ lw_all) (hnm : μ'.2.1.name = "<init>") (hM : mOk μ' n) (hn : av.length = n) (hst : st0 = av.reverse ++ .ref b :: st) (hs : (st.map fun v => v.category).sum ≤ 8) (dg : decode μ.2.2.1 pc = .ok (.invokespecial idx, 3))
    (kk : ∀ v h1, h.1 ≤ h1.1 → h.2.1 ≤ h1.2.1 → Q1 v h1 → wp Δ (d + 1) μ (pc + 3) lv (v.toList ++ st) h1 Q) : wp Δ (d + 1) μ pc lv st0 h Q := by
  intro hnn
  obtain ⟨v1, h1, a1, a2, q1, sp⟩ := hm hnn
  obtain ⟨v, h', b1, b2, q2, g⟩ := kk v1 h1 a1 a2 q1 (Nat.le_trans hnn a1)
  refine ⟨v, h', Nat.le_trans a1 b1, Nat.le_trans a2 b2, q2, fun p e s m args below meth c H locs cells slots ls mc ms B hR hl0 hL e1 e2 => ?_⟩
  subst hst
  have hMet := sp B.1 (h1.1 - h.1) (h1.2.1 - h.2.1) (by omega) (by omega)
  have hts := B.2.2.2.2.2.2.2.2.2.1
  obtain ⟨b0, hb0⟩ := B.1.2.2.2.1
  have hNw := va_Nw.warmM B.2.2.2.2.2.2.2.2.1 (va_Nw.of rfl (hb0 _ hl))
  obtain ⟨ow, y, cc, mL, ret⟩ := μ'
  dsimp only at hret
  subst hret
  refine g_run (va_runIN (Ts := lw_all) (As := av) (rest := st) ⟨B.2.1, B.2.2.1, B.2.2.2.2.2.1, B.2.2.2.2.2.2.1, hts⟩ hMet ⟨va_cnB n hts hG rfl rfl rfl hNw (hts _ hini) hM.1 ⟨Nat.le_refl _, by have := hM.2; show 8 + (mL + 11) + (64 * d + 24) ≤ 64 * (d + 1) + 24; dsimp only at this; omega⟩, hnm, hts _ hin⟩ ⟨fun a U g mk q => q, fun U hU hW => ⟨rfl, by rw [hU]; exact hR, State.WarmedH.trans B.2.2.2.2.2.2.2.2.1 hW⟩⟩ rfl hn hl0.1 rfl (lv_room hs) dg ⟨by show cells + (h1.1 - h.1) ≤ mc; omega, by show slots + (h1.2.1 - h.2.1) ≤ ms; omega⟩) hL (fun H1 locs1 hR1 hL1 => g p e s m args below meth c H1 locs1 _ _ ls mc ms B hR1 hl0 hL1 (by omega) (by omega))
theorem g_objInit {b : Nat} (hl : Cond.methodLink μ.1 idx Lib.objectInit ∈ lw_all) (hin : Cond.instanceMethod Lib.objectInit ∈ lw_all) (hco : Cond.code Lib.objectInit ⟨#[0xb1]⟩ 1 none ∈ lw_all) (hs : (st.map fun v => v.category).sum ≤ 8) (dg : decode μ.2.2.1 pc = .ok (.invokespecial idx, 3)) (kk : wp Δ (d + 1) μ (pc + 3) lv st h Q) : wp Δ (d + 1) μ pc lv (.ref b :: st) h Q := by
  refine kk.on fun v h' g p e s m args below meth c H locs cells slots ls mc ms B hR hl0 hL e1 e2 => ?_
  have hts := B.2.2.2.2.2.2.2.2.2.1
  exact W.objInit B.2.1 B.2.2.1 B.2.2.2.2.2.2.1 (hts _ hl) (hts _ hin) (hts _ hco) rfl (by rw [B.2.2.2.2.2.1]; exact hl0.1) rfl dg (by show 1 ≤ d + 1; omega) (by show 2 * 0 + (st.map fun v => v.category).sum + 12 ≤ 64 * (d + 1) + 24; omega) (g p e s m args below meth c H locs cells slots ls mc ms B hR hl0 hL e1 e2)
theorem g_ldcS {tx : String} {i : Nat} (ht : (μ.1, idx, tx, i) ∈ txs) (dg : decode μ.2.2.1 pc = .ok (.ldc idx, 2)) (kk : wp Δ d μ (pc + 2) lv (.ref (cT Δ i) :: st) h Q) : wp Δ d μ pc lv st h Q := by
  refine kk.on fun v h' g p e s m args below meth c H locs cells slots ls mc ms B hR hl0 hL e1 e2 => ?_
  exact va_ldcS (tx := tx) B.2.1 B.2.2.1 B.2.2.2.2.2.2.1 (vk_R.warm B.2.2.2.2.2.2.2.2.1 (B.1.2.2.2.2.1 _ ht)) dg (g p e s m args below meth c H locs cells slots ls mc ms B hR hl0 hL e1 e2)
theorem g_gets_aux {C n' d' : String} {x : Value} {s : State} {H : Heap} (hW : (cS Δ).WarmedH s.vm) (hR : Rl Δ h H) (hZ : va_Z C n' d' x (fun q => n0 Δ ≤ q) (cS Δ) (cS Δ).heap) : ∃ (cf : ClassId) (kf : Class) (fi : Nat) (f : Field) (a : Nat) (cell : Cell), s.fieldFound? C n' d' = some (cf, kf, fi, f) ∧ f.isStatic = true ∧ kf.init = .initialized ∧ kf.statics = some a ∧ H[a]? = some cell ∧ cell.vm.isStatics = true ∧ cell.slots[f.slot]? = some x := by
  obtain ⟨cf, kf, fi, f, a, cell, h1, h2, h3, h4, h5, h6, h7, h8⟩ := hZ.moved hW.alike
  exact ⟨cf, kf, fi, f, a, cell, h1, h2, h3, h4, by rw [hR.2.2.2 a (by omega)]; exact h5, h6, h7⟩
theorem g_gets {C nm ds : String} {x : Value} (hZ : okCx Δ → va_Z C nm ds x (fun q => n0 Δ ≤ q) (cS Δ) (cS Δ).heap) (hl : Cond.fieldLink μ.1 idx C nm ds ∈ lw_all) (dg : decode μ.2.2.1 pc = .ok (.getstatic idx, 3)) (kk : wp Δ d μ (pc + 3) lv (x :: st) h Q) : wp Δ d μ pc lv st h Q := by
  refine kk.on fun v h' g p e s m args below meth c H locs cells slots ls mc ms B hR hl0 hL e1 e2 => ?_
  obtain ⟨cf, kf, fi, f, a, cell, h1, h2, h3, h4, h5, h6, h7⟩ := g_gets_aux B.2.2.2.2.2.2.2.2.1 hR (hZ B.1)
  exact W.gets B.2.1 B.2.2.1 B.2.2.2.2.2.2.1 (B.2.2.2.2.2.2.2.2.2.1 _ hl) h1 h2 h3 h4 h5 (fun q => by rw [q] at h6; cases h6) h7 rfl dg (g p e s m args below meth c H locs cells slots ls mc ms B hR hl0 hL e1 e2)
end GC
