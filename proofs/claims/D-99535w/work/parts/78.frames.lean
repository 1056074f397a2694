/-! WORLDS THAT CHANGE: what is kept, how many cells and slots are made; rows over such worlds -/
def Fr (Δ : Cx) (W : Nat → Prop) (k s : Nat) (h h' : Hp) : Prop := (h.1 ≤ h'.1 ∧ h'.1 ≤ h.1 + k ∧ h.2.1 ≤ h'.2.1 ∧ h'.2.1 ≤ h.2.1 + s) ∧ ∀ b c, ce Δ h b = some c → ¬ W b → ce Δ h' b = some c
theorem Fr.refl {Δ : Cx} (W : Nat → Prop) (h : Hp) : Fr Δ W 0 0 h h := ⟨⟨Nat.le_refl _, Nat.le_refl _, Nat.le_refl _, Nat.le_refl _⟩, fun _ _ e _ => e⟩
theorem Fr.le {Δ : Cx} {W W' : Nat → Prop} {k s k' s' : Nat} {h h' : Hp} (F : Fr Δ W k s h h') (hk : k ≤ k') (hs : s ≤ s') (hW : ∀ b, b < h.1 → W b → W' b) : Fr Δ W' k' s' h h' := by
  obtain ⟨⟨f1, f2, f3, f4⟩, f5⟩ := F
  exact ⟨⟨f1, by omega, f3, by omega⟩, fun b c e n => f5 b c e (fun w => n (hW b (ce_lt e) w))⟩
theorem Fr.tr {Δ : Cx} {W W2 : Nat → Prop} {k s k2 s2 : Nat} {h h1 h2 : Hp} (F : Fr Δ W k s h h1) (F2 : Fr Δ W2 k2 s2 h1 h2) (hW : ∀ b, b < h.1 → W2 b → W b) : Fr Δ W (k + k2) (s + s2) h h2 := by
  obtain ⟨⟨f1, f2, f3, f4⟩, f5⟩ := F
  obtain ⟨⟨g1, g2, g3, g4⟩, g5⟩ := F2
  exact ⟨⟨by omega, by omega, by omega, by omega⟩, fun b c e n => g5 b c (f5 b c e n) (fun w => n (hW b (ce_lt e) w))⟩
theorem Fr.get {Δ : Cx} {W : Nat → Prop} {k s : Nat} {h h' : Hp} (F : Fr Δ W k s h h') {b : Nat} {c : Cel} (e : ce Δ h b = some c) (n : ¬ W b) : ce Δ h' b = some c := F.2 b c e n
theorem ce_ne {c : Nat → Option Cel} {a b : Nat} {x y : Cel} (ha : c a = some x) (hb : c b = some y) (h : x.1 ≠ y.1 ∨ x.2.1 ≠ y.2.1) : a ≠ b := by
  intro e
  subst e
  rw [ha] at hb
  have hb := Option.some.inj hb
  subst hb
  rcases h with h | h <;> exact h rfl
theorem wp_put {Δ : Cx} {d : Nat} {μ : Mi} {pc : Nat} {lv : List (Nat × Value)} {st : List Value} {h0 h : Hp} {Q : Option Value → Hp → Prop} {W : Nat → Prop} {k s a : Nat} {c0 c : Cel} (F : Fr Δ W k s h0 h) (hW : a < h0.1 → W a) (ha : ce Δ h a = some c0) (hn : n0 Δ ≤ a) (kk : ∀ h1, Fr Δ W k s h0 h1 → h1.1 = h.1 → ce Δ h1 a = some c → (∀ b x, ce Δ h b = some x → b ≠ a → ce Δ h1 b = some x) → wp Δ d μ pc lv st h1 Q) : wp Δ d μ pc lv st (hput h a c) Q := by
  refine kk _ ⟨F.1, fun b x e n => ?_⟩ rfl (ce_put (ce_lt ha) hn) (fun b x e n => by rw [ce_put_ne n]; exact e)
  rw [ce_put_ne (fun q => n (by rw [q]; exact hW (by rw [← q]; exact ce_lt e)))]
  exact F.2 b x e n
theorem wp_new {Δ : Cx} {d : Nat} {μ : Mi} {pc : Nat} {lv : List (Nat × Value)} {st : List Value} {h0 h : Hp} {Q : Option Value → Hp → Prop} {W : Nat → Prop} {k s n : Nat} {c : Cel} (F : Fr Δ W k s h0 h) (hn : n0 Δ ≤ h.1) (kk : ∀ h1, Fr Δ W (k + 1) (s + n) h0 h1 → h1.1 = h.1 + 1 → ce Δ h1 h.1 = some c → (∀ b x, ce Δ h b = some x → ce Δ h1 b = some x) → wp Δ d μ pc lv st h1 Q) : wp Δ d μ pc lv st (hnew h n c) Q := by
  obtain ⟨⟨f1, f2, f3, f4⟩, f5⟩ := F
  refine kk _ ⟨⟨?_, ?_, ?_, ?_⟩, fun b x e m => ce_new_old (f5 b x e m)⟩ rfl (ce_new hn) (fun b x e => ce_new_old e)
  · show h0.1 ≤ h.1 + 1; omega
  · show h.1 + 1 ≤ h0.1 + (k + 1); omega
  · show h0.2.1 ≤ h.2.1 + n; omega
  · show h.2.1 + n ≤ h0.2.1 + (s + n); omega
section GMI
variable {Δ : Cx} {d : Nat} {μ : Mi} {pc idx : Nat} {lv : List (Nat × Value)} {st : List Value} {h : Hp} {Q : Option Value → Hp → Prop}
theorem g_ldcM (hl : Cond.classLink μ.1 idx "[Ljava/lang/Object;" ∈ lw_all) (dg : decode μ.2.2.1 pc = .ok (.ldc idx, 2)) (kk : wp Δ d μ (pc + 2) lv (.ref (cT Δ 98) :: st) h Q) : wp Δ d μ pc lv st h Q := by
  refine kk.on fun v h' g p e s m args below meth c H locs cells slots ls mc ms B hR hl0 hL e1 e2 => ?_
  exact va_ldcM B.2.1 B.2.2.1 B.2.2.2.2.2.2.1 (B.2.2.2.2.2.2.2.2.2.1 _ hl) (B.1.2.2.2.2.2.2.moved B.2.2.2.2.2.2.2.2.1.alike) dg (g p e s m args below meth c H locs cells slots ls mc ms B hR hl0 hL e1 e2)
theorem g_getC {n a : Nat} {f : Nat → Value} (ha : ce Δ h a = some (103, n, f)) (hn0 : n0 Δ ≤ a) (hl : Cond.methodLink μ.1 idx ({ cls := "java/lang/Object", name := "getClass", desc := "()Ljava/lang/Class;" } : MethodName) ∈ lw_all) (hs : (st.map fun v => v.category).sum ≤ 8) (dg : decode μ.2.2.1 pc = .ok (.invokevirtual idx, 3)) (kk : wp Δ (d + 1) μ (pc + 3) lv (.ref (cT Δ 98) :: st) h Q) : wp Δ (d + 1) μ pc lv (.ref a :: st) h Q := by
  refine kk.at (Nat.le_refl _) (Nat.le_refl _) fun v h' _ w1 w2 g p e s m args below meth c H locs cells slots ls mc ms B hR hl0 hL e1 e2 => ?_
  have hts := B.2.2.2.2.2.2.2.2.2.1
  have hal := B.2.2.2.2.2.2.2.2.1.alike
  obtain ⟨cell, q1, q2, q3, q4, q5, q6, q7, q8, q9, q10⟩ := (hR.2.2.1 _ _ ha).arr (t := 3)
  obtain ⟨b0, hb0⟩ := B.1.2.2.2.1
  have hd := va_Dc.moved hal (va_Dc.of (hb0 _ q2381))
  have a2 := ((B.1.2.2.1 3 (by decide)).2).moved hal
  refine va_getC B.2.1 B.2.2.1 (by rw [B.2.2.2.2.2.1]; exact hl0.1.symm) B.2.2.2.2.2.2.1 (hts _ hl) hd.use (hts _ q2380) (hts _ q821) (hts _ q842) (B.1.2.2.2.2.2.2.moved hal) ⟨cell, q1, by rw [q4 hn0]; rfl, ?_⟩ (by show 1 ≤ d + 1; omega) (by show _ ≤ 64 * (d + 1) + 24; omega) dg (g p e s m args below meth c H locs cells slots ls mc ms B hR hl0 hL e1 e2)
  rw [q8 hn0]
  exact va_nmO a2 rfl
end GMI
/-- an ArrayList at L over an array of cap at E; its elements f i, all of tag tg -/
def AX (Δ : Cx) (c : Nat → Option Cel) (tg L E cap n : Nat) (f : Nat → Nat) : Prop := ∃ (mc : Int32) (g : Nat → Value), c L = some (14, 0, ob [.int mc, .ref E, .int (nI n)]) ∧ c E = some (103, cap, g) ∧ n ≤ cap ∧ cap ≤ 22 ∧ (∀ i, i < n → g i = .ref (f i) ∧ ∃ (n' : Nat) (f' : Nat → Value), c (f i) = some (tg, n', f')) ∧ n0 Δ ≤ L ∧ ((0 < cap ∧ n0 Δ ≤ E) ∨ (cap = 0 ∧ E = cT Δ 99))
theorem AX.al {Δ : Cx} {c : Nat → Option Cel} {tg L E cap n : Nat} {f : Nat → Nat} (h : AX Δ c tg L E cap n f) : AL c L n f := by
  obtain ⟨mc, g, h1, h2, h3, h4, h5, h6, h7⟩ := h
  exact ⟨E, cap, mc, g, h1, h2, h3, by omega, fun i hi => (h5 i hi).1⟩
